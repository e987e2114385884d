set_option maxRecDepth 100000
def wp_X0_isPerson (M : MM) (a0 : Nat) (x1 : Int32) (Post : Int32 → MM → Prop) : Prop :=
  wp_X0_in M x1 (8 : Int32) (fun r_2 M_1 => if r_2 = 0 then (Post (0 : Int32) M_1)
  else (∃ b_5, mgR M_1 a0 1 = some b_5 ∧ mkd M_1 b_5 = 3 ∧ ∃ b_8, mgR M_1 b_5 1 = some b_8 ∧ mkd M_1 b_8 = 104 ∧ vp_in x1 (mln M_1 b_8) ∧ ∃ b_12, mgR M_1 b_8 (ix_ x1) = some b_12 ∧ mkd M_1 b_12 = 5 ∧ if (mgI M_1 b_12 3) = 0 then (Post (0 : Int32) M_1)
  else (Post (1 : Int32) M_1)))
def wp_X0_isPlant (M : MM) (a0 : Nat) (x1 : Int32) (Post : Int32 → MM → Prop) : Prop :=
  wp_X0_in M x1 (4 : Int32) (fun r_2 M_1 => if r_2 = 0 then (Post (0 : Int32) M_1)
  else (∃ b_5, mgR M_1 a0 1 = some b_5 ∧ mkd M_1 b_5 = 3 ∧ ∃ b_8, mgR M_1 b_5 0 = some b_8 ∧ mkd M_1 b_8 = 103 ∧ vp_in x1 (mln M_1 b_8) ∧ ∃ b_12, mgR M_1 b_8 (ix_ x1) = some b_12 ∧ mkd M_1 b_12 = 4 ∧ if (mgI M_1 b_12 8) = 0 then (Post (0 : Int32) M_1)
  else (Post (1 : Int32) M_1)))
def wp_X17_init (M : MM) (a0 : Nat) (a1 : Nat) (x2 : Int32) (Post : MM → Prop) : Prop :=
  ∀ M_1, M_1 = msR M a0 6 (some a1) → ∀ b_5, b_5 = msz M_1 → ∀ M_7, M_7 = mnw M_1 100 84 → ∀ M_9, M_9 = msR M_7 a0 0 (some b_5) → ∀ M_11, M_11 = msI M_9 a0 1 x2 → Post M_11
def wp_X17_bad (M : MM) (a0 : Nat) (x1 : Int32) (x2 : Int32) (Post : MM → Prop) : Prop :=
  if (mgI M a0 4) ≤ 0 then (∀ M_2, M_2 = msI M a0 4 x1 → ∀ M_4, M_4 = msI M_2 a0 5 x2 → Post M_4)
  else (Post M)
def wp_X17_here (M : MM) (a0 : Nat) (Post : Int32 → MM → Prop) : Prop :=
  if (mgI M a0 1) ≤ (mgI M a0 2) then (Post (0 : Int32) M)
  else (∃ b_2, mgR M a0 6 = some b_2 ∧ mkd M b_2 = 1 ∧ ∃ b_5, mgR M b_2 4 = some b_5 ∧ mkd M b_5 = 102 ∧ vp_in (mgI M a0 2) (mln M b_5) ∧ Post ((mgI M b_5 (ix_ (mgI M a0 2))) &&& (255 : Int32)) M)
def wp_X17_isGood (M : MM) (a0 : Nat) (Post : Int32 → MM → Prop) : Prop :=
  if (mgI M a0 4) = 0 then (Post (1 : Int32) M)
  else (Post (0 : Int32) M)
def wp_X17_seesNumber (M : MM) (a0 : Nat) (Post : Int32 → MM → Prop) : Prop :=
  wp_X17_here M a0 (fun r_2 M_1 => if r_2 < (50 : Int32) then (Post (0 : Int32) M_1)
  else (wp_X17_here M_1 a0 (fun r_6 M_5 => if (55 : Int32) < r_6 then (Post (0 : Int32) M_5)
  else (Post (1 : Int32) M_5))))
def wp_X17_seesPerson (M : MM) (a0 : Nat) (Post : Int32 → MM → Prop) : Prop :=
  wp_X17_here M a0 (fun r_2 M_1 => if r_2 < (97 : Int32) then (Post (0 : Int32) M_1)
  else (wp_X17_here M_1 a0 (fun r_6 M_5 => if (105 : Int32) ≤ r_6 then (Post (0 : Int32) M_5)
  else (Post (1 : Int32) M_5))))
def wl_X17_days_146 (a0 : Nat) (x2 : Int32) (x3 : Int32) (X185 : MM → Prop) : Nat → MM → Int32 → Prop
  | 0, _, _ => False
  | n_ + 1, M, x4 =>
  if x2 ≤ x4 then (X185 M)
  else (wp_X17_isGood M a0 (fun r_24 M_23 => if r_24 = 0 then (X185 M_23)
  else (∃ b_27, mgR M_23 a0 0 = some b_27 ∧ mkd M_23 b_27 = 100 ∧ vp_in (mgI M_23 a0 3) (mln M_23 b_27) ∧ ∀ M_31, M_31 = msI M_23 b_27 (ix_ (mgI M_23 a0 3)) x3 → ∀ M_33, M_33 = msI M_31 a0 3 ((mgI M_31 a0 3) + (1 : Int32)) → ∀ x4_35, x4_35 = x4 + 1 → wl_X17_days_146 a0 x2 x3 X185 n_ M_33 x4_35)))
def wb_X17_days_133 (M : MM) (a0 : Nat) (x2 : Int32) (x3 : Int32) (Post : MM → Prop) : Prop :=
  ∀ M_20, M_20 = msI M a0 2 ((mgI M a0 2) + (1 : Int32)) → ∃ n_37, wl_X17_days_146 a0 x2 x3
    (fun (M_38 : MM) => Post M_38) n_37 M_20 (0 : Int32)
def wb_X17_days_99 (M : MM) (a0 : Nat) (x2 : Int32) (xs0 : Int32) (Post : MM → Prop) : Prop :=
  wp_X17_isGood M a0 (fun r_17 M_16 => if r_17 = 0 then (wb_X17_days_133 M_16 a0 x2 xs0 Post)
  else (if xs0 = (-1 : Int32) then (wb_X17_days_133 M_16 a0 x2 xs0 Post)
  else (∃ b_41, mgR M_16 a0 6 = some b_41 ∧ mkd M_16 b_41 = 1 ∧ wp_X0_isPerson M_16 b_41 xs0 (fun r_45 M_44 => if r_45 = 0 then (wp_X17_bad M_44 a0 (7 : Int32) (mgI M_44 a0 2) (fun M_48 => wb_X17_days_133 M_48 a0 x2 xs0 Post))
  else (wb_X17_days_133 M_44 a0 x2 xs0 Post)))))
def wb_X17_days_79 (M : MM) (a0 : Nat) (x2 : Int32) (Post : MM → Prop) : Prop :=
  wp_X17_here M a0 (fun r_10 M_9 => if r_10 = (46 : Int32) then (wb_X17_days_99 M_9 a0 x2 (-1 : Int32) Post)
  else (wp_X17_here M_9 a0 (fun r_14 M_13 => wb_X17_days_99 M_13 a0 x2 (r_14 - (97 : Int32)) Post)))
def wb_X17_days_47 (M : MM) (a0 : Nat) (x2 : Int32) (Post : MM → Prop) : Prop :=
  wp_X17_isGood M a0 (fun r_6 M_5 => if r_6 = 0 then (wb_X17_days_79 M_5 a0 x2 Post)
  else (wp_X17_here M_5 a0 (fun r_52 M_51 => if r_52 = (46 : Int32) then (wb_X17_days_79 M_51 a0 x2 Post)
  else (wp_X17_seesPerson M_51 a0 (fun r_56 M_55 => if r_56 = 0 then (wp_X17_bad M_55 a0 (1 : Int32) (mgI M_55 a0 2) (fun M_59 => wb_X17_days_79 M_59 a0 x2 Post))
  else (wb_X17_days_79 M_55 a0 x2 Post))))))
def wb_X17_days_37 (M : MM) (a0 : Nat) (x2 : Int32) (Post : MM → Prop) : Prop :=
  ∀ M_68, M_68 = msI M a0 2 ((mgI M a0 2) + (1 : Int32)) → wb_X17_days_47 M_68 a0 x2 Post
def wp_X17_days (M : MM) (a0 : Nat) (x1 : Int32) (Post : MM → Prop) : Prop :=
  wp_X17_seesNumber M a0 (fun r_2 M_1 => if r_2 = 0 then (wb_X17_days_47 M_1 a0 (1 : Int32) Post)
  else (wp_X17_here M_1 a0 (fun r_63 M_62 => ∀ x2_65, x2_65 = r_63 - (48 : Int32) → if ((mgI M_62 a0 3) + x2_65) ≤ x1 then (wb_X17_days_37 M_62 a0 x2_65 Post)
  else (wp_X17_bad M_62 a0 (6 : Int32) (mgI M_62 a0 2) (fun M_70 => wb_X17_days_37 M_70 a0 x2_65 Post)))))
def wp_X17_seesDays (M : MM) (a0 : Nat) (Post : Int32 → MM → Prop) : Prop :=
  wp_X17_here M a0 (fun r_2 M_1 => if r_2 = (46 : Int32) then (Post (1 : Int32) M_1)
  else (wp_X17_seesPerson M_1 a0 (fun r_6 M_5 => if r_6 = 0 then (wp_X17_seesNumber M_5 a0 (fun r_10 M_9 => if r_10 = 0 then (Post (0 : Int32) M_9)
  else (Post (1 : Int32) M_9)))
  else (Post (1 : Int32) M_5))))
def wl_X17_week_56 (a0 : Nat) (x1 : Int32) (X79 : MM → Prop) : Nat → MM → Prop
  | 0, _ => False
  | n_ + 1, M =>
  wp_X17_isGood M a0 (fun r_12 M_11 => if r_12 = 0 then (X79 M_11)
  else (if x1 ≤ (mgI M_11 a0 3) then (X79 M_11)
  else (wp_X17_days M_11 a0 x1 (fun M_16 => wl_X17_week_56 a0 x1 X79 n_ M_16))))
def wb_X17_week_79 (M : MM) (a0 : Nat) (Post : MM → Prop) : Prop :=
  wp_X17_isGood M a0 (fun r_23 M_22 => if r_23 = 0 then (Post M_22)
  else (wp_X17_seesDays M_22 a0 (fun r_27 M_26 => if r_27 = 0 then (Post M_26)
  else (wp_X17_bad M_26 a0 (6 : Int32) (mgI M_26 a0 2) (fun M_30 => Post M_30)))))
def wb_X17_week_25 (M : MM) (a0 : Nat) (Post : MM → Prop) : Prop :=
  ∀ x1_5, x1_5 = (mgI M a0 3) + (7 : Int32) → wp_X17_isGood M a0 (fun r_8 M_7 => if r_8 = 0 then (∃ n_19, wl_X17_week_56 a0 x1_5
    (fun (M_20 : MM) => wb_X17_week_79 M_20 a0 Post) n_19 M_7)
  else (wp_X17_seesDays M_7 a0 (fun r_34 M_33 => if r_34 = 0 then (wp_X17_bad M_33 a0 (1 : Int32) (mgI M_33 a0 2) (fun M_40 => ∃ n_43, wl_X17_week_56 a0 x1_5
    (fun (M_44 : MM) => wb_X17_week_79 M_44 a0 Post) n_43 M_40))
  else (∃ n_37, wl_X17_week_56 a0 x1_5
    (fun (M_38 : MM) => wb_X17_week_79 M_38 a0 Post) n_37 M_33))))
def wp_X17_week (M : MM) (a0 : Nat) (Post : MM → Prop) : Prop :=
  wp_X17_seesDays M a0 (fun r_2 M_1 => if r_2 = 0 then (wb_X17_week_25 M_1 a0 Post)
  else (if (mgI M_1 a0 3) = (84 : Int32) then (wp_X17_bad M_1 a0 (4 : Int32) (mgI M_1 a0 2) (fun M_47 => wb_X17_week_25 M_47 a0 Post))
  else (wb_X17_week_25 M_1 a0 Post)))
def wb_X17_read_40 (M : MM) (a0 : Nat) (R : MM → Prop) (X64 : MM → Prop) : Prop :=
  ∀ M_13, M_13 = msI M a0 2 ((mgI M a0 2) + (1 : Int32)) → wp_X17_isGood M_13 a0 (fun r_16 M_15 => if r_16 = 0 then (R M_15)
  else (wp_X17_week M_15 a0 (fun M_19 => R M_19)))
def wl_X17_read_4 (a0 : Nat) (X64 : MM → Prop) : Nat → MM → Prop
  | 0, _ => False
  | n_ + 1, M =>
  wp_X17_isGood M a0 (fun r_5 M_4 => if r_5 = 0 then (X64 M_4)
  else (if (mgI M_4 a0 1) ≤ (mgI M_4 a0 2) then (X64 M_4)
  else (wp_X17_here M_4 a0 (fun r_10 M_9 => if r_10 = (47 : Int32) then (wb_X17_read_40 M_9 a0 (wl_X17_read_4 a0 X64 n_) X64)
  else (wp_X17_bad M_9 a0 (1 : Int32) (mgI M_9 a0 2) (fun M_22 => wb_X17_read_40 M_22 a0 (wl_X17_read_4 a0 X64 n_) X64))))))
def wb_X17_read_64 (M : MM) (a0 : Nat) (Post : Int32 → MM → Prop) : Prop :=
  wp_X17_isGood M a0 (fun r_29 M_28 => if r_29 = 0 then (Post (((-1000 : Int32) * (mgI M_28 a0 4)) - (mgI M_28 a0 5)) M_28)
  else (Post (mgI M_28 a0 3) M_28))
def wp_X17_read (M : MM) (a0 : Nat) (Post : Int32 → MM → Prop) : Prop :=
  wp_X17_week M a0 (fun M_1 => ∃ n_25, wl_X17_read_4 a0
    (fun (M_26 : MM) => wb_X17_read_64 M_26 a0 Post) n_25 M_1)
theorem hd_X0_isPerson : mHd yX0_isPerson 1 := ⟨by decide, by decide, by decide +kernel⟩
theorem hd_X0_isPlant : mHd yX0_isPlant 1 := ⟨by decide, by decide, by decide +kernel⟩
set_option maxHeartbeats 4000000 in
theorem S_X0_isPerson {D : DD} {l : Launch} {M : MM} {a0 : Nat} {x1 : Int32} {Post : Int32 → MM → Prop} (k_a0 : mkd M a0 = 1) (h : wp_X0_isPerson M a0 x1 Post) : mMet D l yX0_isPerson cX0_isPerson 2 ((some .boolean)) { frames := 1, cells := 0, slots := 0, locals := 21 } M [.ref a0, .int x1] (pI_ Post) := by
  refine m_of2 [(0, .ref a0), (1, .int x1)] (by decide +kernel) (Nat.le_of_ble_eq_true rfl) rfl (fun E hED hEl C hE => ?_)
  subst hED
  subst hEl
  unfold wp_X0_isPerson at h
  refine r_iload_n C dX0_isPerson_0 (pc' := 1) rfl (j := 1) rfl ?_
  refine r_bipush C dX0_isPerson_1 (pc' := 3) rfl (v := 8) rfl ?_
  refine r_callSi (As := [.int x1, .int (8 : Int32)]) (rest := []) C (S_X0_in h) (lw_S q459 q460 q105 q461) hd_X0_in rfl rfl (Nat.le_of_ble_eq_true rfl) (Nat.le_of_ble_eq_true rfl) (Nat.le_of_ble_eq_true rfl) rfl rfl (Nat.le_of_ble_eq_true rfl) (Nat.le_of_ble_eq_true rfl) dX0_isPerson_3 (pc' := 6) rfl (fun r_2 M_1 h m_3 => ?_)
  refine r_if_eq C dX0_isPerson_6 (pc' := 9) rfl (tgt := 28) (by decide) (fun c_4 => ?_) (fun c_4 => ?_)
  · have h := it_t h c_4
    refine r_iconst C dX0_isPerson_28 (pc' := 29) rfl (v := 0) rfl ?_
    exact r_zret C hE (Or.inl rfl) (Nat.le_of_ble_eq_true rfl) (Nat.le_of_ble_eq_true rfl) dX0_isPerson_29 ⟨_, rfl, h⟩
  · have h := it_f h c_4
    refine r_aload_n C dX0_isPerson_9 (pc' := 10) rfl (j := 0) rfl ?_
    refine r_getf C (Cn := RX0) (T := TX0) 1 (mMo.kd m_3 k_a0 (by decide)) (by decide) vc_X0 in_X0 (by decide) q351 dX0_isPerson_10 (pc' := 13) rfl (v := va_rf (mgR M_1 a0 1)) rfl ?_
    obtain ⟨b_5, e_6, k_7, h⟩ := h
    refine r_ref [] e_6 ?_
    refine r_getfN C (Cn := RX3) (T := TX3) 1 k_7 (by decide) vc_X3 in_X3 (by decide) (List.mem_of_getElem? (i := 2) rfl) dX0_isPerson_13 (pc' := 16) rfl (v := va_rf (mgR M_1 b_5 1)) rfl ?_
    obtain ⟨b_8, e_9, k_10, h⟩ := h
    refine r_ref [] e_9 ?_
    refine r_iload_n C dX0_isPerson_16 (pc' := 17) rfl (j := 1) rfl ?_
    obtain ⟨c_11, h⟩ := h
    refine r_aald C (t := 4) (j := (ix_ x1)) k_10 (by decide) rfl rfl c_11 rfl dX0_isPerson_17 (pc' := 18) rfl ?_
    obtain ⟨b_12, e_13, k_14, h⟩ := h
    refine r_ref [] e_13 ?_
    refine r_getfN C (Cn := RX5) (T := TX5) 3 k_14 (by decide) vc_X5 in_X5 (by decide) (List.mem_of_getElem? (i := 3) rfl) dX0_isPerson_18 (pc' := 21) rfl (v := .int (mgI M_1 b_12 3)) rfl ?_
    refine r_if_eq C dX0_isPerson_21 (pc' := 24) rfl (tgt := 28) (by decide) (fun c_15 => ?_) (fun c_15 => ?_)
    · have h := it_t h c_15
      refine r_iconst C dX0_isPerson_28 (pc' := 29) rfl (v := 0) rfl ?_
      exact r_zret C hE (Or.inl rfl) (Nat.le_of_ble_eq_true rfl) (Nat.le_of_ble_eq_true rfl) dX0_isPerson_29 ⟨_, rfl, h⟩
    · have h := it_f h c_15
      refine r_iconst C dX0_isPerson_24 (pc' := 25) rfl (v := 1) rfl ?_
      refine r_goto C dX0_isPerson_25 (tgt := 29) (by decide) ?_
      exact r_zret C hE (Or.inr rfl) (Nat.le_of_ble_eq_true rfl) (Nat.le_of_ble_eq_true rfl) dX0_isPerson_29 ⟨_, rfl, h⟩
set_option maxHeartbeats 4000000 in
theorem S_X0_isPlant {D : DD} {l : Launch} {M : MM} {a0 : Nat} {x1 : Int32} {Post : Int32 → MM → Prop} (k_a0 : mkd M a0 = 1) (h : wp_X0_isPlant M a0 x1 Post) : mMet D l yX0_isPlant cX0_isPlant 2 ((some .boolean)) { frames := 1, cells := 0, slots := 0, locals := 21 } M [.ref a0, .int x1] (pI_ Post) := by
  refine m_of2 [(0, .ref a0), (1, .int x1)] (by decide +kernel) (Nat.le_of_ble_eq_true rfl) rfl (fun E hED hEl C hE => ?_)
  subst hED
  subst hEl
  unfold wp_X0_isPlant at h
  refine r_iload_n C dX0_isPlant_0 (pc' := 1) rfl (j := 1) rfl ?_
  refine r_iconst C dX0_isPlant_1 (pc' := 2) rfl (v := 4) rfl ?_
  refine r_callSi (As := [.int x1, .int (4 : Int32)]) (rest := []) C (S_X0_in h) (lw_S q459 q460 q105 q461) hd_X0_in rfl rfl (Nat.le_of_ble_eq_true rfl) (Nat.le_of_ble_eq_true rfl) (Nat.le_of_ble_eq_true rfl) rfl rfl (Nat.le_of_ble_eq_true rfl) (Nat.le_of_ble_eq_true rfl) dX0_isPlant_2 (pc' := 5) rfl (fun r_2 M_1 h m_3 => ?_)
  refine r_if_eq C dX0_isPlant_5 (pc' := 8) rfl (tgt := 27) (by decide) (fun c_4 => ?_) (fun c_4 => ?_)
  · have h := it_t h c_4
    refine r_iconst C dX0_isPlant_27 (pc' := 28) rfl (v := 0) rfl ?_
    exact r_zret C hE (Or.inl rfl) (Nat.le_of_ble_eq_true rfl) (Nat.le_of_ble_eq_true rfl) dX0_isPlant_28 ⟨_, rfl, h⟩
  · have h := it_f h c_4
    refine r_aload_n C dX0_isPlant_8 (pc' := 9) rfl (j := 0) rfl ?_
    refine r_getf C (Cn := RX0) (T := TX0) 1 (mMo.kd m_3 k_a0 (by decide)) (by decide) vc_X0 in_X0 (by decide) q351 dX0_isPlant_9 (pc' := 12) rfl (v := va_rf (mgR M_1 a0 1)) rfl ?_
    obtain ⟨b_5, e_6, k_7, h⟩ := h
    refine r_ref [] e_6 ?_
    refine r_getfN C (Cn := RX3) (T := TX3) 0 k_7 (by decide) vc_X3 in_X3 (by decide) (List.mem_of_getElem? (i := 0) rfl) dX0_isPlant_12 (pc' := 15) rfl (v := va_rf (mgR M_1 b_5 0)) rfl ?_
    obtain ⟨b_8, e_9, k_10, h⟩ := h
    refine r_ref [] e_9 ?_
    refine r_iload_n C dX0_isPlant_15 (pc' := 16) rfl (j := 1) rfl ?_
    obtain ⟨c_11, h⟩ := h
    refine r_aald C (t := 3) (j := (ix_ x1)) k_10 (by decide) rfl rfl c_11 rfl dX0_isPlant_16 (pc' := 17) rfl ?_
    obtain ⟨b_12, e_13, k_14, h⟩ := h
    refine r_ref [] e_13 ?_
    refine r_getfN C (Cn := RX4) (T := TX4) 8 k_14 (by decide) vc_X4 in_X4 (by decide) (List.mem_of_getElem? (i := 1) rfl) dX0_isPlant_17 (pc' := 20) rfl (v := .int (mgI M_1 b_12 8)) rfl ?_
    refine r_if_eq C dX0_isPlant_20 (pc' := 23) rfl (tgt := 27) (by decide) (fun c_15 => ?_) (fun c_15 => ?_)
    · have h := it_t h c_15
      refine r_iconst C dX0_isPlant_27 (pc' := 28) rfl (v := 0) rfl ?_
      exact r_zret C hE (Or.inl rfl) (Nat.le_of_ble_eq_true rfl) (Nat.le_of_ble_eq_true rfl) dX0_isPlant_28 ⟨_, rfl, h⟩
    · have h := it_f h c_15
      refine r_iconst C dX0_isPlant_23 (pc' := 24) rfl (v := 1) rfl ?_
      refine r_goto C dX0_isPlant_24 (tgt := 28) (by decide) ?_
      exact r_zret C hE (Or.inr rfl) (Nat.le_of_ble_eq_true rfl) (Nat.le_of_ble_eq_true rfl) dX0_isPlant_28 ⟨_, rfl, h⟩
theorem hd_X17_init : mHd yX17_init 2 := ⟨by decide, by decide, by decide +kernel⟩
theorem hd_X17_bad : mHd yX17_bad 2 := ⟨by decide, by decide, by decide +kernel⟩
theorem hd_X17_here : mHd yX17_here 0 := ⟨by decide, by decide, by decide +kernel⟩
theorem hd_X17_isGood : mHd yX17_isGood 0 := ⟨by decide, by decide, by decide +kernel⟩
theorem hd_X17_seesNumber : mHd yX17_seesNumber 0 := ⟨by decide, by decide, by decide +kernel⟩
theorem hd_X17_seesPerson : mHd yX17_seesPerson 0 := ⟨by decide, by decide, by decide +kernel⟩
theorem hd_X17_days : mHd yX17_days 1 := ⟨by decide, by decide, by decide +kernel⟩
theorem hd_X17_seesDays : mHd yX17_seesDays 0 := ⟨by decide, by decide, by decide +kernel⟩
theorem hd_X17_week : mHd yX17_week 0 := ⟨by decide, by decide, by decide +kernel⟩
theorem hd_X17_read : mHd yX17_read 0 := ⟨by decide, by decide, by decide +kernel⟩
set_option maxHeartbeats 4000000 in
theorem S_X17_init {D : DD} {l : Launch} {M : MM} {a0 : Nat} {a1 : Nat} {x2 : Int32} {Post : MM → Prop} (k_a0 : mkd M a0 = 15) (k_a1 : mkd M a1 = 1) (h : wp_X17_init M a0 a1 x2 Post) : mMet D l yX17_init cX17_init 3 (none) { frames := 1, cells := 1, slots := 84, locals := 12 } M [.ref a0, .ref a1, .int x2] (pV_ Post) := by
  refine m_of2 [(0, .ref a0), (1, .ref a1), (2, .int x2)] (by decide +kernel) (Nat.le_of_ble_eq_true rfl) rfl (fun E hED hEl C hE => ?_)
  subst hED
  subst hEl
  unfold wp_X17_init at h
  refine r_aload_n C dX17_init_0 (pc' := 1) rfl (j := 0) rfl ?_
  refine r_aload_n C dX17_init_1 (pc' := 2) rfl (j := 1) rfl ?_
  obtain ⟨M_1, e_2, h⟩ := bn_ h
  refine r_putRF C (Cn := RX17) (T := TX17) (x := (some a1)) tyX17 6 k_a0 (by decide) vc_X17 in_X17 tyX17_ok nmX17 (by decide) q1088 rfl rfl rfl rfl dX17_init_2 (pc' := 5) rfl (nO_ _) (fO_ _) M_1 e_2 ?_
  refine r_aload_n C dX17_init_5 (pc' := 6) rfl (j := 0) rfl ?_
  refine r_objInit C (a := a0) q1079 q136 q137 (Nat.le_of_ble_eq_true rfl) (Nat.le_of_ble_eq_true rfl) dX17_init_6 (pc' := 9) rfl ?_
  refine r_aload_n C dX17_init_9 (pc' := 10) rfl (j := 0) rfl ?_
  refine r_bipush C dX17_init_10 (pc' := 12) rfl (v := 84) rfl ?_
  obtain ⟨b_5, e_6, h⟩ := bn_ h
  obtain ⟨M_7, e_8, h⟩ := bn_ h
  refine r_newI C 84 (by decide) (by decide) (by decide) q255 (Nat.le_of_ble_eq_true rfl) (Nat.le_of_ble_eq_true rfl) dX17_init_12 (pc' := 14) rfl b_5 e_6 M_7 e_8 (fun m_3 k_4 => ?_)
  obtain ⟨M_9, e_10, h⟩ := bn_ h
  refine r_putRF C (Cn := RX17) (T := TX17) (x := (some b_5)) tyX17 0 (mMo.kd m_3 (mMo.kd (mo_R e_2) k_a0 (by decide)) (by decide)) (by decide) vc_X17 in_X17 tyX17_ok nmX17 (by decide) q1080 rfl rfl rfl rfl dX17_init_14 (pc' := 17) rfl (nA_ _) (fA_ _) M_9 e_10 ?_
  refine r_aload_n C dX17_init_17 (pc' := 18) rfl (j := 0) rfl ?_
  refine r_iload_n C dX17_init_18 (pc' := 19) rfl (j := 2) rfl ?_
  obtain ⟨M_11, e_12, h⟩ := bn_ h
  refine r_putIF C (Cn := RX17) (T := TX17) tyX17 1 (mMo.kd (mo_R e_10) (mMo.kd m_3 (mMo.kd (mo_R e_2) k_a0 (by decide)) (by decide)) (by decide)) (by decide) vc_X17 in_X17 tyX17_ok nmX17 (by decide) q1082 rfl rfl rfl rfl dX17_init_19 (pc' := 22) rfl rfl rfl M_11 e_12 ?_
  exact r_vret C hE (Nat.le_of_ble_eq_true rfl) (Nat.le_of_ble_eq_true rfl) dX17_init_22 ⟨rfl, h⟩
set_option maxHeartbeats 4000000 in
theorem S_X17_bad {D : DD} {l : Launch} {M : MM} {a0 : Nat} {x1 : Int32} {x2 : Int32} {Post : MM → Prop} (k_a0 : mkd M a0 = 15) (h : wp_X17_bad M a0 x1 x2 Post) : mMet D l yX17_bad cX17_bad 3 (none) { frames := 0, cells := 0, slots := 0, locals := 0 } M [.ref a0, .int x1, .int x2] (pV_ Post) := by
  refine m_of2 [(0, .ref a0), (1, .int x1), (2, .int x2)] (by decide +kernel) (Nat.le_of_ble_eq_true rfl) rfl (fun E hED hEl C hE => ?_)
  subst hED
  subst hEl
  unfold wp_X17_bad at h
  refine r_aload_n C dX17_bad_0 (pc' := 1) rfl (j := 0) rfl ?_
  refine r_getf C (Cn := RX17) (T := TX17) 4 k_a0 (by decide) vc_X17 in_X17 (by decide) q1086 dX17_bad_1 (pc' := 4) rfl (v := .int (mgI M a0 4)) rfl ?_
  refine r_if_le C dX17_bad_4 (pc' := 7) rfl (tgt := 8) (by decide) (fun c_1 => ?_) (fun c_1 => ?_)
  · have h := it_t h c_1
    refine r_aload_n C dX17_bad_8 (pc' := 9) rfl (j := 0) rfl ?_
    refine r_iload_n C dX17_bad_9 (pc' := 10) rfl (j := 1) rfl ?_
    obtain ⟨M_2, e_3, h⟩ := bn_ h
    refine r_putI C (Cn := RX17) (T := TX17) tyX17 4 k_a0 (by decide) vc_X17 in_X17 tyX17_ok nmX17 (by decide) q1086 rfl rfl dX17_bad_10 (pc' := 13) rfl rfl rfl M_2 e_3 ?_
    refine r_aload_n C dX17_bad_13 (pc' := 14) rfl (j := 0) rfl ?_
    refine r_iload_n C dX17_bad_14 (pc' := 15) rfl (j := 2) rfl ?_
    obtain ⟨M_4, e_5, h⟩ := bn_ h
    refine r_putI C (Cn := RX17) (T := TX17) tyX17 5 (mMo.kd (mo_I e_3) k_a0 (by decide)) (by decide) vc_X17 in_X17 tyX17_ok nmX17 (by decide) q1087 rfl rfl dX17_bad_15 (pc' := 18) rfl rfl rfl M_4 e_5 ?_
    exact r_vret C hE (Nat.le_of_ble_eq_true rfl) (Nat.le_of_ble_eq_true rfl) dX17_bad_18 ⟨rfl, h⟩
  · have h := it_f h c_1
    exact r_vret C hE (Nat.le_of_ble_eq_true rfl) (Nat.le_of_ble_eq_true rfl) dX17_bad_7 ⟨rfl, h⟩
set_option maxHeartbeats 4000000 in
theorem S_X17_here {D : DD} {l : Launch} {M : MM} {a0 : Nat} {Post : Int32 → MM → Prop} (k_a0 : mkd M a0 = 15) (h : wp_X17_here M a0 Post) : mMet D l yX17_here cX17_here 1 ((some .int)) { frames := 0, cells := 0, slots := 0, locals := 0 } M [.ref a0] (pI_ Post) := by
  refine m_of2 [(0, .ref a0)] (by decide +kernel) (Nat.le_of_ble_eq_true rfl) rfl (fun E hED hEl C hE => ?_)
  subst hED
  subst hEl
  unfold wp_X17_here at h
  refine r_aload_n C dX17_here_0 (pc' := 1) rfl (j := 0) rfl ?_
  refine r_getf C (Cn := RX17) (T := TX17) 2 k_a0 (by decide) vc_X17 in_X17 (by decide) q1083 dX17_here_1 (pc' := 4) rfl (v := .int (mgI M a0 2)) rfl ?_
  refine r_aload_n C dX17_here_4 (pc' := 5) rfl (j := 0) rfl ?_
  refine r_getf C (Cn := RX17) (T := TX17) 1 k_a0 (by decide) vc_X17 in_X17 (by decide) q1082 dX17_here_5 (pc' := 8) rfl (v := .int (mgI M a0 1)) rfl ?_
  refine r_icmp_ge C dX17_here_8 (pc' := 11) rfl (tgt := 30) (by decide) (fun c_1 => ?_) (fun c_1 => ?_)
  · have h := it_t h c_1
    refine r_iconst C dX17_here_30 (pc' := 31) rfl (v := 0) rfl ?_
    exact r_iret C hE (Nat.le_of_ble_eq_true rfl) (Nat.le_of_ble_eq_true rfl) dX17_here_31 ⟨_, rfl, h⟩
  · have h := it_f h c_1
    refine r_aload_n C dX17_here_11 (pc' := 12) rfl (j := 0) rfl ?_
    refine r_getf C (Cn := RX17) (T := TX17) 6 k_a0 (by decide) vc_X17 in_X17 (by decide) q1088 dX17_here_12 (pc' := 15) rfl (v := va_rf (mgR M a0 6)) rfl ?_
    obtain ⟨b_2, e_3, k_4, h⟩ := h
    refine r_ref [] e_3 ?_
    refine r_getfN C (Cn := RX0) (T := TX0) 4 k_4 (by decide) vc_X0 in_X0 (by decide) (List.mem_of_getElem? (i := 25) rfl) dX17_here_15 (pc' := 18) rfl (v := va_rf (mgR M b_2 4)) rfl ?_
    obtain ⟨b_5, e_6, k_7, h⟩ := h
    refine r_ref [] e_6 ?_
    refine r_aload_n C dX17_here_18 (pc' := 19) rfl (j := 0) rfl ?_
    refine r_getf C (Cn := RX17) (T := TX17) 2 k_a0 (by decide) vc_X17 in_X17 (by decide) q1083 dX17_here_19 (pc' := 22) rfl (v := .int (mgI M a0 2)) rfl ?_
    obtain ⟨c_8, h⟩ := h
    refine r_bald C (j := (ix_ (mgI M a0 2))) k_7 c_8 rfl dX17_here_22 (pc' := 23) rfl ?_
    refine r_sipush C dX17_here_23 (pc' := 26) rfl (v := 255) rfl ?_
    refine r_iand C dX17_here_26 (pc' := 27) rfl ?_
    refine r_goto C dX17_here_27 (tgt := 31) (by decide) ?_
    exact r_iret C hE (Nat.le_of_ble_eq_true rfl) (Nat.le_of_ble_eq_true rfl) dX17_here_31 ⟨_, rfl, h⟩
set_option maxHeartbeats 4000000 in
theorem S_X17_isGood {D : DD} {l : Launch} {M : MM} {a0 : Nat} {Post : Int32 → MM → Prop} (k_a0 : mkd M a0 = 15) (h : wp_X17_isGood M a0 Post) : mMet D l yX17_isGood cX17_isGood 1 ((some .boolean)) { frames := 0, cells := 0, slots := 0, locals := 0 } M [.ref a0] (pI_ Post) := by
  refine m_of2 [(0, .ref a0)] (by decide +kernel) (Nat.le_of_ble_eq_true rfl) rfl (fun E hED hEl C hE => ?_)
  subst hED
  subst hEl
  unfold wp_X17_isGood at h
  refine r_aload_n C dX17_isGood_0 (pc' := 1) rfl (j := 0) rfl ?_
  refine r_getf C (Cn := RX17) (T := TX17) 4 k_a0 (by decide) vc_X17 in_X17 (by decide) q1086 dX17_isGood_1 (pc' := 4) rfl (v := .int (mgI M a0 4)) rfl ?_
  refine r_if_ne C dX17_isGood_4 (pc' := 7) rfl (tgt := 11) (by decide) (fun c_1 => ?_) (fun c_1 => ?_)
  · have h := it_f h c_1
    refine r_iconst C dX17_isGood_11 (pc' := 12) rfl (v := 0) rfl ?_
    exact r_zret C hE (Or.inl rfl) (Nat.le_of_ble_eq_true rfl) (Nat.le_of_ble_eq_true rfl) dX17_isGood_12 ⟨_, rfl, h⟩
  · have h := it_t h c_1
    refine r_iconst C dX17_isGood_7 (pc' := 8) rfl (v := 1) rfl ?_
    refine r_goto C dX17_isGood_8 (tgt := 12) (by decide) ?_
    exact r_zret C hE (Or.inr rfl) (Nat.le_of_ble_eq_true rfl) (Nat.le_of_ble_eq_true rfl) dX17_isGood_12 ⟨_, rfl, h⟩
set_option maxHeartbeats 4000000 in
theorem S_X17_seesNumber {D : DD} {l : Launch} {M : MM} {a0 : Nat} {Post : Int32 → MM → Prop} (k_a0 : mkd M a0 = 15) (h : wp_X17_seesNumber M a0 Post) : mMet D l yX17_seesNumber cX17_seesNumber 1 ((some .boolean)) { frames := 1, cells := 0, slots := 0, locals := 20 } M [.ref a0] (pI_ Post) := by
  refine m_of2 [(0, .ref a0)] (by decide +kernel) (Nat.le_of_ble_eq_true rfl) rfl (fun E hED hEl C hE => ?_)
  subst hED
  subst hEl
  unfold wp_X17_seesNumber at h
  refine r_aload_n C dX17_seesNumber_0 (pc' := 1) rfl (j := 0) rfl ?_
  refine r_callVi (As := []) (rest := []) (Cn := RX17) (T := TX17) C k_a0 (by decide) vc_X17 (S_X17_here k_a0 h) (lw_V q1116 q1118 qs35 q129 q1119) rfl hd_X17_here rfl rfl (Nat.le_of_ble_eq_true rfl) (Nat.le_of_ble_eq_true rfl) (Nat.le_of_ble_eq_true rfl) rfl rfl (Nat.le_of_ble_eq_true rfl) (Nat.le_of_ble_eq_true rfl) dX17_seesNumber_1 (pc' := 4) rfl (fun r_2 M_1 h m_3 => ?_)
  refine r_bipush C dX17_seesNumber_4 (pc' := 6) rfl (v := 50) rfl ?_
  refine r_icmp_lt C dX17_seesNumber_6 (pc' := 9) rfl (tgt := 22) (by decide) (fun c_4 => ?_) (fun c_4 => ?_)
  · have h := it_t h c_4
    refine r_iconst C dX17_seesNumber_22 (pc' := 23) rfl (v := 0) rfl ?_
    exact r_zret C hE (Or.inl rfl) (Nat.le_of_ble_eq_true rfl) (Nat.le_of_ble_eq_true rfl) dX17_seesNumber_23 ⟨_, rfl, h⟩
  · have h := it_f h c_4
    refine r_aload_n C dX17_seesNumber_9 (pc' := 10) rfl (j := 0) rfl ?_
    refine r_callVi (As := []) (rest := []) (Cn := RX17) (T := TX17) C (mMo.kd m_3 k_a0 (by decide)) (by decide) vc_X17 (S_X17_here (mMo.kd m_3 k_a0 (by decide)) h) (lw_V q1116 q1118 qs35 q129 q1119) rfl hd_X17_here rfl rfl (Nat.le_of_ble_eq_true rfl) (Nat.le_of_ble_eq_true rfl) (Nat.le_of_ble_eq_true rfl) rfl rfl (Nat.le_of_ble_eq_true rfl) (Nat.le_of_ble_eq_true rfl) dX17_seesNumber_10 (pc' := 13) rfl (fun r_6 M_5 h m_7 => ?_)
    refine r_bipush C dX17_seesNumber_13 (pc' := 15) rfl (v := 55) rfl ?_
    refine r_icmp_gt C dX17_seesNumber_15 (pc' := 18) rfl (tgt := 22) (by decide) (fun c_8 => ?_) (fun c_8 => ?_)
    · have h := it_t h c_8
      refine r_iconst C dX17_seesNumber_22 (pc' := 23) rfl (v := 0) rfl ?_
      exact r_zret C hE (Or.inl rfl) (Nat.le_of_ble_eq_true rfl) (Nat.le_of_ble_eq_true rfl) dX17_seesNumber_23 ⟨_, rfl, h⟩
    · have h := it_f h c_8
      refine r_iconst C dX17_seesNumber_18 (pc' := 19) rfl (v := 1) rfl ?_
      refine r_goto C dX17_seesNumber_19 (tgt := 23) (by decide) ?_
      exact r_zret C hE (Or.inr rfl) (Nat.le_of_ble_eq_true rfl) (Nat.le_of_ble_eq_true rfl) dX17_seesNumber_23 ⟨_, rfl, h⟩
set_option maxHeartbeats 4000000 in
theorem S_X17_seesPerson {D : DD} {l : Launch} {M : MM} {a0 : Nat} {Post : Int32 → MM → Prop} (k_a0 : mkd M a0 = 15) (h : wp_X17_seesPerson M a0 Post) : mMet D l yX17_seesPerson cX17_seesPerson 1 ((some .boolean)) { frames := 1, cells := 0, slots := 0, locals := 20 } M [.ref a0] (pI_ Post) := by
  refine m_of2 [(0, .ref a0)] (by decide +kernel) (Nat.le_of_ble_eq_true rfl) rfl (fun E hED hEl C hE => ?_)
  subst hED
  subst hEl
  unfold wp_X17_seesPerson at h
  refine r_aload_n C dX17_seesPerson_0 (pc' := 1) rfl (j := 0) rfl ?_
  refine r_callVi (As := []) (rest := []) (Cn := RX17) (T := TX17) C k_a0 (by decide) vc_X17 (S_X17_here k_a0 h) (lw_V q1116 q1118 qs35 q129 q1119) rfl hd_X17_here rfl rfl (Nat.le_of_ble_eq_true rfl) (Nat.le_of_ble_eq_true rfl) (Nat.le_of_ble_eq_true rfl) rfl rfl (Nat.le_of_ble_eq_true rfl) (Nat.le_of_ble_eq_true rfl) dX17_seesPerson_1 (pc' := 4) rfl (fun r_2 M_1 h m_3 => ?_)
  refine r_bipush C dX17_seesPerson_4 (pc' := 6) rfl (v := 97) rfl ?_
  refine r_icmp_lt C dX17_seesPerson_6 (pc' := 9) rfl (tgt := 22) (by decide) (fun c_4 => ?_) (fun c_4 => ?_)
  · have h := it_t h c_4
    refine r_iconst C dX17_seesPerson_22 (pc' := 23) rfl (v := 0) rfl ?_
    exact r_zret C hE (Or.inl rfl) (Nat.le_of_ble_eq_true rfl) (Nat.le_of_ble_eq_true rfl) dX17_seesPerson_23 ⟨_, rfl, h⟩
  · have h := it_f h c_4
    refine r_aload_n C dX17_seesPerson_9 (pc' := 10) rfl (j := 0) rfl ?_
    refine r_callVi (As := []) (rest := []) (Cn := RX17) (T := TX17) C (mMo.kd m_3 k_a0 (by decide)) (by decide) vc_X17 (S_X17_here (mMo.kd m_3 k_a0 (by decide)) h) (lw_V q1116 q1118 qs35 q129 q1119) rfl hd_X17_here rfl rfl (Nat.le_of_ble_eq_true rfl) (Nat.le_of_ble_eq_true rfl) (Nat.le_of_ble_eq_true rfl) rfl rfl (Nat.le_of_ble_eq_true rfl) (Nat.le_of_ble_eq_true rfl) dX17_seesPerson_10 (pc' := 13) rfl (fun r_6 M_5 h m_7 => ?_)
    refine r_bipush C dX17_seesPerson_13 (pc' := 15) rfl (v := 105) rfl ?_
    refine r_icmp_ge C dX17_seesPerson_15 (pc' := 18) rfl (tgt := 22) (by decide) (fun c_8 => ?_) (fun c_8 => ?_)
    · have h := it_t h c_8
      refine r_iconst C dX17_seesPerson_22 (pc' := 23) rfl (v := 0) rfl ?_
      exact r_zret C hE (Or.inl rfl) (Nat.le_of_ble_eq_true rfl) (Nat.le_of_ble_eq_true rfl) dX17_seesPerson_23 ⟨_, rfl, h⟩
    · have h := it_f h c_8
      refine r_iconst C dX17_seesPerson_18 (pc' := 19) rfl (v := 1) rfl ?_
      refine r_goto C dX17_seesPerson_19 (tgt := 23) (by decide) ?_
      exact r_zret C hE (Or.inr rfl) (Nat.le_of_ble_eq_true rfl) (Nat.le_of_ble_eq_true rfl) dX17_seesPerson_23 ⟨_, rfl, h⟩
set_option maxHeartbeats 4000000 in
theorem B_X17_days_146 {E : mE} {a0 : Nat} {x2 : Int32} {x3 : Int32} {X185 : MM → Prop} {Post : MM → Prop} (C : mC E yX17_days cX17_days 5 (none) { frames := 2, cells := 0, slots := 0, locals := 42 }) (hE : mEnd E { frames := 2, cells := 0, slots := 0, locals := 42 } (pV_ Post)) : ∀ (n_ : Nat) (M : MM) (x4 : Int32), mkd M a0 = 15 → wl_X17_days_146 a0 x2 x3 X185 n_ M x4 → (∀ (M' : MM), mMo M M' → X185 M' → mV E M' 0 0 185 [] []) → mV E M 0 0 146 [(0, .ref a0), (2, .int x2), (3, .int x3), (4, .int x4)] [] := by
  intro n_
  induction n_ with
  | zero =>
    intro M x4 k_a0 h hX185
    exact absurd h (by rw [wl_X17_days_146]; exact fun q => q)
  | succ n_ ih =>
    intro M x4 k_a0 h hX185
    rw [wl_X17_days_146] at h
    refine r_iload C dX17_days_146 (pc' := 148) rfl (j := 3) rfl ?_
    refine r_iload_n C dX17_days_148 (pc' := 149) rfl (j := 1) rfl ?_
    refine r_icmp_ge C dX17_days_149 (pc' := 152) rfl (tgt := 185) (by decide) (fun c_22 => ?_) (fun c_22 => ?_)
    · have h := it_t h c_22
      refine r_sub (lv' := []) [] rfl ?_
      exact hX185 M mMo.rf h
    · have h := it_f h c_22
      refine r_aload_n C dX17_days_152 (pc' := 153) rfl (j := 0) rfl ?_
      refine r_callVi (As := []) (rest := []) (Cn := RX17) (T := TX17) C k_a0 (by decide) vc_X17 (S_X17_isGood k_a0 h) (lw_V q1132 q1134 qs39 q129 q1135) rfl hd_X17_isGood rfl rfl (Nat.le_of_ble_eq_true rfl) (Nat.le_of_ble_eq_true rfl) (Nat.le_of_ble_eq_true rfl) rfl rfl (Nat.le_of_ble_eq_true rfl) (Nat.le_of_ble_eq_true rfl) dX17_days_153 (pc' := 156) rfl (fun r_24 M_23 h m_25 => ?_)
      refine r_if_eq C dX17_days_156 (pc' := 159) rfl (tgt := 185) (by decide) (fun c_26 => ?_) (fun c_26 => ?_)
      · have h := it_t h c_26
        refine r_sub (lv' := []) [] rfl ?_
        exact hX185 M_23 m_25 h
      · have h := it_f h c_26
        refine r_aload_n C dX17_days_159 (pc' := 160) rfl (j := 0) rfl ?_
        refine r_getf C (Cn := RX17) (T := TX17) 0 (mMo.kd m_25 k_a0 (by decide)) (by decide) vc_X17 in_X17 (by decide) q1080 dX17_days_160 (pc' := 163) rfl (v := va_rf (mgR M_23 a0 0)) rfl ?_
        obtain ⟨b_27, e_28, k_29, h⟩ := h
        refine r_ref [] e_28 ?_
        refine r_aload_n C dX17_days_163 (pc' := 164) rfl (j := 0) rfl ?_
        refine r_getf C (Cn := RX17) (T := TX17) 3 (mMo.kd m_25 k_a0 (by decide)) (by decide) vc_X17 in_X17 (by decide) q1084 dX17_days_164 (pc' := 167) rfl (v := .int (mgI M_23 a0 3)) rfl ?_
        refine r_iload_n C dX17_days_167 (pc' := 168) rfl (j := 2) rfl ?_
        obtain ⟨c_30, h⟩ := h
        obtain ⟨M_31, e_32, h⟩ := bn_ h
        refine r_iast C (j := (ix_ (mgI M_23 a0 3))) k_29 c_30 rfl dX17_days_168 (pc' := 169) rfl M_31 e_32 ?_
        refine r_aload_n C dX17_days_169 (pc' := 170) rfl (j := 0) rfl ?_
        refine r_dup C dX17_days_170 (pc' := 171) rfl rfl ?_
        refine r_getf C (Cn := RX17) (T := TX17) 3 (mMo.kd (mo_I e_32) (mMo.kd m_25 k_a0 (by decide)) (by decide)) (by decide) vc_X17 in_X17 (by decide) q1084 dX17_days_171 (pc' := 174) rfl (v := .int (mgI M_31 a0 3)) rfl ?_
        refine r_iconst C dX17_days_174 (pc' := 175) rfl (v := 1) rfl ?_
        refine r_iadd C dX17_days_175 (pc' := 176) rfl ?_
        obtain ⟨M_33, e_34, h⟩ := bn_ h
        refine r_putI C (Cn := RX17) (T := TX17) tyX17 3 (mMo.kd (mo_I e_32) (mMo.kd m_25 k_a0 (by decide)) (by decide)) (by decide) vc_X17 in_X17 tyX17_ok nmX17 (by decide) q1084 rfl rfl dX17_days_176 (pc' := 179) rfl rfl rfl M_33 e_34 ?_
        obtain ⟨x4_35, e_36, h⟩ := bn_ h
        refine r_iinc C (lv' := [(4, .int x4_35), (0, .ref a0), (2, .int x2), (3, .int x3)]) dX17_days_179 (pc' := 182) rfl (j := 3) rfl x4_35 (by rw [e_36]; rfl) (Nat.le_of_ble_eq_true rfl) rfl ?_
        refine r_goto C dX17_days_182 (tgt := 146) (by decide) ?_
        refine r_sub (lv' := [(0, .ref a0), (2, .int x2), (3, .int x3), (4, .int x4_35)]) [1, 2, 3, 0] rfl ?_
        exact ih M_33 x4_35 (mMo.kd (mo_I e_34) (mMo.kd (mo_I e_32) (mMo.kd m_25 k_a0 (by decide)) (by decide)) (by decide)) h (fun M9 hm9 h9 => hX185 M9 (mMo.tr (mMo.tr (mMo.tr m_25 (mo_I e_32)) (mo_I e_34)) hm9) h9)
set_option maxHeartbeats 4000000 in
theorem B_X17_days_133 {E : mE} {M : MM} {a0 : Nat} {x2 : Int32} {x3 : Int32} {Post : MM → Prop} (C : mC E yX17_days cX17_days 5 (none) { frames := 2, cells := 0, slots := 0, locals := 42 }) (hE : mEnd E { frames := 2, cells := 0, slots := 0, locals := 42 } (pV_ Post)) (k_a0 : mkd M a0 = 15) (h : wb_X17_days_133 M a0 x2 x3 Post) : mV E M 0 0 133 [(0, .ref a0), (2, .int x2), (3, .int x3)] [] := by
  unfold wb_X17_days_133 at h
  refine r_aload_n C dX17_days_133 (pc' := 134) rfl (j := 0) rfl ?_
  refine r_dup C dX17_days_134 (pc' := 135) rfl rfl ?_
  refine r_getf C (Cn := RX17) (T := TX17) 2 k_a0 (by decide) vc_X17 in_X17 (by decide) q1083 dX17_days_135 (pc' := 138) rfl (v := .int (mgI M a0 2)) rfl ?_
  refine r_iconst C dX17_days_138 (pc' := 139) rfl (v := 1) rfl ?_
  refine r_iadd C dX17_days_139 (pc' := 140) rfl ?_
  obtain ⟨M_20, e_21, h⟩ := bn_ h
  refine r_putI C (Cn := RX17) (T := TX17) tyX17 2 k_a0 (by decide) vc_X17 in_X17 tyX17_ok nmX17 (by decide) q1083 rfl rfl dX17_days_140 (pc' := 143) rfl rfl rfl M_20 e_21 ?_
  refine r_iconst C dX17_days_143 (pc' := 144) rfl (v := 0) rfl ?_
  refine r_istore C (lv' := [(4, .int (0 : Int32)), (0, .ref a0), (2, .int x2), (3, .int x3)]) dX17_days_144 (pc' := 146) rfl (0 : Int32) rfl (Nat.le_of_ble_eq_true rfl) rfl ?_
  obtain ⟨n_37, h⟩ := h
  refine r_sub (lv' := [(0, .ref a0), (2, .int x2), (3, .int x3), (4, .int (0 : Int32))]) [1, 2, 3, 0] rfl ?_
  refine B_X17_days_146 C hE n_37 M_20 (0 : Int32) (mMo.kd (mo_I e_21) k_a0 (by decide)) h (fun M_38 m_39 h => ?_)
  exact r_vret C hE (Nat.le_of_ble_eq_true rfl) (Nat.le_of_ble_eq_true rfl) dX17_days_185 ⟨rfl, h⟩
set_option maxHeartbeats 4000000 in
theorem B_X17_days_99 {E : mE} {M : MM} {a0 : Nat} {x2 : Int32} {xs0 : Int32} {Post : MM → Prop} (C : mC E yX17_days cX17_days 5 (none) { frames := 2, cells := 0, slots := 0, locals := 42 }) (hE : mEnd E { frames := 2, cells := 0, slots := 0, locals := 42 } (pV_ Post)) (k_a0 : mkd M a0 = 15) (h : wb_X17_days_99 M a0 x2 xs0 Post) : mV E M 0 0 99 [(0, .ref a0), (2, .int x2)] [.int xs0] := by
  unfold wb_X17_days_99 at h
  refine r_istore_n C (lv' := [(3, .int xs0), (0, .ref a0), (2, .int x2)]) dX17_days_99 (pc' := 100) rfl rfl xs0 rfl (Nat.le_of_ble_eq_true rfl) rfl ?_
  refine r_aload_n C dX17_days_100 (pc' := 101) rfl (j := 1) rfl ?_
  refine r_callVi (As := []) (rest := []) (Cn := RX17) (T := TX17) C k_a0 (by decide) vc_X17 (S_X17_isGood k_a0 h) (lw_V q1132 q1134 qs39 q129 q1135) rfl hd_X17_isGood rfl rfl (Nat.le_of_ble_eq_true rfl) (Nat.le_of_ble_eq_true rfl) (Nat.le_of_ble_eq_true rfl) rfl rfl (Nat.le_of_ble_eq_true rfl) (Nat.le_of_ble_eq_true rfl) dX17_days_101 (pc' := 104) rfl (fun r_17 M_16 h m_18 => ?_)
  refine r_if_eq C dX17_days_104 (pc' := 107) rfl (tgt := 133) (by decide) (fun c_19 => ?_) (fun c_19 => ?_)
  · have h := it_t h c_19
    refine r_sub (lv' := [(0, .ref a0), (2, .int x2), (3, .int xs0)]) [1, 2, 0] rfl ?_
    exact B_X17_days_133 C hE (mMo.kd m_18 k_a0 (by decide)) h
  · have h := it_f h c_19
    refine r_iload_n C dX17_days_107 (pc' := 108) rfl (j := 0) rfl ?_
    refine r_iconst C dX17_days_108 (pc' := 109) rfl (v := -1) rfl ?_
    refine r_icmp_eq C dX17_days_109 (pc' := 112) rfl (tgt := 133) (by decide) (fun c_40 => ?_) (fun c_40 => ?_)
    · have h := it_t h c_40
      refine r_sub (lv' := [(0, .ref a0), (2, .int x2), (3, .int xs0)]) [1, 2, 0] rfl ?_
      exact B_X17_days_133 C hE (mMo.kd m_18 k_a0 (by decide)) h
    · have h := it_f h c_40
      refine r_aload_n C dX17_days_112 (pc' := 113) rfl (j := 1) rfl ?_
      refine r_getf C (Cn := RX17) (T := TX17) 6 (mMo.kd m_18 k_a0 (by decide)) (by decide) vc_X17 in_X17 (by decide) q1088 dX17_days_113 (pc' := 116) rfl (v := va_rf (mgR M_16 a0 6)) rfl ?_
      obtain ⟨b_41, e_42, k_43, h⟩ := h
      refine r_ref [] e_42 ?_
      refine r_iload_n C dX17_days_116 (pc' := 117) rfl (j := 0) rfl ?_
      refine r_callVNi (As := [.int xs0]) (rest := []) (Cn := RX0) (T := TX0) C k_43 (by decide) vc_X0 (S_X0_isPerson k_43 h) q907 q105 (List.mem_of_getElem? (i := 3) rfl) q906 qs19 hd_X0_isPerson rfl rfl (Nat.le_of_ble_eq_true rfl) (Nat.le_of_ble_eq_true rfl) (Nat.le_of_ble_eq_true rfl) rfl rfl (Nat.le_of_ble_eq_true rfl) (Nat.le_of_ble_eq_true rfl) dX17_days_117 (pc' := 120) rfl (fun r_45 M_44 h m_46 => ?_)
      refine r_if_ne C dX17_days_120 (pc' := 123) rfl (tgt := 133) (by decide) (fun c_47 => ?_) (fun c_47 => ?_)
      · have h := it_f h c_47
        refine r_sub (lv' := [(0, .ref a0), (2, .int x2), (3, .int xs0)]) [1, 2, 0] rfl ?_
        exact B_X17_days_133 C hE (mMo.kd m_46 (mMo.kd m_18 k_a0 (by decide)) (by decide)) h
      · have h := it_t h c_47
        refine r_aload_n C dX17_days_123 (pc' := 124) rfl (j := 1) rfl ?_
        refine r_bipush C dX17_days_124 (pc' := 126) rfl (v := 7) rfl ?_
        refine r_aload_n C dX17_days_126 (pc' := 127) rfl (j := 1) rfl ?_
        refine r_getf C (Cn := RX17) (T := TX17) 2 (mMo.kd m_46 (mMo.kd m_18 k_a0 (by decide)) (by decide)) (by decide) vc_X17 in_X17 (by decide) q1083 dX17_days_127 (pc' := 130) rfl (v := .int (mgI M_44 a0 2)) rfl ?_
        refine r_callVv (As := [.int (7 : Int32), .int (mgI M_44 a0 2)]) (rest := []) (Cn := RX17) (T := TX17) C (mMo.kd m_46 (mMo.kd m_18 k_a0 (by decide)) (by decide)) (by decide) vc_X17 (S_X17_bad (mMo.kd m_46 (mMo.kd m_18 k_a0 (by decide)) (by decide)) h) (lw_V q1128 q1130 qs38 q129 q1131) rfl hd_X17_bad rfl rfl (Nat.le_of_ble_eq_true rfl) (Nat.le_of_ble_eq_true rfl) (Nat.le_of_ble_eq_true rfl) rfl rfl (Nat.le_of_ble_eq_true rfl) (Nat.le_of_ble_eq_true rfl) dX17_days_130 (pc' := 133) rfl (fun M_48 h m_50 => ?_)
        refine r_sub (lv' := [(0, .ref a0), (2, .int x2), (3, .int xs0)]) [1, 2, 0] rfl ?_
        exact B_X17_days_133 C hE (mMo.kd m_50 (mMo.kd m_46 (mMo.kd m_18 k_a0 (by decide)) (by decide)) (by decide)) h
set_option maxHeartbeats 4000000 in
theorem B_X17_days_79 {E : mE} {M : MM} {a0 : Nat} {x2 : Int32} {Post : MM → Prop} (C : mC E yX17_days cX17_days 5 (none) { frames := 2, cells := 0, slots := 0, locals := 42 }) (hE : mEnd E { frames := 2, cells := 0, slots := 0, locals := 42 } (pV_ Post)) (k_a0 : mkd M a0 = 15) (h : wb_X17_days_79 M a0 x2 Post) : mV E M 0 0 79 [(0, .ref a0), (2, .int x2)] [] := by
  unfold wb_X17_days_79 at h
  refine r_aload_n C dX17_days_79 (pc' := 80) rfl (j := 0) rfl ?_
  refine r_callVi (As := []) (rest := []) (Cn := RX17) (T := TX17) C k_a0 (by decide) vc_X17 (S_X17_here k_a0 h) (lw_V q1116 q1118 qs35 q129 q1119) rfl hd_X17_here rfl rfl (Nat.le_of_ble_eq_true rfl) (Nat.le_of_ble_eq_true rfl) (Nat.le_of_ble_eq_true rfl) rfl rfl (Nat.le_of_ble_eq_true rfl) (Nat.le_of_ble_eq_true rfl) dX17_days_80 (pc' := 83) rfl (fun r_10 M_9 h m_11 => ?_)
  refine r_bipush C dX17_days_83 (pc' := 85) rfl (v := 46) rfl ?_
  refine r_icmp_ne C dX17_days_85 (pc' := 88) rfl (tgt := 92) (by decide) (fun c_12 => ?_) (fun c_12 => ?_)
  · have h := it_f h c_12
    refine r_aload_n C dX17_days_92 (pc' := 93) rfl (j := 0) rfl ?_
    refine r_callVi (As := []) (rest := []) (Cn := RX17) (T := TX17) C (mMo.kd m_11 k_a0 (by decide)) (by decide) vc_X17 (S_X17_here (mMo.kd m_11 k_a0 (by decide)) h) (lw_V q1116 q1118 qs35 q129 q1119) rfl hd_X17_here rfl rfl (Nat.le_of_ble_eq_true rfl) (Nat.le_of_ble_eq_true rfl) (Nat.le_of_ble_eq_true rfl) rfl rfl (Nat.le_of_ble_eq_true rfl) (Nat.le_of_ble_eq_true rfl) dX17_days_93 (pc' := 96) rfl (fun r_14 M_13 h m_15 => ?_)
    refine r_bipush C dX17_days_96 (pc' := 98) rfl (v := 97) rfl ?_
    refine r_isub C dX17_days_98 (pc' := 99) rfl ?_
    refine r_sub (lv' := [(0, .ref a0), (2, .int x2)]) [0, 1] rfl ?_
    exact B_X17_days_99 C hE (mMo.kd m_15 (mMo.kd m_11 k_a0 (by decide)) (by decide)) h
  · have h := it_t h c_12
    refine r_iconst C dX17_days_88 (pc' := 89) rfl (v := -1) rfl ?_
    refine r_goto C dX17_days_89 (tgt := 99) (by decide) ?_
    refine r_sub (lv' := [(0, .ref a0), (2, .int x2)]) [0, 1] rfl ?_
    exact B_X17_days_99 C hE (mMo.kd m_11 k_a0 (by decide)) h
set_option maxHeartbeats 4000000 in
theorem B_X17_days_47 {E : mE} {M : MM} {a0 : Nat} {x2 : Int32} {Post : MM → Prop} (C : mC E yX17_days cX17_days 5 (none) { frames := 2, cells := 0, slots := 0, locals := 42 }) (hE : mEnd E { frames := 2, cells := 0, slots := 0, locals := 42 } (pV_ Post)) (k_a0 : mkd M a0 = 15) (h : wb_X17_days_47 M a0 x2 Post) : mV E M 0 0 47 [(0, .ref a0), (2, .int x2)] [] := by
  unfold wb_X17_days_47 at h
  refine r_aload_n C dX17_days_47 (pc' := 48) rfl (j := 0) rfl ?_
  refine r_callVi (As := []) (rest := []) (Cn := RX17) (T := TX17) C k_a0 (by decide) vc_X17 (S_X17_isGood k_a0 h) (lw_V q1132 q1134 qs39 q129 q1135) rfl hd_X17_isGood rfl rfl (Nat.le_of_ble_eq_true rfl) (Nat.le_of_ble_eq_true rfl) (Nat.le_of_ble_eq_true rfl) rfl rfl (Nat.le_of_ble_eq_true rfl) (Nat.le_of_ble_eq_true rfl) dX17_days_48 (pc' := 51) rfl (fun r_6 M_5 h m_7 => ?_)
  refine r_if_eq C dX17_days_51 (pc' := 54) rfl (tgt := 79) (by decide) (fun c_8 => ?_) (fun c_8 => ?_)
  · have h := it_t h c_8
    refine r_sub (lv' := [(0, .ref a0), (2, .int x2)]) [0, 1] rfl ?_
    exact B_X17_days_79 C hE (mMo.kd m_7 k_a0 (by decide)) h
  · have h := it_f h c_8
    refine r_aload_n C dX17_days_54 (pc' := 55) rfl (j := 0) rfl ?_
    refine r_callVi (As := []) (rest := []) (Cn := RX17) (T := TX17) C (mMo.kd m_7 k_a0 (by decide)) (by decide) vc_X17 (S_X17_here (mMo.kd m_7 k_a0 (by decide)) h) (lw_V q1116 q1118 qs35 q129 q1119) rfl hd_X17_here rfl rfl (Nat.le_of_ble_eq_true rfl) (Nat.le_of_ble_eq_true rfl) (Nat.le_of_ble_eq_true rfl) rfl rfl (Nat.le_of_ble_eq_true rfl) (Nat.le_of_ble_eq_true rfl) dX17_days_55 (pc' := 58) rfl (fun r_52 M_51 h m_53 => ?_)
    refine r_bipush C dX17_days_58 (pc' := 60) rfl (v := 46) rfl ?_
    refine r_icmp_eq C dX17_days_60 (pc' := 63) rfl (tgt := 79) (by decide) (fun c_54 => ?_) (fun c_54 => ?_)
    · have h := it_t h c_54
      refine r_sub (lv' := [(0, .ref a0), (2, .int x2)]) [0, 1] rfl ?_
      exact B_X17_days_79 C hE (mMo.kd m_53 (mMo.kd m_7 k_a0 (by decide)) (by decide)) h
    · have h := it_f h c_54
      refine r_aload_n C dX17_days_63 (pc' := 64) rfl (j := 0) rfl ?_
      refine r_callVi (As := []) (rest := []) (Cn := RX17) (T := TX17) C (mMo.kd m_53 (mMo.kd m_7 k_a0 (by decide)) (by decide)) (by decide) vc_X17 (S_X17_seesPerson (mMo.kd m_53 (mMo.kd m_7 k_a0 (by decide)) (by decide)) h) (lw_V q1120 q1122 qs36 q129 q1123) rfl hd_X17_seesPerson rfl rfl (Nat.le_of_ble_eq_true rfl) (Nat.le_of_ble_eq_true rfl) (Nat.le_of_ble_eq_true rfl) rfl rfl (Nat.le_of_ble_eq_true rfl) (Nat.le_of_ble_eq_true rfl) dX17_days_64 (pc' := 67) rfl (fun r_56 M_55 h m_57 => ?_)
      refine r_if_ne C dX17_days_67 (pc' := 70) rfl (tgt := 79) (by decide) (fun c_58 => ?_) (fun c_58 => ?_)
      · have h := it_f h c_58
        refine r_sub (lv' := [(0, .ref a0), (2, .int x2)]) [0, 1] rfl ?_
        exact B_X17_days_79 C hE (mMo.kd m_57 (mMo.kd m_53 (mMo.kd m_7 k_a0 (by decide)) (by decide)) (by decide)) h
      · have h := it_t h c_58
        refine r_aload_n C dX17_days_70 (pc' := 71) rfl (j := 0) rfl ?_
        refine r_iconst C dX17_days_71 (pc' := 72) rfl (v := 1) rfl ?_
        refine r_aload_n C dX17_days_72 (pc' := 73) rfl (j := 0) rfl ?_
        refine r_getf C (Cn := RX17) (T := TX17) 2 (mMo.kd m_57 (mMo.kd m_53 (mMo.kd m_7 k_a0 (by decide)) (by decide)) (by decide)) (by decide) vc_X17 in_X17 (by decide) q1083 dX17_days_73 (pc' := 76) rfl (v := .int (mgI M_55 a0 2)) rfl ?_
        refine r_callVv (As := [.int (1 : Int32), .int (mgI M_55 a0 2)]) (rest := []) (Cn := RX17) (T := TX17) C (mMo.kd m_57 (mMo.kd m_53 (mMo.kd m_7 k_a0 (by decide)) (by decide)) (by decide)) (by decide) vc_X17 (S_X17_bad (mMo.kd m_57 (mMo.kd m_53 (mMo.kd m_7 k_a0 (by decide)) (by decide)) (by decide)) h) (lw_V q1128 q1130 qs38 q129 q1131) rfl hd_X17_bad rfl rfl (Nat.le_of_ble_eq_true rfl) (Nat.le_of_ble_eq_true rfl) (Nat.le_of_ble_eq_true rfl) rfl rfl (Nat.le_of_ble_eq_true rfl) (Nat.le_of_ble_eq_true rfl) dX17_days_76 (pc' := 79) rfl (fun M_59 h m_61 => ?_)
        refine r_sub (lv' := [(0, .ref a0), (2, .int x2)]) [0, 1] rfl ?_
        exact B_X17_days_79 C hE (mMo.kd m_61 (mMo.kd m_57 (mMo.kd m_53 (mMo.kd m_7 k_a0 (by decide)) (by decide)) (by decide)) (by decide)) h
set_option maxHeartbeats 4000000 in
theorem B_X17_days_37 {E : mE} {M : MM} {a0 : Nat} {x2 : Int32} {Post : MM → Prop} (C : mC E yX17_days cX17_days 5 (none) { frames := 2, cells := 0, slots := 0, locals := 42 }) (hE : mEnd E { frames := 2, cells := 0, slots := 0, locals := 42 } (pV_ Post)) (k_a0 : mkd M a0 = 15) (h : wb_X17_days_37 M a0 x2 Post) : mV E M 0 0 37 [(0, .ref a0), (2, .int x2)] [] := by
  unfold wb_X17_days_37 at h
  refine r_aload_n C dX17_days_37 (pc' := 38) rfl (j := 0) rfl ?_
  refine r_dup C dX17_days_38 (pc' := 39) rfl rfl ?_
  refine r_getf C (Cn := RX17) (T := TX17) 2 k_a0 (by decide) vc_X17 in_X17 (by decide) q1083 dX17_days_39 (pc' := 42) rfl (v := .int (mgI M a0 2)) rfl ?_
  refine r_iconst C dX17_days_42 (pc' := 43) rfl (v := 1) rfl ?_
  refine r_iadd C dX17_days_43 (pc' := 44) rfl ?_
  obtain ⟨M_68, e_69, h⟩ := bn_ h
  refine r_putI C (Cn := RX17) (T := TX17) tyX17 2 k_a0 (by decide) vc_X17 in_X17 tyX17_ok nmX17 (by decide) q1083 rfl rfl dX17_days_44 (pc' := 47) rfl rfl rfl M_68 e_69 ?_
  refine r_sub (lv' := [(0, .ref a0), (2, .int x2)]) [0, 1] rfl ?_
  exact B_X17_days_47 C hE (mMo.kd (mo_I e_69) k_a0 (by decide)) h
set_option maxHeartbeats 4000000 in
theorem S_X17_days {D : DD} {l : Launch} {M : MM} {a0 : Nat} {x1 : Int32} {Post : MM → Prop} (k_a0 : mkd M a0 = 15) (h : wp_X17_days M a0 x1 Post) : mMet D l yX17_days cX17_days 5 (none) { frames := 2, cells := 0, slots := 0, locals := 42 } M [.ref a0, .int x1] (pV_ Post) := by
  refine m_of2 [(0, .ref a0), (1, .int x1)] (by decide +kernel) (Nat.le_of_ble_eq_true rfl) rfl (fun E hED hEl C hE => ?_)
  subst hED
  subst hEl
  unfold wp_X17_days at h
  refine r_iconst C dX17_days_0 (pc' := 1) rfl (v := 1) rfl ?_
  refine r_istore_n C (lv' := [(2, .int (1 : Int32)), (0, .ref a0), (1, .int x1)]) dX17_days_1 (pc' := 2) rfl rfl (1 : Int32) rfl (Nat.le_of_ble_eq_true rfl) rfl ?_
  refine r_aload_n C dX17_days_2 (pc' := 3) rfl (j := 1) rfl ?_
  refine r_callVi (As := []) (rest := []) (Cn := RX17) (T := TX17) C k_a0 (by decide) vc_X17 (S_X17_seesNumber k_a0 h) (lw_V q1124 q1126 qs37 q129 q1127) rfl hd_X17_seesNumber rfl rfl (Nat.le_of_ble_eq_true rfl) (Nat.le_of_ble_eq_true rfl) (Nat.le_of_ble_eq_true rfl) rfl rfl (Nat.le_of_ble_eq_true rfl) (Nat.le_of_ble_eq_true rfl) dX17_days_3 (pc' := 6) rfl (fun r_2 M_1 h m_3 => ?_)
  refine r_if_eq C dX17_days_6 (pc' := 9) rfl (tgt := 47) (by decide) (fun c_4 => ?_) (fun c_4 => ?_)
  · have h := it_t h c_4
    refine r_sub (lv' := [(0, .ref a0), (2, .int (1 : Int32))]) [1, 0] rfl ?_
    exact B_X17_days_47 C hE (mMo.kd m_3 k_a0 (by decide)) h
  · have h := it_f h c_4
    refine r_aload_n C dX17_days_9 (pc' := 10) rfl (j := 1) rfl ?_
    refine r_callVi (As := []) (rest := []) (Cn := RX17) (T := TX17) C (mMo.kd m_3 k_a0 (by decide)) (by decide) vc_X17 (S_X17_here (mMo.kd m_3 k_a0 (by decide)) h) (lw_V q1116 q1118 qs35 q129 q1119) rfl hd_X17_here rfl rfl (Nat.le_of_ble_eq_true rfl) (Nat.le_of_ble_eq_true rfl) (Nat.le_of_ble_eq_true rfl) rfl rfl (Nat.le_of_ble_eq_true rfl) (Nat.le_of_ble_eq_true rfl) dX17_days_10 (pc' := 13) rfl (fun r_63 M_62 h m_64 => ?_)
    refine r_bipush C dX17_days_13 (pc' := 15) rfl (v := 48) rfl ?_
    refine r_isub C dX17_days_15 (pc' := 16) rfl ?_
    obtain ⟨x2_65, e_66, h⟩ := bn_ h
    refine r_istore_n C (lv' := [(2, .int x2_65), (0, .ref a0), (1, .int x1)]) dX17_days_16 (pc' := 17) rfl rfl x2_65 e_66 (Nat.le_of_ble_eq_true rfl) rfl ?_
    refine r_aload_n C dX17_days_17 (pc' := 18) rfl (j := 1) rfl ?_
    refine r_getf C (Cn := RX17) (T := TX17) 3 (mMo.kd m_64 (mMo.kd m_3 k_a0 (by decide)) (by decide)) (by decide) vc_X17 in_X17 (by decide) q1084 dX17_days_18 (pc' := 21) rfl (v := .int (mgI M_62 a0 3)) rfl ?_
    refine r_iload_n C dX17_days_21 (pc' := 22) rfl (j := 0) rfl ?_
    refine r_iadd C dX17_days_22 (pc' := 23) rfl ?_
    refine r_iload_n C dX17_days_23 (pc' := 24) rfl (j := 2) rfl ?_
    refine r_icmp_le C dX17_days_24 (pc' := 27) rfl (tgt := 37) (by decide) (fun c_67 => ?_) (fun c_67 => ?_)
    · have h := it_t h c_67
      refine r_sub (lv' := [(0, .ref a0), (2, .int x2_65)]) [1, 0] rfl ?_
      exact B_X17_days_37 C hE (mMo.kd m_64 (mMo.kd m_3 k_a0 (by decide)) (by decide)) h
    · have h := it_f h c_67
      refine r_aload_n C dX17_days_27 (pc' := 28) rfl (j := 1) rfl ?_
      refine r_bipush C dX17_days_28 (pc' := 30) rfl (v := 6) rfl ?_
      refine r_aload_n C dX17_days_30 (pc' := 31) rfl (j := 1) rfl ?_
      refine r_getf C (Cn := RX17) (T := TX17) 2 (mMo.kd m_64 (mMo.kd m_3 k_a0 (by decide)) (by decide)) (by decide) vc_X17 in_X17 (by decide) q1083 dX17_days_31 (pc' := 34) rfl (v := .int (mgI M_62 a0 2)) rfl ?_
      refine r_callVv (As := [.int (6 : Int32), .int (mgI M_62 a0 2)]) (rest := []) (Cn := RX17) (T := TX17) C (mMo.kd m_64 (mMo.kd m_3 k_a0 (by decide)) (by decide)) (by decide) vc_X17 (S_X17_bad (mMo.kd m_64 (mMo.kd m_3 k_a0 (by decide)) (by decide)) h) (lw_V q1128 q1130 qs38 q129 q1131) rfl hd_X17_bad rfl rfl (Nat.le_of_ble_eq_true rfl) (Nat.le_of_ble_eq_true rfl) (Nat.le_of_ble_eq_true rfl) rfl rfl (Nat.le_of_ble_eq_true rfl) (Nat.le_of_ble_eq_true rfl) dX17_days_34 (pc' := 37) rfl (fun M_70 h m_72 => ?_)
      refine r_sub (lv' := [(0, .ref a0), (2, .int x2_65)]) [1, 0] rfl ?_
      exact B_X17_days_37 C hE (mMo.kd m_72 (mMo.kd m_64 (mMo.kd m_3 k_a0 (by decide)) (by decide)) (by decide)) h
set_option maxHeartbeats 4000000 in
theorem S_X17_seesDays {D : DD} {l : Launch} {M : MM} {a0 : Nat} {Post : Int32 → MM → Prop} (k_a0 : mkd M a0 = 15) (h : wp_X17_seesDays M a0 Post) : mMet D l yX17_seesDays cX17_seesDays 1 ((some .boolean)) { frames := 2, cells := 0, slots := 0, locals := 40 } M [.ref a0] (pI_ Post) := by
  refine m_of2 [(0, .ref a0)] (by decide +kernel) (Nat.le_of_ble_eq_true rfl) rfl (fun E hED hEl C hE => ?_)
  subst hED
  subst hEl
  unfold wp_X17_seesDays at h
  refine r_aload_n C dX17_seesDays_0 (pc' := 1) rfl (j := 0) rfl ?_
  refine r_callVi (As := []) (rest := []) (Cn := RX17) (T := TX17) C k_a0 (by decide) vc_X17 (S_X17_here k_a0 h) (lw_V q1116 q1118 qs35 q129 q1119) rfl hd_X17_here rfl rfl (Nat.le_of_ble_eq_true rfl) (Nat.le_of_ble_eq_true rfl) (Nat.le_of_ble_eq_true rfl) rfl rfl (Nat.le_of_ble_eq_true rfl) (Nat.le_of_ble_eq_true rfl) dX17_seesDays_1 (pc' := 4) rfl (fun r_2 M_1 h m_3 => ?_)
  refine r_bipush C dX17_seesDays_4 (pc' := 6) rfl (v := 46) rfl ?_
  refine r_icmp_eq C dX17_seesDays_6 (pc' := 9) rfl (tgt := 23) (by decide) (fun c_4 => ?_) (fun c_4 => ?_)
  · have h := it_t h c_4
    refine r_iconst C dX17_seesDays_23 (pc' := 24) rfl (v := 1) rfl ?_
    refine r_goto C dX17_seesDays_24 (tgt := 28) (by decide) ?_
    exact r_zret C hE (Or.inr rfl) (Nat.le_of_ble_eq_true rfl) (Nat.le_of_ble_eq_true rfl) dX17_seesDays_28 ⟨_, rfl, h⟩
  · have h := it_f h c_4
    refine r_aload_n C dX17_seesDays_9 (pc' := 10) rfl (j := 0) rfl ?_
    refine r_callVi (As := []) (rest := []) (Cn := RX17) (T := TX17) C (mMo.kd m_3 k_a0 (by decide)) (by decide) vc_X17 (S_X17_seesPerson (mMo.kd m_3 k_a0 (by decide)) h) (lw_V q1120 q1122 qs36 q129 q1123) rfl hd_X17_seesPerson rfl rfl (Nat.le_of_ble_eq_true rfl) (Nat.le_of_ble_eq_true rfl) (Nat.le_of_ble_eq_true rfl) rfl rfl (Nat.le_of_ble_eq_true rfl) (Nat.le_of_ble_eq_true rfl) dX17_seesDays_10 (pc' := 13) rfl (fun r_6 M_5 h m_7 => ?_)
    refine r_if_ne C dX17_seesDays_13 (pc' := 16) rfl (tgt := 23) (by decide) (fun c_8 => ?_) (fun c_8 => ?_)
    · have h := it_f h c_8
      refine r_iconst C dX17_seesDays_23 (pc' := 24) rfl (v := 1) rfl ?_
      refine r_goto C dX17_seesDays_24 (tgt := 28) (by decide) ?_
      exact r_zret C hE (Or.inr rfl) (Nat.le_of_ble_eq_true rfl) (Nat.le_of_ble_eq_true rfl) dX17_seesDays_28 ⟨_, rfl, h⟩
    · have h := it_t h c_8
      refine r_aload_n C dX17_seesDays_16 (pc' := 17) rfl (j := 0) rfl ?_
      refine r_callVi (As := []) (rest := []) (Cn := RX17) (T := TX17) C (mMo.kd m_7 (mMo.kd m_3 k_a0 (by decide)) (by decide)) (by decide) vc_X17 (S_X17_seesNumber (mMo.kd m_7 (mMo.kd m_3 k_a0 (by decide)) (by decide)) h) (lw_V q1124 q1126 qs37 q129 q1127) rfl hd_X17_seesNumber rfl rfl (Nat.le_of_ble_eq_true rfl) (Nat.le_of_ble_eq_true rfl) (Nat.le_of_ble_eq_true rfl) rfl rfl (Nat.le_of_ble_eq_true rfl) (Nat.le_of_ble_eq_true rfl) dX17_seesDays_17 (pc' := 20) rfl (fun r_10 M_9 h m_11 => ?_)
      refine r_if_eq C dX17_seesDays_20 (pc' := 23) rfl (tgt := 27) (by decide) (fun c_12 => ?_) (fun c_12 => ?_)
      · have h := it_t h c_12
        refine r_iconst C dX17_seesDays_27 (pc' := 28) rfl (v := 0) rfl ?_
        exact r_zret C hE (Or.inl rfl) (Nat.le_of_ble_eq_true rfl) (Nat.le_of_ble_eq_true rfl) dX17_seesDays_28 ⟨_, rfl, h⟩
      · have h := it_f h c_12
        refine r_iconst C dX17_seesDays_23 (pc' := 24) rfl (v := 1) rfl ?_
        refine r_goto C dX17_seesDays_24 (tgt := 28) (by decide) ?_
        exact r_zret C hE (Or.inr rfl) (Nat.le_of_ble_eq_true rfl) (Nat.le_of_ble_eq_true rfl) dX17_seesDays_28 ⟨_, rfl, h⟩
set_option maxHeartbeats 4000000 in
theorem B_X17_week_56 {E : mE} {a0 : Nat} {x1 : Int32} {X79 : MM → Prop} {Post : MM → Prop} (C : mC E yX17_week cX17_week 2 (none) { frames := 3, cells := 0, slots := 0, locals := 66 }) (hE : mEnd E { frames := 3, cells := 0, slots := 0, locals := 66 } (pV_ Post)) : ∀ (n_ : Nat) (M : MM), mkd M a0 = 15 → wl_X17_week_56 a0 x1 X79 n_ M → (∀ (M' : MM), mMo M M' → X79 M' → mV E M' 0 0 79 [(0, .ref a0)] []) → mV E M 0 0 56 [(0, .ref a0), (1, .int x1)] [] := by
  intro n_
  induction n_ with
  | zero =>
    intro M k_a0 h hX79
    exact absurd h (by rw [wl_X17_week_56]; exact fun q => q)
  | succ n_ ih =>
    intro M k_a0 h hX79
    rw [wl_X17_week_56] at h
    refine r_aload_n C dX17_week_56 (pc' := 57) rfl (j := 0) rfl ?_
    refine r_callVi (As := []) (rest := []) (Cn := RX17) (T := TX17) C k_a0 (by decide) vc_X17 (S_X17_isGood k_a0 h) (lw_V q1132 q1134 qs39 q129 q1135) rfl hd_X17_isGood rfl rfl (Nat.le_of_ble_eq_true rfl) (Nat.le_of_ble_eq_true rfl) (Nat.le_of_ble_eq_true rfl) rfl rfl (Nat.le_of_ble_eq_true rfl) (Nat.le_of_ble_eq_true rfl) dX17_week_57 (pc' := 60) rfl (fun r_12 M_11 h m_13 => ?_)
    refine r_if_eq C dX17_week_60 (pc' := 63) rfl (tgt := 79) (by decide) (fun c_14 => ?_) (fun c_14 => ?_)
    · have h := it_t h c_14
      refine r_sub (lv' := [(0, .ref a0)]) [0] rfl ?_
      exact hX79 M_11 m_13 h
    · have h := it_f h c_14
      refine r_aload_n C dX17_week_63 (pc' := 64) rfl (j := 0) rfl ?_
      refine r_getf C (Cn := RX17) (T := TX17) 3 (mMo.kd m_13 k_a0 (by decide)) (by decide) vc_X17 in_X17 (by decide) q1084 dX17_week_64 (pc' := 67) rfl (v := .int (mgI M_11 a0 3)) rfl ?_
      refine r_iload_n C dX17_week_67 (pc' := 68) rfl (j := 1) rfl ?_
      refine r_icmp_ge C dX17_week_68 (pc' := 71) rfl (tgt := 79) (by decide) (fun c_15 => ?_) (fun c_15 => ?_)
      · have h := it_t h c_15
        refine r_sub (lv' := [(0, .ref a0)]) [0] rfl ?_
        exact hX79 M_11 m_13 h
      · have h := it_f h c_15
        refine r_aload_n C dX17_week_71 (pc' := 72) rfl (j := 0) rfl ?_
        refine r_iload_n C dX17_week_72 (pc' := 73) rfl (j := 1) rfl ?_
        refine r_callVv (As := [.int x1]) (rest := []) (Cn := RX17) (T := TX17) C (mMo.kd m_13 k_a0 (by decide)) (by decide) vc_X17 (S_X17_days (mMo.kd m_13 k_a0 (by decide)) h) (lw_V q1136 q1138 qs40 q129 q1139) rfl hd_X17_days rfl rfl (Nat.le_of_ble_eq_true rfl) (Nat.le_of_ble_eq_true rfl) (Nat.le_of_ble_eq_true rfl) rfl rfl (Nat.le_of_ble_eq_true rfl) (Nat.le_of_ble_eq_true rfl) dX17_week_73 (pc' := 76) rfl (fun M_16 h m_18 => ?_)
        refine r_goto C dX17_week_76 (tgt := 56) (by decide) ?_
        refine r_sub (lv' := [(0, .ref a0), (1, .int x1)]) [0, 1] rfl ?_
        exact ih M_16 (mMo.kd m_18 (mMo.kd m_13 k_a0 (by decide)) (by decide)) h (fun M9 hm9 h9 => hX79 M9 (mMo.tr (mMo.tr m_13 m_18) hm9) h9)
set_option maxHeartbeats 4000000 in
theorem B_X17_week_79 {E : mE} {M : MM} {a0 : Nat} {Post : MM → Prop} (C : mC E yX17_week cX17_week 2 (none) { frames := 3, cells := 0, slots := 0, locals := 66 }) (hE : mEnd E { frames := 3, cells := 0, slots := 0, locals := 66 } (pV_ Post)) (k_a0 : mkd M a0 = 15) (h : wb_X17_week_79 M a0 Post) : mV E M 0 0 79 [(0, .ref a0)] [] := by
  unfold wb_X17_week_79 at h
  refine r_aload_n C dX17_week_79 (pc' := 80) rfl (j := 0) rfl ?_
  refine r_callVi (As := []) (rest := []) (Cn := RX17) (T := TX17) C k_a0 (by decide) vc_X17 (S_X17_isGood k_a0 h) (lw_V q1132 q1134 qs39 q129 q1135) rfl hd_X17_isGood rfl rfl (Nat.le_of_ble_eq_true rfl) (Nat.le_of_ble_eq_true rfl) (Nat.le_of_ble_eq_true rfl) rfl rfl (Nat.le_of_ble_eq_true rfl) (Nat.le_of_ble_eq_true rfl) dX17_week_80 (pc' := 83) rfl (fun r_23 M_22 h m_24 => ?_)
  refine r_if_eq C dX17_week_83 (pc' := 86) rfl (tgt := 103) (by decide) (fun c_25 => ?_) (fun c_25 => ?_)
  · have h := it_t h c_25
    exact r_vret C hE (Nat.le_of_ble_eq_true rfl) (Nat.le_of_ble_eq_true rfl) dX17_week_103 ⟨rfl, h⟩
  · have h := it_f h c_25
    refine r_aload_n C dX17_week_86 (pc' := 87) rfl (j := 0) rfl ?_
    refine r_callVi (As := []) (rest := []) (Cn := RX17) (T := TX17) C (mMo.kd m_24 k_a0 (by decide)) (by decide) vc_X17 (S_X17_seesDays (mMo.kd m_24 k_a0 (by decide)) h) (lw_V q1112 q1114 qs34 q129 q1115) rfl hd_X17_seesDays rfl rfl (Nat.le_of_ble_eq_true rfl) (Nat.le_of_ble_eq_true rfl) (Nat.le_of_ble_eq_true rfl) rfl rfl (Nat.le_of_ble_eq_true rfl) (Nat.le_of_ble_eq_true rfl) dX17_week_87 (pc' := 90) rfl (fun r_27 M_26 h m_28 => ?_)
    refine r_if_eq C dX17_week_90 (pc' := 93) rfl (tgt := 103) (by decide) (fun c_29 => ?_) (fun c_29 => ?_)
    · have h := it_t h c_29
      exact r_vret C hE (Nat.le_of_ble_eq_true rfl) (Nat.le_of_ble_eq_true rfl) dX17_week_103 ⟨rfl, h⟩
    · have h := it_f h c_29
      refine r_aload_n C dX17_week_93 (pc' := 94) rfl (j := 0) rfl ?_
      refine r_bipush C dX17_week_94 (pc' := 96) rfl (v := 6) rfl ?_
      refine r_aload_n C dX17_week_96 (pc' := 97) rfl (j := 0) rfl ?_
      refine r_getf C (Cn := RX17) (T := TX17) 2 (mMo.kd m_28 (mMo.kd m_24 k_a0 (by decide)) (by decide)) (by decide) vc_X17 in_X17 (by decide) q1083 dX17_week_97 (pc' := 100) rfl (v := .int (mgI M_26 a0 2)) rfl ?_
      refine r_callVv (As := [.int (6 : Int32), .int (mgI M_26 a0 2)]) (rest := []) (Cn := RX17) (T := TX17) C (mMo.kd m_28 (mMo.kd m_24 k_a0 (by decide)) (by decide)) (by decide) vc_X17 (S_X17_bad (mMo.kd m_28 (mMo.kd m_24 k_a0 (by decide)) (by decide)) h) (lw_V q1128 q1130 qs38 q129 q1131) rfl hd_X17_bad rfl rfl (Nat.le_of_ble_eq_true rfl) (Nat.le_of_ble_eq_true rfl) (Nat.le_of_ble_eq_true rfl) rfl rfl (Nat.le_of_ble_eq_true rfl) (Nat.le_of_ble_eq_true rfl) dX17_week_100 (pc' := 103) rfl (fun M_30 h m_32 => ?_)
      exact r_vret C hE (Nat.le_of_ble_eq_true rfl) (Nat.le_of_ble_eq_true rfl) dX17_week_103 ⟨rfl, h⟩
set_option maxHeartbeats 4000000 in
theorem B_X17_week_25 {E : mE} {M : MM} {a0 : Nat} {Post : MM → Prop} (C : mC E yX17_week cX17_week 2 (none) { frames := 3, cells := 0, slots := 0, locals := 66 }) (hE : mEnd E { frames := 3, cells := 0, slots := 0, locals := 66 } (pV_ Post)) (k_a0 : mkd M a0 = 15) (h : wb_X17_week_25 M a0 Post) : mV E M 0 0 25 [(0, .ref a0)] [] := by
  unfold wb_X17_week_25 at h
  refine r_aload_n C dX17_week_25 (pc' := 26) rfl (j := 0) rfl ?_
  refine r_getf C (Cn := RX17) (T := TX17) 3 k_a0 (by decide) vc_X17 in_X17 (by decide) q1084 dX17_week_26 (pc' := 29) rfl (v := .int (mgI M a0 3)) rfl ?_
  refine r_bipush C dX17_week_29 (pc' := 31) rfl (v := 7) rfl ?_
  refine r_iadd C dX17_week_31 (pc' := 32) rfl ?_
  obtain ⟨x1_5, e_6, h⟩ := bn_ h
  refine r_istore_n C (lv' := [(1, .int x1_5), (0, .ref a0)]) dX17_week_32 (pc' := 33) rfl rfl x1_5 e_6 (Nat.le_of_ble_eq_true rfl) rfl ?_
  refine r_aload_n C dX17_week_33 (pc' := 34) rfl (j := 1) rfl ?_
  refine r_callVi (As := []) (rest := []) (Cn := RX17) (T := TX17) C k_a0 (by decide) vc_X17 (S_X17_isGood k_a0 h) (lw_V q1132 q1134 qs39 q129 q1135) rfl hd_X17_isGood rfl rfl (Nat.le_of_ble_eq_true rfl) (Nat.le_of_ble_eq_true rfl) (Nat.le_of_ble_eq_true rfl) rfl rfl (Nat.le_of_ble_eq_true rfl) (Nat.le_of_ble_eq_true rfl) dX17_week_34 (pc' := 37) rfl (fun r_8 M_7 h m_9 => ?_)
  refine r_if_eq C dX17_week_37 (pc' := 40) rfl (tgt := 56) (by decide) (fun c_10 => ?_) (fun c_10 => ?_)
  · have h := it_t h c_10
    obtain ⟨n_19, h⟩ := h
    refine r_sub (lv' := [(0, .ref a0), (1, .int x1_5)]) [1, 0] rfl ?_
    refine B_X17_week_56 C hE n_19 M_7 (mMo.kd m_9 k_a0 (by decide)) h (fun M_20 m_21 h => ?_)
    refine r_sub (lv' := [(0, .ref a0)]) [0] rfl ?_
    exact B_X17_week_79 C hE (mMo.kd m_21 (mMo.kd m_9 k_a0 (by decide)) (by decide)) h
  · have h := it_f h c_10
    refine r_aload_n C dX17_week_40 (pc' := 41) rfl (j := 1) rfl ?_
    refine r_callVi (As := []) (rest := []) (Cn := RX17) (T := TX17) C (mMo.kd m_9 k_a0 (by decide)) (by decide) vc_X17 (S_X17_seesDays (mMo.kd m_9 k_a0 (by decide)) h) (lw_V q1112 q1114 qs34 q129 q1115) rfl hd_X17_seesDays rfl rfl (Nat.le_of_ble_eq_true rfl) (Nat.le_of_ble_eq_true rfl) (Nat.le_of_ble_eq_true rfl) rfl rfl (Nat.le_of_ble_eq_true rfl) (Nat.le_of_ble_eq_true rfl) dX17_week_41 (pc' := 44) rfl (fun r_34 M_33 h m_35 => ?_)
    refine r_if_ne C dX17_week_44 (pc' := 47) rfl (tgt := 56) (by decide) (fun c_36 => ?_) (fun c_36 => ?_)
    · have h := it_f h c_36
      obtain ⟨n_37, h⟩ := h
      refine r_sub (lv' := [(0, .ref a0), (1, .int x1_5)]) [1, 0] rfl ?_
      refine B_X17_week_56 C hE n_37 M_33 (mMo.kd m_35 (mMo.kd m_9 k_a0 (by decide)) (by decide)) h (fun M_38 m_39 h => ?_)
      refine r_sub (lv' := [(0, .ref a0)]) [0] rfl ?_
      exact B_X17_week_79 C hE (mMo.kd m_39 (mMo.kd m_35 (mMo.kd m_9 k_a0 (by decide)) (by decide)) (by decide)) h
    · have h := it_t h c_36
      refine r_aload_n C dX17_week_47 (pc' := 48) rfl (j := 1) rfl ?_
      refine r_iconst C dX17_week_48 (pc' := 49) rfl (v := 1) rfl ?_
      refine r_aload_n C dX17_week_49 (pc' := 50) rfl (j := 1) rfl ?_
      refine r_getf C (Cn := RX17) (T := TX17) 2 (mMo.kd m_35 (mMo.kd m_9 k_a0 (by decide)) (by decide)) (by decide) vc_X17 in_X17 (by decide) q1083 dX17_week_50 (pc' := 53) rfl (v := .int (mgI M_33 a0 2)) rfl ?_
      refine r_callVv (As := [.int (1 : Int32), .int (mgI M_33 a0 2)]) (rest := []) (Cn := RX17) (T := TX17) C (mMo.kd m_35 (mMo.kd m_9 k_a0 (by decide)) (by decide)) (by decide) vc_X17 (S_X17_bad (mMo.kd m_35 (mMo.kd m_9 k_a0 (by decide)) (by decide)) h) (lw_V q1128 q1130 qs38 q129 q1131) rfl hd_X17_bad rfl rfl (Nat.le_of_ble_eq_true rfl) (Nat.le_of_ble_eq_true rfl) (Nat.le_of_ble_eq_true rfl) rfl rfl (Nat.le_of_ble_eq_true rfl) (Nat.le_of_ble_eq_true rfl) dX17_week_53 (pc' := 56) rfl (fun M_40 h m_42 => ?_)
      obtain ⟨n_43, h⟩ := h
      refine r_sub (lv' := [(0, .ref a0), (1, .int x1_5)]) [1, 0] rfl ?_
      refine B_X17_week_56 C hE n_43 M_40 (mMo.kd m_42 (mMo.kd m_35 (mMo.kd m_9 k_a0 (by decide)) (by decide)) (by decide)) h (fun M_44 m_45 h => ?_)
      refine r_sub (lv' := [(0, .ref a0)]) [0] rfl ?_
      exact B_X17_week_79 C hE (mMo.kd m_45 (mMo.kd m_42 (mMo.kd m_35 (mMo.kd m_9 k_a0 (by decide)) (by decide)) (by decide)) (by decide)) h
set_option maxHeartbeats 4000000 in
theorem S_X17_week {D : DD} {l : Launch} {M : MM} {a0 : Nat} {Post : MM → Prop} (k_a0 : mkd M a0 = 15) (h : wp_X17_week M a0 Post) : mMet D l yX17_week cX17_week 2 (none) { frames := 3, cells := 0, slots := 0, locals := 66 } M [.ref a0] (pV_ Post) := by
  refine m_of2 [(0, .ref a0)] (by decide +kernel) (Nat.le_of_ble_eq_true rfl) rfl (fun E hED hEl C hE => ?_)
  subst hED
  subst hEl
  unfold wp_X17_week at h
  refine r_aload_n C dX17_week_0 (pc' := 1) rfl (j := 0) rfl ?_
  refine r_callVi (As := []) (rest := []) (Cn := RX17) (T := TX17) C k_a0 (by decide) vc_X17 (S_X17_seesDays k_a0 h) (lw_V q1112 q1114 qs34 q129 q1115) rfl hd_X17_seesDays rfl rfl (Nat.le_of_ble_eq_true rfl) (Nat.le_of_ble_eq_true rfl) (Nat.le_of_ble_eq_true rfl) rfl rfl (Nat.le_of_ble_eq_true rfl) (Nat.le_of_ble_eq_true rfl) dX17_week_1 (pc' := 4) rfl (fun r_2 M_1 h m_3 => ?_)
  refine r_if_eq C dX17_week_4 (pc' := 7) rfl (tgt := 25) (by decide) (fun c_4 => ?_) (fun c_4 => ?_)
  · have h := it_t h c_4
    refine r_sub (lv' := [(0, .ref a0)]) [0] rfl ?_
    exact B_X17_week_25 C hE (mMo.kd m_3 k_a0 (by decide)) h
  · have h := it_f h c_4
    refine r_aload_n C dX17_week_7 (pc' := 8) rfl (j := 0) rfl ?_
    refine r_getf C (Cn := RX17) (T := TX17) 3 (mMo.kd m_3 k_a0 (by decide)) (by decide) vc_X17 in_X17 (by decide) q1084 dX17_week_8 (pc' := 11) rfl (v := .int (mgI M_1 a0 3)) rfl ?_
    refine r_bipush C dX17_week_11 (pc' := 13) rfl (v := 84) rfl ?_
    refine r_icmp_ne C dX17_week_13 (pc' := 16) rfl (tgt := 25) (by decide) (fun c_46 => ?_) (fun c_46 => ?_)
    · have h := it_f h c_46
      refine r_sub (lv' := [(0, .ref a0)]) [0] rfl ?_
      exact B_X17_week_25 C hE (mMo.kd m_3 k_a0 (by decide)) h
    · have h := it_t h c_46
      refine r_aload_n C dX17_week_16 (pc' := 17) rfl (j := 0) rfl ?_
      refine r_iconst C dX17_week_17 (pc' := 18) rfl (v := 4) rfl ?_
      refine r_aload_n C dX17_week_18 (pc' := 19) rfl (j := 0) rfl ?_
      refine r_getf C (Cn := RX17) (T := TX17) 2 (mMo.kd m_3 k_a0 (by decide)) (by decide) vc_X17 in_X17 (by decide) q1083 dX17_week_19 (pc' := 22) rfl (v := .int (mgI M_1 a0 2)) rfl ?_
      refine r_callVv (As := [.int (4 : Int32), .int (mgI M_1 a0 2)]) (rest := []) (Cn := RX17) (T := TX17) C (mMo.kd m_3 k_a0 (by decide)) (by decide) vc_X17 (S_X17_bad (mMo.kd m_3 k_a0 (by decide)) h) (lw_V q1128 q1130 qs38 q129 q1131) rfl hd_X17_bad rfl rfl (Nat.le_of_ble_eq_true rfl) (Nat.le_of_ble_eq_true rfl) (Nat.le_of_ble_eq_true rfl) rfl rfl (Nat.le_of_ble_eq_true rfl) (Nat.le_of_ble_eq_true rfl) dX17_week_22 (pc' := 25) rfl (fun M_47 h m_49 => ?_)
      refine r_sub (lv' := [(0, .ref a0)]) [0] rfl ?_
      exact B_X17_week_25 C hE (mMo.kd m_49 (mMo.kd m_3 k_a0 (by decide)) (by decide)) h
set_option maxHeartbeats 4000000 in
theorem B_X17_read_40 {E : mE} {M : MM} {a0 : Nat} {R : MM → Prop} {X64 : MM → Prop} {Post : Int32 → MM → Prop} (C : mC E yX17_read cX17_read 1 ((some .int)) { frames := 4, cells := 0, slots := 0, locals := 87 }) (hE : mEnd E { frames := 4, cells := 0, slots := 0, locals := 87 } (pI_ Post)) (k_a0 : mkd M a0 = 15) (h : wb_X17_read_40 M a0 R X64) (hR : ∀ (M' : MM), mMo M M' → mkd M' a0 = 15 → R M' → mV E M' 0 0 4 [(0, .ref a0)] []) (hX64 : ∀ (M' : MM), mMo M M' → X64 M' → mV E M' 0 0 64 [(0, .ref a0)] []) : mV E M 0 0 40 [(0, .ref a0)] [] := by
  unfold wb_X17_read_40 at h
  refine r_aload_n C dX17_read_40 (pc' := 41) rfl (j := 0) rfl ?_
  refine r_dup C dX17_read_41 (pc' := 42) rfl rfl ?_
  refine r_getf C (Cn := RX17) (T := TX17) 2 k_a0 (by decide) vc_X17 in_X17 (by decide) q1083 dX17_read_42 (pc' := 45) rfl (v := .int (mgI M a0 2)) rfl ?_
  refine r_iconst C dX17_read_45 (pc' := 46) rfl (v := 1) rfl ?_
  refine r_iadd C dX17_read_46 (pc' := 47) rfl ?_
  obtain ⟨M_13, e_14, h⟩ := bn_ h
  refine r_putI C (Cn := RX17) (T := TX17) tyX17 2 k_a0 (by decide) vc_X17 in_X17 tyX17_ok nmX17 (by decide) q1083 rfl rfl dX17_read_47 (pc' := 50) rfl rfl rfl M_13 e_14 ?_
  refine r_aload_n C dX17_read_50 (pc' := 51) rfl (j := 0) rfl ?_
  refine r_callVi (As := []) (rest := []) (Cn := RX17) (T := TX17) C (mMo.kd (mo_I e_14) k_a0 (by decide)) (by decide) vc_X17 (S_X17_isGood (mMo.kd (mo_I e_14) k_a0 (by decide)) h) (lw_V q1132 q1134 qs39 q129 q1135) rfl hd_X17_isGood rfl rfl (Nat.le_of_ble_eq_true rfl) (Nat.le_of_ble_eq_true rfl) (Nat.le_of_ble_eq_true rfl) rfl rfl (Nat.le_of_ble_eq_true rfl) (Nat.le_of_ble_eq_true rfl) dX17_read_51 (pc' := 54) rfl (fun r_16 M_15 h m_17 => ?_)
  refine r_if_eq C dX17_read_54 (pc' := 57) rfl (tgt := 4) (by decide) (fun c_18 => ?_) (fun c_18 => ?_)
  · have h := it_t h c_18
    refine r_sub (lv' := [(0, .ref a0)]) [0] rfl ?_
    exact hR M_15 (mMo.tr (mo_I e_14) m_17) (mMo.kd m_17 (mMo.kd (mo_I e_14) k_a0 (by decide)) (by decide)) h
  · have h := it_f h c_18
    refine r_aload_n C dX17_read_57 (pc' := 58) rfl (j := 0) rfl ?_
    refine r_callVv (As := []) (rest := []) (Cn := RX17) (T := TX17) C (mMo.kd m_17 (mMo.kd (mo_I e_14) k_a0 (by decide)) (by decide)) (by decide) vc_X17 (S_X17_week (mMo.kd m_17 (mMo.kd (mo_I e_14) k_a0 (by decide)) (by decide)) h) (lw_V q1108 q1110 qs33 q129 q1111) rfl hd_X17_week rfl rfl (Nat.le_of_ble_eq_true rfl) (Nat.le_of_ble_eq_true rfl) (Nat.le_of_ble_eq_true rfl) rfl rfl (Nat.le_of_ble_eq_true rfl) (Nat.le_of_ble_eq_true rfl) dX17_read_58 (pc' := 61) rfl (fun M_19 h m_21 => ?_)
    refine r_goto C dX17_read_61 (tgt := 4) (by decide) ?_
    refine r_sub (lv' := [(0, .ref a0)]) [0] rfl ?_
    exact hR M_19 (mMo.tr (mMo.tr (mo_I e_14) m_17) m_21) (mMo.kd m_21 (mMo.kd m_17 (mMo.kd (mo_I e_14) k_a0 (by decide)) (by decide)) (by decide)) h
set_option maxHeartbeats 4000000 in
theorem B_X17_read_4 {E : mE} {a0 : Nat} {X64 : MM → Prop} {Post : Int32 → MM → Prop} (C : mC E yX17_read cX17_read 1 ((some .int)) { frames := 4, cells := 0, slots := 0, locals := 87 }) (hE : mEnd E { frames := 4, cells := 0, slots := 0, locals := 87 } (pI_ Post)) : ∀ (n_ : Nat) (M : MM), mkd M a0 = 15 → wl_X17_read_4 a0 X64 n_ M → (∀ (M' : MM), mMo M M' → X64 M' → mV E M' 0 0 64 [(0, .ref a0)] []) → mV E M 0 0 4 [(0, .ref a0)] [] := by
  intro n_
  induction n_ with
  | zero =>
    intro M k_a0 h hX64
    exact absurd h (by rw [wl_X17_read_4]; exact fun q => q)
  | succ n_ ih =>
    intro M k_a0 h hX64
    rw [wl_X17_read_4] at h
    refine r_aload_n C dX17_read_4 (pc' := 5) rfl (j := 0) rfl ?_
    refine r_callVi (As := []) (rest := []) (Cn := RX17) (T := TX17) C k_a0 (by decide) vc_X17 (S_X17_isGood k_a0 h) (lw_V q1132 q1134 qs39 q129 q1135) rfl hd_X17_isGood rfl rfl (Nat.le_of_ble_eq_true rfl) (Nat.le_of_ble_eq_true rfl) (Nat.le_of_ble_eq_true rfl) rfl rfl (Nat.le_of_ble_eq_true rfl) (Nat.le_of_ble_eq_true rfl) dX17_read_5 (pc' := 8) rfl (fun r_5 M_4 h m_6 => ?_)
    refine r_if_eq C dX17_read_8 (pc' := 11) rfl (tgt := 64) (by decide) (fun c_7 => ?_) (fun c_7 => ?_)
    · have h := it_t h c_7
      refine r_sub (lv' := [(0, .ref a0)]) [0] rfl ?_
      exact hX64 M_4 m_6 h
    · have h := it_f h c_7
      refine r_aload_n C dX17_read_11 (pc' := 12) rfl (j := 0) rfl ?_
      refine r_getf C (Cn := RX17) (T := TX17) 2 (mMo.kd m_6 k_a0 (by decide)) (by decide) vc_X17 in_X17 (by decide) q1083 dX17_read_12 (pc' := 15) rfl (v := .int (mgI M_4 a0 2)) rfl ?_
      refine r_aload_n C dX17_read_15 (pc' := 16) rfl (j := 0) rfl ?_
      refine r_getf C (Cn := RX17) (T := TX17) 1 (mMo.kd m_6 k_a0 (by decide)) (by decide) vc_X17 in_X17 (by decide) q1082 dX17_read_16 (pc' := 19) rfl (v := .int (mgI M_4 a0 1)) rfl ?_
      refine r_icmp_ge C dX17_read_19 (pc' := 22) rfl (tgt := 64) (by decide) (fun c_8 => ?_) (fun c_8 => ?_)
      · have h := it_t h c_8
        refine r_sub (lv' := [(0, .ref a0)]) [0] rfl ?_
        exact hX64 M_4 m_6 h
      · have h := it_f h c_8
        refine r_aload_n C dX17_read_22 (pc' := 23) rfl (j := 0) rfl ?_
        refine r_callVi (As := []) (rest := []) (Cn := RX17) (T := TX17) C (mMo.kd m_6 k_a0 (by decide)) (by decide) vc_X17 (S_X17_here (mMo.kd m_6 k_a0 (by decide)) h) (lw_V q1116 q1118 qs35 q129 q1119) rfl hd_X17_here rfl rfl (Nat.le_of_ble_eq_true rfl) (Nat.le_of_ble_eq_true rfl) (Nat.le_of_ble_eq_true rfl) rfl rfl (Nat.le_of_ble_eq_true rfl) (Nat.le_of_ble_eq_true rfl) dX17_read_23 (pc' := 26) rfl (fun r_10 M_9 h m_11 => ?_)
        refine r_bipush C dX17_read_26 (pc' := 28) rfl (v := 47) rfl ?_
        refine r_icmp_eq C dX17_read_28 (pc' := 31) rfl (tgt := 40) (by decide) (fun c_12 => ?_) (fun c_12 => ?_)
        · have h := it_t h c_12
          refine r_sub (lv' := [(0, .ref a0)]) [0] rfl ?_
          exact B_X17_read_40 C hE (mMo.kd m_11 (mMo.kd m_6 k_a0 (by decide)) (by decide)) h (fun M8 hm8 g0 h8 => ih M8 g0 h8 (fun M9 hm9 h9 => hX64 M9 (mMo.tr (mMo.tr (mMo.tr m_6 m_11) hm8) hm9) h9)) (fun M9 hm9 h9 => hX64 M9 (mMo.tr (mMo.tr m_6 m_11) hm9) h9)
        · have h := it_f h c_12
          refine r_aload_n C dX17_read_31 (pc' := 32) rfl (j := 0) rfl ?_
          refine r_iconst C dX17_read_32 (pc' := 33) rfl (v := 1) rfl ?_
          refine r_aload_n C dX17_read_33 (pc' := 34) rfl (j := 0) rfl ?_
          refine r_getf C (Cn := RX17) (T := TX17) 2 (mMo.kd m_11 (mMo.kd m_6 k_a0 (by decide)) (by decide)) (by decide) vc_X17 in_X17 (by decide) q1083 dX17_read_34 (pc' := 37) rfl (v := .int (mgI M_9 a0 2)) rfl ?_
          refine r_callVv (As := [.int (1 : Int32), .int (mgI M_9 a0 2)]) (rest := []) (Cn := RX17) (T := TX17) C (mMo.kd m_11 (mMo.kd m_6 k_a0 (by decide)) (by decide)) (by decide) vc_X17 (S_X17_bad (mMo.kd m_11 (mMo.kd m_6 k_a0 (by decide)) (by decide)) h) (lw_V q1128 q1130 qs38 q129 q1131) rfl hd_X17_bad rfl rfl (Nat.le_of_ble_eq_true rfl) (Nat.le_of_ble_eq_true rfl) (Nat.le_of_ble_eq_true rfl) rfl rfl (Nat.le_of_ble_eq_true rfl) (Nat.le_of_ble_eq_true rfl) dX17_read_37 (pc' := 40) rfl (fun M_22 h m_24 => ?_)
          refine r_sub (lv' := [(0, .ref a0)]) [0] rfl ?_
          exact B_X17_read_40 C hE (mMo.kd m_24 (mMo.kd m_11 (mMo.kd m_6 k_a0 (by decide)) (by decide)) (by decide)) h (fun M8 hm8 g0 h8 => ih M8 g0 h8 (fun M9 hm9 h9 => hX64 M9 (mMo.tr (mMo.tr (mMo.tr (mMo.tr m_6 m_11) m_24) hm8) hm9) h9)) (fun M9 hm9 h9 => hX64 M9 (mMo.tr (mMo.tr (mMo.tr m_6 m_11) m_24) hm9) h9)
set_option maxHeartbeats 4000000 in
theorem B_X17_read_64 {E : mE} {M : MM} {a0 : Nat} {Post : Int32 → MM → Prop} (C : mC E yX17_read cX17_read 1 ((some .int)) { frames := 4, cells := 0, slots := 0, locals := 87 }) (hE : mEnd E { frames := 4, cells := 0, slots := 0, locals := 87 } (pI_ Post)) (k_a0 : mkd M a0 = 15) (h : wb_X17_read_64 M a0 Post) : mV E M 0 0 64 [(0, .ref a0)] [] := by
  unfold wb_X17_read_64 at h
  refine r_aload_n C dX17_read_64 (pc' := 65) rfl (j := 0) rfl ?_
  refine r_callVi (As := []) (rest := []) (Cn := RX17) (T := TX17) C k_a0 (by decide) vc_X17 (S_X17_isGood k_a0 h) (lw_V q1132 q1134 qs39 q129 q1135) rfl hd_X17_isGood rfl rfl (Nat.le_of_ble_eq_true rfl) (Nat.le_of_ble_eq_true rfl) (Nat.le_of_ble_eq_true rfl) rfl rfl (Nat.le_of_ble_eq_true rfl) (Nat.le_of_ble_eq_true rfl) dX17_read_65 (pc' := 68) rfl (fun r_29 M_28 h m_30 => ?_)
  refine r_if_eq C dX17_read_68 (pc' := 71) rfl (tgt := 78) (by decide) (fun c_31 => ?_) (fun c_31 => ?_)
  · have h := it_t h c_31
    refine r_sipush C dX17_read_78 (pc' := 81) rfl (v := -1000) rfl ?_
    refine r_aload_n C dX17_read_81 (pc' := 82) rfl (j := 0) rfl ?_
    refine r_getf C (Cn := RX17) (T := TX17) 4 (mMo.kd m_30 k_a0 (by decide)) (by decide) vc_X17 in_X17 (by decide) q1086 dX17_read_82 (pc' := 85) rfl (v := .int (mgI M_28 a0 4)) rfl ?_
    refine r_imul C dX17_read_85 (pc' := 86) rfl ?_
    refine r_aload_n C dX17_read_86 (pc' := 87) rfl (j := 0) rfl ?_
    refine r_getf C (Cn := RX17) (T := TX17) 5 (mMo.kd m_30 k_a0 (by decide)) (by decide) vc_X17 in_X17 (by decide) q1087 dX17_read_87 (pc' := 90) rfl (v := .int (mgI M_28 a0 5)) rfl ?_
    refine r_isub C dX17_read_90 (pc' := 91) rfl ?_
    exact r_iret C hE (Nat.le_of_ble_eq_true rfl) (Nat.le_of_ble_eq_true rfl) dX17_read_91 ⟨_, rfl, h⟩
  · have h := it_f h c_31
    refine r_aload_n C dX17_read_71 (pc' := 72) rfl (j := 0) rfl ?_
    refine r_getf C (Cn := RX17) (T := TX17) 3 (mMo.kd m_30 k_a0 (by decide)) (by decide) vc_X17 in_X17 (by decide) q1084 dX17_read_72 (pc' := 75) rfl (v := .int (mgI M_28 a0 3)) rfl ?_
    refine r_goto C dX17_read_75 (tgt := 91) (by decide) ?_
    exact r_iret C hE (Nat.le_of_ble_eq_true rfl) (Nat.le_of_ble_eq_true rfl) dX17_read_91 ⟨_, rfl, h⟩
set_option maxHeartbeats 4000000 in
theorem S_X17_read {D : DD} {l : Launch} {M : MM} {a0 : Nat} {Post : Int32 → MM → Prop} (k_a0 : mkd M a0 = 15) (h : wp_X17_read M a0 Post) : mMet D l yX17_read cX17_read 1 ((some .int)) { frames := 4, cells := 0, slots := 0, locals := 87 } M [.ref a0] (pI_ Post) := by
  refine m_of2 [(0, .ref a0)] (by decide +kernel) (Nat.le_of_ble_eq_true rfl) rfl (fun E hED hEl C hE => ?_)
  subst hED
  subst hEl
  unfold wp_X17_read at h
  refine r_aload_n C dX17_read_0 (pc' := 1) rfl (j := 0) rfl ?_
  refine r_callVv (As := []) (rest := []) (Cn := RX17) (T := TX17) C k_a0 (by decide) vc_X17 (S_X17_week k_a0 h) (lw_V q1108 q1110 qs33 q129 q1111) rfl hd_X17_week rfl rfl (Nat.le_of_ble_eq_true rfl) (Nat.le_of_ble_eq_true rfl) (Nat.le_of_ble_eq_true rfl) rfl rfl (Nat.le_of_ble_eq_true rfl) (Nat.le_of_ble_eq_true rfl) dX17_read_1 (pc' := 4) rfl (fun M_1 h m_3 => ?_)
  obtain ⟨n_25, h⟩ := h
  refine r_sub (lv' := [(0, .ref a0)]) [0] rfl ?_
  refine B_X17_read_4 C hE n_25 M_1 (mMo.kd m_3 k_a0 (by decide)) h (fun M_26 m_27 h => ?_)
  refine r_sub (lv' := [(0, .ref a0)]) [0] rfl ?_
  exact B_X17_read_64 C hE (mMo.kd m_27 (mMo.kd m_3 k_a0 (by decide)) (by decide)) h
