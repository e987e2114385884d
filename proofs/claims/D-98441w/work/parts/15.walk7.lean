set_option maxRecDepth 100000
def wb_X7_tried_173 (M : MM) (a0 : Nat) (xs0 : Int32) (Post : Int32 → MM → Prop) : Prop :=
  ∃ b_31, mgR M a0 1 = some b_31 ∧ mkd M b_31 = 100 ∧ ∃ b_34, mgR M a0 0 = some b_34 ∧ mkd M b_34 = 100 ∧ wp_X7_copies M b_31 b_34 (fun M_37 => Post xs0 M_37)
def wb_X7_tried_58 (M : MM) (a0 : Nat) (x1 : Int32) (x2 : Int32) (xs0 : Int32) (Post : Int32 → MM → Prop) : Prop :=
  wp_X7_in M x1 (1 : Int32) (60 : Int32) (fun r_6 M_5 => if r_6 = 0 then (Post (-1 : Int32) M_5)
  else (if xs0 = 0 then (Post (-1 : Int32) M_5)
  else (∃ b_10, mgR M_5 a0 0 = some b_10 ∧ mkd M_5 b_10 = 100 ∧ ∃ b_13, mgR M_5 a0 1 = some b_13 ∧ mkd M_5 b_13 = 100 ∧ wp_X7_copies M_5 b_10 b_13 (fun M_16 => wp_X7_daysGo M_16 a0 x1 (fun M_19 => if x2 = 0 then (wb_X7_tried_173 M_19 a0 (mgI M_19 a0 27) Post)
  else (if x2 = (1 : Int32) then (wb_X7_tried_173 M_19 a0 (mgI M_19 a0 28) Post)
  else (if x2 = (2 : Int32) then (∃ b_44, mgR M_19 a0 0 = some b_44 ∧ mkd M_19 b_44 = 100 ∧ 77 < mln M_19 b_44 ∧ wp_X7_bits M_19 (mgI M_19 b_44 77) (fun r_49 M_48 => wb_X7_tried_173 M_48 a0 r_49 Post))
  else (if x2 = (3 : Int32) then (wb_X7_tried_173 M_19 a0 (mgI M_19 a0 29) Post)
  else (if (20 : Int32) ≤ x2 then (∃ b_27, mgR M_19 a0 30 = some b_27 ∧ mkd M_19 b_27 = 100 ∧ vp_in (x2 - (20 : Int32)) (mln M_19 b_27) ∧ wb_X7_tried_173 M_19 a0 (mgI M_19 b_27 (ix_ (x2 - (20 : Int32)))) Post)
  else (∃ b_40, mgR M_19 a0 0 = some b_40 ∧ mkd M_19 b_40 = 100 ∧ vp_in (((4 : Int32) + x2) - (10 : Int32)) (mln M_19 b_40) ∧ wb_X7_tried_173 M_19 a0 (mgI M_19 b_40 (ix_ (((4 : Int32) + x2) - (10 : Int32)))) Post))))))))))
def wb_X7_tried_53 (M : MM) (a0 : Nat) (x1 : Int32) (x2 : Int32) (Post : Int32 → MM → Prop) : Prop :=
  wb_X7_tried_58 M a0 x1 x2 (1 : Int32) Post
def wb_X7_tried_57 (M : MM) (a0 : Nat) (x1 : Int32) (x2 : Int32) (Post : Int32 → MM → Prop) : Prop :=
  wb_X7_tried_58 M a0 x1 x2 (0 : Int32) Post
def wb_X7_tried_31 (M : MM) (a0 : Nat) (x1 : Int32) (x2 : Int32) (Post : Int32 → MM → Prop) : Prop :=
  wp_X7_in M x2 (20 : Int32) (27 : Int32) (fun r_56 M_55 => if r_56 = 0 then (wb_X7_tried_57 M_55 a0 x1 x2 Post)
  else (wp_X7_isPerson M_55 a0 (x2 - (20 : Int32)) (fun r_60 M_59 => if r_60 = 0 then (wb_X7_tried_57 M_59 a0 x1 x2 Post)
  else (wb_X7_tried_53 M_59 a0 x1 x2 Post))))
def wp_X7_tried (M : MM) (a0 : Nat) (x1 : Int32) (x2 : Int32) (Post : Int32 → MM → Prop) : Prop :=
  wp_X7_in M x2 (0 : Int32) (3 : Int32) (fun r_2 M_1 => if r_2 = 0 then (wp_X7_in M_1 x2 (10 : Int32) (13 : Int32) (fun r_52 M_51 => if r_52 = 0 then (wb_X7_tried_31 M_51 a0 x1 x2 Post)
  else (wp_X7_isPlant M_51 a0 (x2 - (10 : Int32)) (fun r_64 M_63 => if r_64 = 0 then (wb_X7_tried_31 M_63 a0 x1 x2 Post)
  else (wb_X7_tried_53 M_63 a0 x1 x2 Post)))))
  else (wb_X7_tried_53 M_1 a0 x1 x2 Post))
def wp_X7_plantIs (M : MM) (a0 : Nat) (x1 : Int32) (x2 : Int32) (Post : Int32 → MM → Prop) : Prop :=
  wp_X7_isPlant M a0 x1 (fun r_2 M_1 => if r_2 = 0 then (Post (-1 : Int32) M_1)
  else (if x2 = 0 then (∃ b_6, mgR M_1 a0 0 = some b_6 ∧ mkd M_1 b_6 = 100 ∧ vp_in ((0 : Int32) + x1) (mln M_1 b_6) ∧ Post (mgI M_1 b_6 (ix_ ((0 : Int32) + x1))) M_1)
  else (if x2 = 1 then (∃ b_11, mgR M_1 a0 0 = some b_11 ∧ mkd M_1 b_11 = 100 ∧ vp_in ((4 : Int32) + x1) (mln M_1 b_11) ∧ Post (mgI M_1 b_11 (ix_ ((4 : Int32) + x1))) M_1)
  else (if x2 = 2 then (∃ b_16, mgR M_1 a0 0 = some b_16 ∧ mkd M_1 b_16 = 100 ∧ vp_in ((8 : Int32) + x1) (mln M_1 b_16) ∧ Post (mgI M_1 b_16 (ix_ ((8 : Int32) + x1))) M_1)
  else (if x2 = 3 then (∃ b_21, mgR M_1 a0 0 = some b_21 ∧ mkd M_1 b_21 = 100 ∧ vp_in ((12 : Int32) + x1) (mln M_1 b_21) ∧ Post (mgI M_1 b_21 (ix_ ((12 : Int32) + x1))) M_1)
  else (if x2 = 4 then (∃ b_26, mgR M_1 a0 0 = some b_26 ∧ mkd M_1 b_26 = 100 ∧ vp_in ((16 : Int32) + x1) (mln M_1 b_26) ∧ Post (mgI M_1 b_26 (ix_ ((16 : Int32) + x1))) M_1)
  else (if x2 = 5 then (wp_X7_lives M_1 a0 x1 (fun r_32 M_31 => if r_32 = 0 then (Post (1 : Int32) M_31)
  else (Post (0 : Int32) M_31)))
  else (if x2 = 6 then (∃ b_36, mgR M_1 a0 0 = some b_36 ∧ mkd M_1 b_36 = 100 ∧ vp_in ((20 : Int32) + x1) (mln M_1 b_36) ∧ Post (mgI M_1 b_36 (ix_ ((20 : Int32) + x1))) M_1)
  else (wp_X7_in M_1 x2 (10 : Int32) (16 : Int32) (fun r_41 M_40 => if r_41 = 0 then (Post (-1 : Int32) M_40)
  else (∃ b_44, mgR M_40 a0 0 = some b_44 ∧ mkd M_40 b_44 = 100 ∧ vp_in ((((24 : Int32) + ((7 : Int32) * x1)) + x2) - (10 : Int32)) (mln M_40 b_44) ∧ Post (mgI M_40 b_44 (ix_ ((((24 : Int32) + ((7 : Int32) * x1)) + x2) - (10 : Int32)))) M_40)))))))))))
def wl_X7_laysSome_4 (a0 : Nat) (x1 : Int32) (X58 : MM → Int32 → Prop) : Nat → MM → Int32 → Int32 → Prop
  | 0, _, _, _ => False
  | n_ + 1, M, x2, x3 =>
  if (8 : Int32) ≤ x3 then (X58 M x2)
  else (if x1 ≤ x2 then (X58 M x2)
  else (wp_X7_isPerson M a0 x3 (fun r_4 M_3 => if r_4 = 0 then (∀ x3_27, x3_27 = x3 + 1 → wl_X7_laysSome_4 a0 x1 X58 n_ M_3 x2 x3_27)
  else (∃ b_7, mgR M_3 a0 35 = some b_7 ∧ mkd M_3 b_7 = 100 ∧ vp_in x2 (mln M_3 b_7) ∧ ∀ M_11, M_11 = msI M_3 b_7 (ix_ x2) x3 → ∃ b_13, mgR M_11 a0 36 = some b_13 ∧ mkd M_11 b_13 = 100 ∧ ∃ b_16, mgR M_11 a0 0 = some b_16 ∧ mkd M_11 b_16 = 100 ∧ vp_in ((52 : Int32) + x3) (mln M_11 b_16) ∧ vp_in x2 (mln M_11 b_13) ∧ ∀ M_21, M_21 = msI M_11 b_13 (ix_ x2) (mgI M_11 b_16 (ix_ ((52 : Int32) + x3))) → ∀ x2_23, x2_23 = x2 + (1 : Int32) → ∀ x3_25, x3_25 = x3 + 1 → wl_X7_laysSome_4 a0 x1 X58 n_ M_21 x2_23 x3_25))))
def wb_X7_laysSome_58 (M : MM) (x1 : Int32) (x2 : Int32) (Post : Int32 → MM → Prop) : Prop :=
  if x2 = x1 then (Post (1 : Int32) M)
  else (Post (0 : Int32) M)
def wp_X7_laysSome (M : MM) (a0 : Nat) (x1 : Int32) (Post : Int32 → MM → Prop) : Prop :=
  ∃ n_29, wl_X7_laysSome_4 a0 x1
    (fun (M_30 : MM) (x2_32 : Int32) => wb_X7_laysSome_58 M_30 x1 x2_32 Post) n_29 M (0 : Int32) (0 : Int32)
def wp_X7_canGo (M : MM) (a0 : Nat) (x1 : Int32) (x2 : Int32) (x3 : Int32) (Post : Int32 → MM → Prop) : Prop :=
  wp_X7_lives M a0 x1 (fun r_2 M_1 => if r_2 = 0 then (Post (0 : Int32) M_1)
  else (wp_X7_in M_1 x2 (1 : Int32) (9 : Int32) (fun r_6 M_5 => if r_6 = 0 then (Post (0 : Int32) M_5)
  else (wp_X7_in M_5 x3 (1 : Int32) (3 : Int32) (fun r_10 M_9 => if r_10 = 0 then (Post (0 : Int32) M_9)
  else (if (18 : Int32) < (x2 * (x3 + (1 : Int32))) then (Post (0 : Int32) M_9)
  else (wp_X7_laysSome M_9 a0 x3 (fun r_15 M_14 => if r_15 = 0 then (Post (0 : Int32) M_14)
  else (∀ M_18, M_18 = msI M_14 a0 33 x1 → ∃ b_20, mgR M_18 a0 0 = some b_20 ∧ mkd M_18 b_20 = 100 ∧ vp_in ((4 : Int32) + x1) (mln M_18 b_20) ∧ ∀ M_24, M_24 = msI M_18 a0 34 (mgI M_18 b_20 (ix_ ((4 : Int32) + x1))) → Post (1 : Int32) M_24)))))))))
def wp_X7_drownedIn (M : MM) (x0 : Int32) (Post : Int32 → MM → Prop) : Prop :=
  if (10 : Int32) ≤ (rm_ x0 (20 : Int32)) then (Post ((rm_ x0 (20 : Int32)) - (10 : Int32)) M)
  else (Post (0 : Int32) M)
def wp_X7_dryIn (M : MM) (x0 : Int32) (Post : Int32 → MM → Prop) : Prop :=
  if (10 : Int32) ≤ (rm_ x0 (20 : Int32)) then (Post (0 : Int32) M)
  else (Post (rm_ x0 (20 : Int32)) M)
def wp_X7_feelsState (M : MM) (a0 : Nat) (x1 : Int32) (x2 : Int32) (Post : MM → Prop) : Prop :=
  wp_X7_feelsPlant M a0 (mgI M a0 33) (fun M_1 => ∃ b_4, mgR M_1 a0 26 = some b_4 ∧ mkd M_1 b_4 = 100 ∧ 4 < mln M_1 b_4 ∧ ∀ M_8, M_8 = msI M_1 b_4 4 x2 → ∃ b_10, mgR M_8 a0 26 = some b_10 ∧ mkd M_8 b_10 = 100 ∧ 5 < mln M_8 b_10 ∧ ∀ M_14, M_14 = msI M_8 b_10 5 (mgI M_8 a0 34) → ∃ b_16, mgR M_14 a0 26 = some b_16 ∧ mkd M_14 b_16 = 100 ∧ wp_X7_dryIn M_14 x1 (fun r_20 M_19 => 6 < mln M_19 b_16 ∧ ∀ M_23, M_23 = msI M_19 b_16 6 r_20 → ∃ b_25, mgR M_23 a0 26 = some b_25 ∧ mkd M_23 b_25 = 100 ∧ wp_X7_drownedIn M_23 x1 (fun r_29 M_28 => 7 < mln M_28 b_25 ∧ ∀ M_32, M_32 = msI M_28 b_25 7 r_29 → ∃ b_34, mgR M_32 a0 26 = some b_34 ∧ mkd M_32 b_34 = 100 ∧ 11 < mln M_32 b_34 ∧ ∀ M_38, M_38 = msI M_32 b_34 11 (99 : Int32) → Post M_38)))
def wp_X7_cupsIn (M : MM) (a0 : Nat) (x1 : Int32) (x2 : Int32) (x3 : Int32) (Post : Int32 → MM → Prop) : Prop :=
  if (mgI M a0 31) = (-1 : Int32) then (wp_X7_feelsState M a0 x1 x2 (fun M_2 => ∃ b_5, mgR M_2 a0 26 = some b_5 ∧ mkd M_2 b_5 = 100 ∧ ∃ b_8, mgR M_2 a0 35 = some b_8 ∧ mkd M_2 b_8 = 100 ∧ vp_in x3 (mln M_2 b_8) ∧ 8 < mln M_2 b_5 ∧ ∀ M_13, M_13 = msI M_2 b_5 8 (mgI M_2 b_8 (ix_ x3)) → ∃ b_15, mgR M_13 a0 26 = some b_15 ∧ mkd M_13 b_15 = 100 ∧ ∃ b_18, mgR M_13 a0 36 = some b_18 ∧ mkd M_13 b_18 = 100 ∧ vp_in x3 (mln M_13 b_18) ∧ 9 < mln M_13 b_15 ∧ ∀ M_23, M_23 = msI M_13 b_15 9 (mgI M_13 b_18 (ix_ x3)) → ∃ b_25, mgR M_23 a0 0 = some b_25 ∧ mkd M_23 b_25 = 100 ∧ ∃ b_28, mgR M_23 a0 35 = some b_28 ∧ mkd M_23 b_28 = 100 ∧ vp_in x3 (mln M_23 b_28) ∧ vp_in ((60 : Int32) + (mgI M_23 b_28 (ix_ x3))) (mln M_23 b_25) ∧ wp_X7_byText M_23 a0 ((mgI M_23 b_25 (ix_ ((60 : Int32) + (mgI M_23 b_28 (ix_ x3))))) + (1 : Int32)) (103 : Int32) (9 : Int32) (fun r_34 M_33 => Post r_34 M_33)))
  else (if (mgI M a0 32) ≤ x2 then (Post (0 : Int32) M)
  else (Post (mgI M a0 31) M))
def wb_X7_comesBy_31 (M : MM) (a0 : Nat) (x1 : Int32) (x2 : Int32) (x3 : Int32) (as0 : Nat) (xs1 : Int32) (xs2 : Int64) (R : MM → Int32 → Prop) (X38 : MM → Prop) : Prop :=
  vp_in xs1 (mln M as0) ∧ ∀ M_7, M_7 = msL M as0 (ix_ xs1) xs2 → ∀ x3_9, x3_9 = x3 + 1 → R M_7 x3_9
def wl_X7_comesBy_2 (a0 : Nat) (x1 : Int32) (x2 : Int32) (X38 : MM → Prop) : Nat → MM → Int32 → Prop
  | 0, _, _ => False
  | n_ + 1, M, x3 =>
  if (24 : Int32) < x3 then (X38 M)
  else (∃ b_2, mgR M a0 40 = some b_2 ∧ mkd M b_2 = 101 ∧ if x3 = (x1 / (20 : Int32)) then (∃ b_11, mgR M a0 37 = some b_11 ∧ mkd M b_11 = 101 ∧ vp_in x1 (mln M b_11) ∧ wb_X7_comesBy_31 M a0 x1 x2 x3 b_2 x3 (mgL M b_11 (ix_ x1)) (wl_X7_comesBy_2 a0 x1 x2 X38 n_) X38)
  else (wb_X7_comesBy_31 M a0 x1 x2 x3 b_2 x3 (0 : Int64) (wl_X7_comesBy_2 a0 x1 x2 X38 n_) X38))
def wl_X7_comesBy_48 (a0 : Nat) (x1 : Int32) (x2 : Int32) (x3 : Int32) (X86 : MM → Prop) : Nat → MM → Int32 → Prop
  | 0, _, _ => False
  | n_ + 1, M, x4 =>
  if (24 : Int32) < x4 then (X86 M)
  else (∃ b_20, mgR M a0 41 = some b_20 ∧ mkd M b_20 = 101 ∧ ∃ b_23, mgR M a0 40 = some b_23 ∧ mkd M b_23 = 101 ∧ vp_in x4 (mln M b_23) ∧ ∃ b_27, mgR M a0 36 = some b_27 ∧ mkd M b_27 = 100 ∧ vp_in x3 (mln M b_27) ∧ vp_in x4 (mln M b_20) ∧ ∀ M_32, M_32 = msL M b_20 (ix_ x4) ((mgL M b_23 (ix_ x4)) * (((10 : Int32) - (mgI M b_27 (ix_ x3))).toInt64)) → ∀ x4_34, x4_34 = x4 + 1 → wl_X7_comesBy_48 a0 x1 x2 x3 X86 n_ M_32 x4_34)
def wl_X7_comesBy_89 (a0 : Nat) (x1 : Int32) (x2 : Int32) (x3 : Int32) (X183 : MM → Prop) : Nat → MM → Int32 → Prop
  | 0, _, _ => False
  | n_ + 1, M, x4 =>
  if (24 : Int32) < x4 then (X183 M)
  else (∃ b_40, mgR M a0 40 = some b_40 ∧ mkd M b_40 = 101 ∧ vp_in x4 (mln M b_40) ∧ if (mgL M b_40 (ix_ x4)) = (0 : Int64) then (∀ x4_45, x4_45 = x4 + 1 → wl_X7_comesBy_89 a0 x1 x2 x3 X183 n_ M x4_45)
  else (∃ b_47, mgR M a0 36 = some b_47 ∧ mkd M b_47 = 100 ∧ vp_in x3 (mln M b_47) ∧ if (mgI M b_47 (ix_ x3)) = 0 then (∀ x4_82, x4_82 = x4 + 1 → wl_X7_comesBy_89 a0 x1 x2 x3 X183 n_ M x4_82)
  else (∃ b_52, mgR M a0 0 = some b_52 ∧ mkd M b_52 = 100 ∧ vp_in ((0 : Int32) + (mgI M a0 33)) (mln M b_52) ∧ wp_X7_cupsIn M a0 x1 x4 x3 (fun r_57 M_56 => wp_X7_min M_56 (mgI M b_52 (ix_ ((0 : Int32) + (mgI M a0 33)))) (x4 + r_57) (fun r_60 M_59 => ∃ b_62, mgR M_59 a0 41 = some b_62 ∧ mkd M_59 b_62 = 101 ∧ ∃ b_65, mgR M_59 a0 41 = some b_65 ∧ mkd M_59 b_65 = 101 ∧ vp_in r_60 (mln M_59 b_65) ∧ ∃ b_69, mgR M_59 a0 40 = some b_69 ∧ mkd M_59 b_69 = 101 ∧ vp_in x4 (mln M_59 b_69) ∧ ∃ b_73, mgR M_59 a0 36 = some b_73 ∧ mkd M_59 b_73 = 100 ∧ vp_in x3 (mln M_59 b_73) ∧ vp_in r_60 (mln M_59 b_62) ∧ ∀ M_78, M_78 = msL M_59 b_62 (ix_ r_60) ((mgL M_59 b_65 (ix_ r_60)) + ((mgL M_59 b_69 (ix_ x4)) * ((mgI M_59 b_73 (ix_ x3)).toInt64))) → ∀ x4_80, x4_80 = x4 + 1 → wl_X7_comesBy_89 a0 x1 x2 x3 X183 n_ M_78 x4_80)))))
def wl_X7_comesBy_186 (a0 : Nat) (x1 : Int32) (x2 : Int32) (x3 : Int32) (X213 : MM → Prop) : Nat → MM → Int32 → Prop
  | 0, _, _ => False
  | n_ + 1, M, x4 =>
  if (24 : Int32) < x4 then (X213 M)
  else (∃ b_88, mgR M a0 40 = some b_88 ∧ mkd M b_88 = 101 ∧ ∃ b_91, mgR M a0 41 = some b_91 ∧ mkd M b_91 = 101 ∧ vp_in x4 (mln M b_91) ∧ vp_in x4 (mln M b_88) ∧ ∀ M_96, M_96 = msL M b_88 (ix_ x4) (mgL M b_91 (ix_ x4)) → ∀ x4_98, x4_98 = x4 + 1 → wl_X7_comesBy_186 a0 x1 x2 x3 X213 n_ M_96 x4_98)
def wl_X7_comesBy_40 (a0 : Nat) (x1 : Int32) (x2 : Int32) (X219 : MM → Prop) : Nat → MM → Int32 → Prop
  | 0, _, _ => False
  | n_ + 1, M, x3 =>
  if x2 ≤ x3 then (X219 M)
  else (∃ n_36, wl_X7_comesBy_48 a0 x1 x2 x3
    (fun (M_37 : MM) => ∃ n_84, wl_X7_comesBy_89 a0 x1 x2 x3
    (fun (M_85 : MM) => ∃ n_100, wl_X7_comesBy_186 a0 x1 x2 x3
    (fun (M_101 : MM) => ∀ x3_103, x3_103 = x3 + 1 → wl_X7_comesBy_40 a0 x1 x2 X219 n_ M_101 x3_103) n_100 M_85 (0 : Int32)) n_84 M_37 (0 : Int32)) n_36 M (0 : Int32))
def wp_X7_comesBy (M : MM) (a0 : Nat) (x1 : Int32) (x2 : Int32) (Post : MM → Prop) : Prop :=
  ∃ n_15, wl_X7_comesBy_2 a0 x1 x2
    (fun (M_16 : MM) => ∃ n_105, wl_X7_comesBy_40 a0 x1 x2
    (fun (M_106 : MM) => Post M_106) n_105 M_16 (0 : Int32)) n_15 M (0 : Int32)
def wp_X7_stateOf (M : MM) (x0 : Int32) (x1 : Int32) (x2 : Int32) (Post : Int32 → MM → Prop) : Prop :=
  if x2 ≤ 0 then (Post (((20 : Int32) * x0) + x1) M)
  else (Post (((20 : Int32) * x0) + ((10 : Int32) + x2)) M)
def wb_X7_sunBy_136 (M : MM) (a0 : Nat) (x8 : Int64) (Post : MM → Prop) : Prop :=
  ∀ M_28, M_28 = msL M a0 39 ((mgL M a0 39) + x8) → Post M_28
def wb_X7_sunBy_88 (M : MM) (a0 : Nat) (x2 : Int32) (x5 : Int32) (x6 : Int32) (xs0 : Int32) (Post : MM → Prop) : Prop :=
  ∃ b_17, mgR M a0 40 = some b_17 ∧ mkd M b_17 = 101 ∧ vp_in x2 (mln M b_17) ∧ ∀ x8_21, x8_21 = (mgL M b_17 (ix_ x2)) * (5 : Int64) → ∃ b_23, mgR M a0 0 = some b_23 ∧ mkd M b_23 = 100 ∧ vp_in ((8 : Int32) + (mgI M a0 33)) (mln M b_23) ∧ if (mgI M b_23 (ix_ ((8 : Int32) + (mgI M a0 33)))) ≤ x6 then (wb_X7_sunBy_136 M a0 x8_21 Post)
  else (∃ b_30, mgR M a0 0 = some b_30 ∧ mkd M b_30 = 100 ∧ vp_in ((8 : Int32) + (mgI M a0 33)) (mln M b_30) ∧ if xs0 < (mgI M b_30 (ix_ ((8 : Int32) + (mgI M a0 33)))) then (∃ b_35, mgR M a0 38 = some b_35 ∧ mkd M b_35 = 101 ∧ wp_X7_stateOf M x5 x6 xs0 (fun r_39 M_38 => ∃ b_41, mgR M_38 a0 38 = some b_41 ∧ mkd M_38 b_41 = 101 ∧ wp_X7_stateOf M_38 x5 x6 xs0 (fun r_45 M_44 => vp_in r_45 (mln M_44 b_41) ∧ vp_in r_39 (mln M_44 b_35) ∧ ∀ M_49, M_49 = msL M_44 b_35 (ix_ r_39) ((mgL M_44 b_41 (ix_ r_45)) + x8_21) → Post M_49)))
  else (wb_X7_sunBy_136 M a0 x8_21 Post))
def wb_X7_sunBy_60 (M : MM) (a0 : Nat) (x1 : Int32) (x2 : Int32) (x5 : Int32) (xs0 : Int32) (Post : MM → Prop) : Prop :=
  ∃ b_12, mgR M a0 0 = some b_12 ∧ mkd M b_12 = 100 ∧ vp_in ((0 : Int32) + (mgI M a0 33)) (mln M b_12) ∧ if x5 = (mgI M b_12 (ix_ ((0 : Int32) + (mgI M a0 33)))) then (wp_X7_drownedIn M x1 (fun r_52 M_51 => wb_X7_sunBy_88 M_51 a0 x2 x5 xs0 (r_52 + (1 : Int32)) Post))
  else (wb_X7_sunBy_88 M a0 x2 x5 xs0 (0 : Int32) Post)
def wb_X7_sunBy_35 (M : MM) (a0 : Nat) (x1 : Int32) (x2 : Int32) (x4 : Int32) (Post : MM → Prop) : Prop :=
  wp_X7_max M (0 : Int32) (x2 - x4) (fun r_9 M_8 => if r_9 = 0 then (wp_X7_dryIn M_8 x1 (fun r_55 M_54 => wb_X7_sunBy_60 M_54 a0 x1 x2 r_9 (r_55 + (1 : Int32)) Post))
  else (wb_X7_sunBy_60 M_8 a0 x1 x2 r_9 (0 : Int32) Post))
def wp_X7_sunBy (M : MM) (a0 : Nat) (x1 : Int32) (x2 : Int32) (x3 : Int32) (Post : MM → Prop) : Prop :=
  wp_X7_feelsState M a0 x1 x2 (fun M_1 => wp_X7_byText M_1 a0 (0 : Int32) (101 : Int32) (9 : Int32) (fun r_5 M_4 => if x3 = 0 then (wb_X7_sunBy_35 M_4 a0 x1 x2 r_5 Post)
  else (wp_X7_byText M_4 a0 (0 : Int32) (104 : Int32) (9 : Int32) (fun r_58 M_57 => ∀ x4_60, x4_60 = r_5 + r_58 → wb_X7_sunBy_35 M_57 a0 x1 x2 x4_60 Post))))
def wl_X7_tens_4 (x0 : Int32) (X21 : MM → Int64 → Prop) : Nat → MM → Int64 → Int32 → Prop
  | 0, _, _, _ => False
  | n_ + 1, M, x1, x3 =>
  if x0 ≤ x3 then (X21 M x1)
  else (∀ x1_2, x1_2 = x1 * (10 : Int64) → ∀ x3_4, x3_4 = x3 + 1 → wl_X7_tens_4 x0 X21 n_ M x1_2 x3_4)
def wp_X7_tens (M : MM) (x0 : Int32) (Post : Int64 → MM → Prop) : Prop :=
  ∃ n_6, wl_X7_tens_4 x0
    (fun (M_7 : MM) (x1_9 : Int64) => Post x1_9 M_7) n_6 M (1 : Int64) (0 : Int32)
def wl_X7_goesThrough_16 (a0 : Nat) (x1 : Int32) (x2 : Int32) (x3 : Int32) (X38 : MM → Prop) : Nat → MM → Int32 → Prop
  | 0, _, _ => False
  | n_ + 1, M, x4 =>
  if (500 : Int32) ≤ x4 then (X38 M)
  else (∃ b_10, mgR M a0 37 = some b_10 ∧ mkd M b_10 = 101 ∧ vp_in x4 (mln M b_10) ∧ ∀ M_14, M_14 = msL M b_10 (ix_ x4) (0 : Int64) → ∀ x4_16, x4_16 = x4 + 1 → wl_X7_goesThrough_16 a0 x1 x2 x3 X38 n_ M_14 x4_16)
def wl_X7_goesThrough_109 (a0 : Nat) (x1 : Int32) (x2 : Int32) (x3 : Int32) (x4 : Int32) (X131 : MM → Prop) : Nat → MM → Int32 → Prop
  | 0, _, _ => False
  | n_ + 1, M, x5 =>
  if (500 : Int32) ≤ x5 then (X131 M)
  else (∃ b_49, mgR M a0 38 = some b_49 ∧ mkd M b_49 = 101 ∧ vp_in x5 (mln M b_49) ∧ ∀ M_53, M_53 = msL M b_49 (ix_ x5) (0 : Int64) → ∀ x5_55, x5_55 = x5 + 1 → wl_X7_goesThrough_109 a0 x1 x2 x3 x4 X131 n_ M_53 x5_55)
def wl_X7_goesThrough_167 (a0 : Nat) (x1 : Int32) (x2 : Int32) (x3 : Int32) (x4 : Int32) (x5 : Int32) (X213 : MM → Prop) : Nat → MM → Int32 → Prop
  | 0, _, _ => False
  | n_ + 1, M, x6 =>
  if (24 : Int32) < x6 then (X213 M)
  else (∃ b_70, mgR M a0 40 = some b_70 ∧ mkd M b_70 = 101 ∧ vp_in x6 (mln M b_70) ∧ if (mgL M b_70 (ix_ x6)) = (0 : Int64) then (∀ x6_83, x6_83 = x6 + 1 → wl_X7_goesThrough_167 a0 x1 x2 x3 x4 x5 X213 n_ M x6_83)
  else (wp_X7_sunBy M a0 x5 x6 (1 : Int32) (fun M_75 => wp_X7_sunBy M_75 a0 x5 x6 (0 : Int32) (fun M_78 => ∀ x6_81, x6_81 = x6 + 1 → wl_X7_goesThrough_167 a0 x1 x2 x3 x4 x5 X213 n_ M_78 x6_81))))
def wl_X7_goesThrough_134 (a0 : Nat) (x1 : Int32) (x2 : Int32) (x3 : Int32) (x4 : Int32) (X219 : MM → Prop) : Nat → MM → Int32 → Prop
  | 0, _, _ => False
  | n_ + 1, M, x5 =>
  if (500 : Int32) ≤ x5 then (X219 M)
  else (∃ b_61, mgR M a0 37 = some b_61 ∧ mkd M b_61 = 101 ∧ vp_in x5 (mln M b_61) ∧ if (mgL M b_61 (ix_ x5)) = (0 : Int64) then (∀ x5_90, x5_90 = x5 + 1 → wl_X7_goesThrough_134 a0 x1 x2 x3 x4 X219 n_ M x5_90)
  else (wp_X7_comesBy M a0 x5 x2 (fun M_66 => ∃ n_85, wl_X7_goesThrough_167 a0 x1 x2 x3 x4 x5
    (fun (M_86 : MM) => ∀ x5_88, x5_88 = x5 + 1 → wl_X7_goesThrough_134 a0 x1 x2 x3 x4 X219 n_ M_86 x5_88) n_85 M_66 (0 : Int32))))
def wl_X7_goesThrough_222 (a0 : Nat) (x1 : Int32) (x2 : Int32) (x3 : Int32) (x4 : Int32) (X250 : MM → Prop) : Nat → MM → Int32 → Prop
  | 0, _, _ => False
  | n_ + 1, M, x5 =>
  if (500 : Int32) ≤ x5 then (X250 M)
  else (∃ b_96, mgR M a0 37 = some b_96 ∧ mkd M b_96 = 101 ∧ ∃ b_99, mgR M a0 38 = some b_99 ∧ mkd M b_99 = 101 ∧ vp_in x5 (mln M b_99) ∧ vp_in x5 (mln M b_96) ∧ ∀ M_104, M_104 = msL M b_96 (ix_ x5) (mgL M b_99 (ix_ x5)) → ∀ x5_106, x5_106 = x5 + 1 → wl_X7_goesThrough_222 a0 x1 x2 x3 x4 X250 n_ M_104 x5_106)
def wl_X7_goesThrough_85 (a0 : Nat) (x1 : Int32) (x2 : Int32) (x3 : Int32) (X272 : MM → Prop) : Nat → MM → Int32 → Prop
  | 0, _, _ => False
  | n_ + 1, M, x4 =>
  if x1 ≤ x4 then (X272 M)
  else (wp_X7_tens M (x2 + (1 : Int32)) (fun r_44 M_43 => ∀ M_46, M_46 = msL M_43 a0 39 ((mgL M a0 39) * r_44) → ∃ n_57, wl_X7_goesThrough_109 a0 x1 x2 x3 x4
    (fun (M_58 : MM) => ∃ n_92, wl_X7_goesThrough_134 a0 x1 x2 x3 x4
    (fun (M_93 : MM) => ∃ n_108, wl_X7_goesThrough_222 a0 x1 x2 x3 x4
    (fun (M_109 : MM) => ∃ b_111, mgR M_109 a0 0 = some b_111 ∧ mkd M_109 b_111 = 100 ∧ ∃ b_114, mgR M_109 a0 0 = some b_114 ∧ mkd M_109 b_114 = 100 ∧ 79 < mln M_109 b_114 ∧ 79 < mln M_109 b_111 ∧ ∀ M_119, M_119 = msI M_109 b_111 79 ((mgI M_109 b_114 79) + (1 : Int32)) → ∀ x4_121, x4_121 = x4 + 1 → wl_X7_goesThrough_85 a0 x1 x2 x3 X272 n_ M_119 x4_121) n_108 M_93 (0 : Int32)) n_92 M_58 (0 : Int32)) n_57 M_46 (0 : Int32)))
def wp_X7_goesThrough (M : MM) (a0 : Nat) (x1 : Int32) (x2 : Int32) (Post : Int64 → MM → Prop) : Prop :=
  ∃ b_1, mgR M a0 0 = some b_1 ∧ mkd M b_1 = 100 ∧ 79 < mln M b_1 ∧ ∀ x3_5, x3_5 = mgI M b_1 79 → ∀ M_7, M_7 = msL M a0 39 (0 : Int64) → ∃ n_18, wl_X7_goesThrough_16 a0 x1 x2 x3_5
    (fun (M_19 : MM) => ∃ b_21, mgR M_19 a0 37 = some b_21 ∧ mkd M_19 b_21 = 101 ∧ ∃ b_24, mgR M_19 a0 0 = some b_24 ∧ mkd M_19 b_24 = 100 ∧ vp_in ((4 : Int32) + (mgI M_19 a0 33)) (mln M_19 b_24) ∧ ∃ b_28, mgR M_19 a0 0 = some b_28 ∧ mkd M_19 b_28 = 100 ∧ vp_in ((12 : Int32) + (mgI M_19 a0 33)) (mln M_19 b_28) ∧ ∃ b_32, mgR M_19 a0 0 = some b_32 ∧ mkd M_19 b_32 = 100 ∧ vp_in ((16 : Int32) + (mgI M_19 a0 33)) (mln M_19 b_32) ∧ wp_X7_stateOf M_19 (mgI M_19 b_24 (ix_ ((4 : Int32) + (mgI M_19 a0 33)))) (mgI M_19 b_28 (ix_ ((12 : Int32) + (mgI M_19 a0 33)))) (mgI M_19 b_32 (ix_ ((16 : Int32) + (mgI M_19 a0 33)))) (fun r_37 M_36 => vp_in r_37 (mln M_36 b_21) ∧ ∀ M_40, M_40 = msL M_36 b_21 (ix_ r_37) (1 : Int64) → ∃ n_123, wl_X7_goesThrough_85 a0 x1 x2 x3_5
    (fun (M_124 : MM) => ∃ b_126, mgR M_124 a0 0 = some b_126 ∧ mkd M_124 b_126 = 100 ∧ 79 < mln M_124 b_126 ∧ ∀ M_130, M_130 = msI M_124 b_126 79 x3_5 → wp_X7_tens M_130 (x1 * (x2 + (1 : Int32))) (fun r_133 M_132 => Post (r_133 - (mgL M_132 a0 39)) M_132)) n_123 M_40 (0 : Int32))) n_18 M_7 (0 : Int32)
def wl_X7_exactly_49 (a0 : Nat) (x4 : Int32) (X80 : MM → Int64 → Prop) : Nat → MM → Int64 → Int32 → Prop
  | 0, _, _, _ => False
  | n_ + 1, M, x5, x7 =>
  if (20 : Int32) ≤ x7 then (X80 M x5)
  else (∃ b_14, mgR M a0 37 = some b_14 ∧ mkd M b_14 = 101 ∧ vp_in (((20 : Int32) * x4) + x7) (mln M b_14) ∧ ∀ x5_18, x5_18 = x5 + (mgL M b_14 (ix_ (((20 : Int32) * x4) + x7))) → ∀ x7_20, x7_20 = x7 + 1 → wl_X7_exactly_49 a0 x4 X80 n_ M x5_18 x7_20)
def wp_X7_exactly (M : MM) (a0 : Nat) (x1 : Int32) (x2 : Int32) (x3 : Int32) (x4 : Int32) (Post : Int64 → MM → Prop) : Prop :=
  wp_X7_canGo M a0 x1 x2 x3 (fun r_2 M_1 => if r_2 = 0 then (Post (-1 : Int64) M_1)
  else (wp_X7_in M_1 x4 (-1 : Int32) (24 : Int32) (fun r_6 M_5 => if r_6 = 0 then (Post (-1 : Int64) M_5)
  else (wp_X7_goesThrough M_5 a0 x2 x3 (fun r_10 M_9 => if x4 = (-1 : Int32) then (Post (mgL M_9 a0 39) M_9)
  else (∃ n_22, wl_X7_exactly_49 a0 x4
    (fun (M_23 : MM) (x5_25 : Int64) => Post x5_25 M_23) n_22 M_9 (0 : Int64) (0 : Int32)))))))
def wl_X7_chance_45 (a0 : Nat) (x2 : Int32) (x3 : Int32) (x4 : Int32) (x5 : Int32) (x6 : Int64) (x8 : Int32) (X66 : MM → Prop) : Nat → MM → Int32 → Prop
  | 0, _, _ => False
  | n_ + 1, M, x9 =>
  if x3 ≤ x9 then (X66 M)
  else (∃ b_11, mgR M a0 36 = some b_11 ∧ mkd M b_11 = 100 ∧ vp_in x9 (mln M b_11) ∧ ∀ M_15, M_15 = msI M b_11 (ix_ x9) x8 → ∀ x9_17, x9_17 = x9 + 1 → wl_X7_chance_45 a0 x2 x3 x4 x5 x6 x8 X66 n_ M_15 x9_17)
def wl_X7_chance_35 (a0 : Nat) (x2 : Int32) (x3 : Int32) (x4 : Int32) (X99 : MM → Int32 → Int64 → Prop) : Nat → MM → Int32 → Int64 → Int32 → Prop
  | 0, _, _, _, _ => False
  | n_ + 1, M, x5, x6, x8 =>
  if (10 : Int32) < x8 then (X99 M x5 x6)
  else (∃ n_19, wl_X7_chance_45 a0 x2 x3 x4 x5 x6 x8
    (fun (M_20 : MM) => wp_X7_goesThrough M_20 a0 x2 x3 (fun r_23 M_22 => if x6 < r_23 then (∀ x8_26, x8_26 = x8 + 1 → wl_X7_chance_35 a0 x2 x3 x4 X99 n_ M_22 x8 r_23 x8_26)
  else (∀ x8_28, x8_28 = x8 + 1 → wl_X7_chance_35 a0 x2 x3 x4 X99 n_ M_22 x5 x6 x8_28))) n_19 M (0 : Int32))
def wp_X7_chance (M : MM) (a0 : Nat) (x1 : Int32) (x2 : Int32) (x3 : Int32) (x4 : Int32) (Post : Int64 → MM → Prop) : Prop :=
  wp_X7_canGo M a0 x1 x2 x3 (fun r_2 M_1 => if r_2 = 0 then (Post (-1 : Int64) M_1)
  else (wp_X7_in M_1 x4 (0 : Int32) (1 : Int32) (fun r_6 M_5 => if r_6 = 0 then (Post (-1 : Int64) M_5)
  else (∃ n_30, wl_X7_chance_35 a0 x2 x3 x4
    (fun (M_31 : MM) (x5_33 : Int32) (x6_34 : Int64) => if x4 = 0 then (Post x5_33.toInt64 M_31)
  else (Post x6_34 M_31)) n_30 M_5 (0 : Int32) (-1 : Int64) (0 : Int32)))))
def wb_X7_toAsk_93 (M : MM) (a0 : Nat) (x2 : Int32) (x3 : Int32) (x4 : Int32) (x5 : Int32) (x6 : Int64) (x8 : Int32) (x9 : Int32) (as0 : Nat) (xs1 : Int32) (xs2 : Int32) (R : MM → Int32 → Prop) (X100 : MM → Prop) : Prop :=
  vp_in xs1 (mln M as0) ∧ ∀ M_30, M_30 = msI M as0 (ix_ xs1) xs2 → ∀ x9_32, x9_32 = x9 + 1 → R M_30 x9_32
def wl_X7_toAsk_48 (a0 : Nat) (x2 : Int32) (x3 : Int32) (x4 : Int32) (x5 : Int32) (x6 : Int64) (x8 : Int32) (X100 : MM → Prop) : Nat → MM → Int32 → Prop
  | 0, _, _ => False
  | n_ + 1, M, x9 =>
  if x3 ≤ x9 then (X100 M)
  else (∃ b_14, mgR M a0 36 = some b_14 ∧ mkd M b_14 = 100 ∧ if x9 = x8 then (wb_X7_toAsk_93 M a0 x2 x3 x4 x5 x6 x8 x9 b_14 x9 (10 : Int32) (wl_X7_toAsk_48 a0 x2 x3 x4 x5 x6 x8 X100 n_) X100)
  else (∃ b_18, mgR M a0 0 = some b_18 ∧ mkd M b_18 = 100 ∧ ∃ b_21, mgR M a0 35 = some b_21 ∧ mkd M b_21 = 100 ∧ vp_in x9 (mln M b_21) ∧ vp_in ((52 : Int32) + (mgI M b_21 (ix_ x9))) (mln M b_18) ∧ wp_X7_max M (0 : Int32) ((mgI M b_18 (ix_ ((52 : Int32) + (mgI M b_21 (ix_ x9))))) - (2 : Int32)) (fun r_27 M_26 => wb_X7_toAsk_93 M_26 a0 x2 x3 x4 x5 x6 x8 x9 b_14 x9 r_27 (wl_X7_toAsk_48 a0 x2 x3 x4 x5 x6 x8 X100 n_) X100)))
def wl_X7_toAsk_39 (a0 : Nat) (x2 : Int32) (x3 : Int32) (x4 : Int32) (X138 : MM → Int32 → Int64 → Prop) : Nat → MM → Int32 → Int64 → Int32 → Prop
  | 0, _, _, _, _ => False
  | n_ + 1, M, x5, x6, x8 =>
  if x3 ≤ x8 then (X138 M x5 x6)
  else (∃ n_34, wl_X7_toAsk_48 a0 x2 x3 x4 x5 x6 x8
    (fun (M_35 : MM) => wp_X7_goesThrough M_35 a0 x2 x3 (fun r_38 M_37 => if x6 < r_38 then (∃ b_41, mgR M_37 a0 35 = some b_41 ∧ mkd M_37 b_41 = 100 ∧ vp_in x8 (mln M_37 b_41) ∧ ∀ x5_45, x5_45 = mgI M_37 b_41 (ix_ x8) → ∀ x8_47, x8_47 = x8 + 1 → wl_X7_toAsk_39 a0 x2 x3 x4 X138 n_ M_37 x5_45 r_38 x8_47)
  else (∀ x8_49, x8_49 = x8 + 1 → wl_X7_toAsk_39 a0 x2 x3 x4 X138 n_ M_37 x5 x6 x8_49))) n_34 M (0 : Int32))
def wp_X7_toAsk (M : MM) (a0 : Nat) (x1 : Int32) (x2 : Int32) (x3 : Int32) (x4 : Int32) (Post : Int64 → MM → Prop) : Prop :=
  wp_X7_canGo M a0 x1 x2 x3 (fun r_2 M_1 => if r_2 = 0 then (Post (-1 : Int64) M_1)
  else (wp_X7_in M_1 x4 (0 : Int32) (1 : Int32) (fun r_6 M_5 => if r_6 = 0 then (Post (-1 : Int64) M_5)
  else (wp_X7_goesThrough M_5 a0 x2 x3 (fun r_10 M_9 => ∃ n_51, wl_X7_toAsk_39 a0 x2 x3 x4
    (fun (M_52 : MM) (x5_54 : Int32) (x6_55 : Int64) => if x4 = 0 then (Post x5_54.toInt64 M_52)
  else (Post x6_55 M_52)) n_51 M_9 (-2 : Int32) r_10 (0 : Int32))))))
def wl_X7_few_26 (a0 : Nat) (x2 : Int32) (x3 : Int32) (x4 : Int32) (X62 : MM → Int32 → Prop) (X71 : MM → Prop) : Nat → MM → Int32 → Prop
  | 0, _, _ => False
  | n_ + 1, M, x5 =>
  if x3 < x5 then (X71 M)
  else (wp_X7_tens M ((x2 * (x5 + (1 : Int32))) - (1 : Int32)) (fun r_11 M_10 => wp_X7_goesThrough M_10 a0 x2 x5 (fun r_14 M_13 => if r_14 < (x4.toInt64 * r_11) then (∀ x5_17, x5_17 = x5 + 1 → wl_X7_few_26 a0 x2 x3 x4 X62 X71 n_ M_13 x5_17)
  else (X62 M_13 x5))))
def wp_X7_few (M : MM) (a0 : Nat) (x1 : Int32) (x2 : Int32) (x3 : Int32) (x4 : Int32) (Post : Int32 → MM → Prop) : Prop :=
  wp_X7_canGo M a0 x1 x2 x3 (fun r_2 M_1 => if r_2 = 0 then (Post (-1 : Int32) M_1)
  else (wp_X7_in M_1 x4 (0 : Int32) (10 : Int32) (fun r_6 M_5 => if r_6 = 0 then (Post (-1 : Int32) M_5)
  else (∃ n_19, wl_X7_few_26 a0 x2 x3 x4
    (fun (M_20 : MM) (x5_22 : Int32) => Post x5_22 M_20)
    (fun (M_23 : MM) => Post (-2 : Int32) M_23) n_19 M_5 (0 : Int32)))))
def wp_X7_pot (M : MM) (a0 : Nat) (x1 : Int32) (x2 : Int32) (x3 : Int32) (x4 : Int32) (Post : Int64 → MM → Prop) : Prop :=
  wp_X7_canGo M a0 x1 x2 x3 (fun r_2 M_1 => if r_2 = 0 then (Post (-1000000000000 : Int64) M_1)
  else (wp_X7_in M_1 x4 (4 : Int32) (24 : Int32) (fun r_6 M_5 => if r_6 = 0 then (Post (-1000000000000 : Int64) M_5)
  else (wp_X7_goesThrough M_5 a0 x2 x3 (fun r_10 M_9 => ∃ b_12, mgR M_9 a0 0 = some b_12 ∧ mkd M_9 b_12 = 100 ∧ vp_in ((0 : Int32) + x1) (mln M_9 b_12) ∧ ∀ x7_16, x7_16 = mgI M_9 b_12 (ix_ ((0 : Int32) + x1)) → ∃ b_18, mgR M_9 a0 0 = some b_18 ∧ mkd M_9 b_18 = 100 ∧ vp_in ((4 : Int32) + x1) (mln M_9 b_18) ∧ ∀ x8_22, x8_22 = mgI M_9 b_18 (ix_ ((4 : Int32) + x1)) → ∃ b_24, mgR M_9 a0 0 = some b_24 ∧ mkd M_9 b_24 = 100 ∧ vp_in ((0 : Int32) + x1) (mln M_9 b_24) ∧ ∀ M_28, M_28 = msI M_9 b_24 (ix_ ((0 : Int32) + x1)) x4 → ∃ b_30, mgR M_28 a0 0 = some b_30 ∧ mkd M_28 b_30 = 100 ∧ wp_X7_min M_28 x4 x8_22 (fun r_34 M_33 => vp_in ((4 : Int32) + x1) (mln M_33 b_30) ∧ ∀ M_37, M_37 = msI M_33 b_30 (ix_ ((4 : Int32) + x1)) r_34 → ∃ b_39, mgR M_37 a0 0 = some b_39 ∧ mkd M_37 b_39 = 100 ∧ vp_in ((4 : Int32) + x1) (mln M_37 b_39) ∧ ∀ M_43, M_43 = msI M_37 a0 34 (mgI M_37 b_39 (ix_ ((4 : Int32) + x1))) → wp_X7_goesThrough M_43 a0 x2 x3 (fun r_46 M_45 => ∃ b_48, mgR M_45 a0 0 = some b_48 ∧ mkd M_45 b_48 = 100 ∧ vp_in ((0 : Int32) + x1) (mln M_45 b_48) ∧ ∀ M_52, M_52 = msI M_45 b_48 (ix_ ((0 : Int32) + x1)) x7_16 → ∃ b_54, mgR M_52 a0 0 = some b_54 ∧ mkd M_52 b_54 = 100 ∧ vp_in ((4 : Int32) + x1) (mln M_52 b_54) ∧ ∀ M_58, M_58 = msI M_52 b_54 (ix_ ((4 : Int32) + x1)) x8_22 → Post (r_46 - r_10) M_58)))))))
def wl_X7_ruleFor_52 (a0 : Nat) (x2 : Int32) (x3 : Int32) (x5 : Int32) (X98 : MM → Int32 → Int64 → Prop) : Nat → MM → Int32 → Int64 → Int32 → Prop
  | 0, _, _, _, _ => False
  | n_ + 1, M, x6, x7, x9 =>
  if (24 : Int32) < x9 then (X98 M x6 x7)
  else (∀ M_16, M_16 = msI M a0 32 x9 → wp_X7_goesThrough M_16 a0 x2 x3 (fun r_19 M_18 => if x7 < r_19 then (∀ x9_22, x9_22 = x9 + 1 → wl_X7_ruleFor_52 a0 x2 x3 x5 X98 n_ M_18 x9 r_19 x9_22)
  else (∀ x9_24, x9_24 = x9 + 1 → wl_X7_ruleFor_52 a0 x2 x3 x5 X98 n_ M_18 x6 x7 x9_24)))
def wp_X7_ruleFor (M : MM) (a0 : Nat) (x1 : Int32) (x2 : Int32) (x3 : Int32) (x4 : Int32) (x5 : Int32) (Post : Int64 → MM → Prop) : Prop :=
  wp_X7_canGo M a0 x1 x2 x3 (fun r_2 M_1 => if r_2 = 0 then (Post (-1 : Int64) M_1)
  else (wp_X7_in M_1 x4 (1 : Int32) (9 : Int32) (fun r_6 M_5 => if r_6 = 0 then (Post (-1 : Int64) M_5)
  else (wp_X7_in M_5 x5 (0 : Int32) (1 : Int32) (fun r_10 M_9 => if r_10 = 0 then (Post (-1 : Int64) M_9)
  else (∀ M_13, M_13 = msI M_9 a0 31 x4 → ∃ n_26, wl_X7_ruleFor_52 a0 x2 x3 x5
    (fun (M_27 : MM) (x6_29 : Int32) (x7_30 : Int64) => ∀ M_31, M_31 = msI M_27 a0 31 (-1 : Int32) → if x5 = 0 then (Post x6_29.toInt64 M_31)
  else (Post x7_30 M_31)) n_26 M_13 (0 : Int32) (-1 : Int64) (0 : Int32)))))))
def wl_X7_lastsWith_42 (a0 : Nat) (x1 : Int32) (X62 : MM → Int32 → Prop) (X88 : MM → Int32 → Prop) : Nat → MM → Int32 → Prop
  | 0, _, _ => False
  | n_ + 1, M, x3 =>
  if (60 : Int32) ≤ x3 then (X88 M x3)
  else (wp_X7_dries M a0 x1 (0 : Int32) (fun M_28 => wp_X7_lives M_28 a0 x1 (fun r_32 M_31 => if r_32 = 0 then (X62 M_31 x3)
  else (∃ b_35, mgR M_31 a0 0 = some b_35 ∧ mkd M_31 b_35 = 100 ∧ ∃ b_38, mgR M_31 a0 0 = some b_38 ∧ mkd M_31 b_38 = 100 ∧ 79 < mln M_31 b_38 ∧ 79 < mln M_31 b_35 ∧ ∀ M_43, M_43 = msI M_31 b_35 79 ((mgI M_31 b_38 79) + (1 : Int32)) → ∀ x3_45, x3_45 = x3 + (1 : Int32) → wl_X7_lastsWith_42 a0 x1 X62 X88 n_ M_43 x3_45))))
def wb_X7_lastsWith_88 (M : MM) (a0 : Nat) (x3 : Int32) (Post : Int32 → MM → Prop) : Prop :=
  ∃ b_51, mgR M a0 1 = some b_51 ∧ mkd M b_51 = 100 ∧ ∃ b_54, mgR M a0 0 = some b_54 ∧ mkd M b_54 = 100 ∧ wp_X7_copies M b_51 b_54 (fun M_57 => Post x3 M_57)
def wp_X7_lastsWith (M : MM) (a0 : Nat) (x1 : Int32) (x2 : Int32) (Post : Int32 → MM → Prop) : Prop :=
  ∃ b_1, mgR M a0 0 = some b_1 ∧ mkd M b_1 = 100 ∧ ∃ b_4, mgR M a0 1 = some b_4 ∧ mkd M b_4 = 100 ∧ wp_X7_copies M b_1 b_4 (fun M_7 => ∃ b_10, mgR M_7 a0 0 = some b_10 ∧ mkd M_7 b_10 = 100 ∧ ∃ b_13, mgR M_7 a0 0 = some b_13 ∧ mkd M_7 b_13 = 100 ∧ vp_in ((0 : Int32) + x1) (mln M_7 b_13) ∧ ∃ b_17, mgR M_7 a0 0 = some b_17 ∧ mkd M_7 b_17 = 100 ∧ vp_in ((4 : Int32) + x1) (mln M_7 b_17) ∧ wp_X7_min M_7 (mgI M_7 b_13 (ix_ ((0 : Int32) + x1))) ((mgI M_7 b_17 (ix_ ((4 : Int32) + x1))) + x2) (fun r_22 M_21 => vp_in ((4 : Int32) + x1) (mln M_21 b_10) ∧ ∀ M_25, M_25 = msI M_21 b_10 (ix_ ((4 : Int32) + x1)) r_22 → ∃ n_47, wl_X7_lastsWith_42 a0 x1
    (fun (M_48 : MM) (x3_50 : Int32) => wb_X7_lastsWith_88 M_48 a0 x3_50 Post)
    (fun (M_60 : MM) (x3_62 : Int32) => wb_X7_lastsWith_88 M_60 a0 x3_62 Post) n_47 M_25 (0 : Int32)))
def wp_X7_lasts (M : MM) (a0 : Nat) (x1 : Int32) (x2 : Int32) (Post : Int32 → MM → Prop) : Prop :=
  wp_X7_lives M a0 x1 (fun r_2 M_1 => if r_2 = 0 then (Post (-1 : Int32) M_1)
  else (wp_X7_in M_1 x2 (0 : Int32) (24 : Int32) (fun r_6 M_5 => if r_6 = 0 then (Post (-1 : Int32) M_5)
  else (wp_X7_lastsWith M_5 a0 x1 x2 (fun r_10 M_9 => Post r_10 M_9)))))
def wl_X7_leastBy_5 (a0 : Nat) (X45 : MM → Int32 → Prop) : Nat → MM → Int32 → Int32 → Prop
  | 0, _, _, _ => False
  | n_ + 1, M, x1, x2 =>
  if (4 : Int32) ≤ x2 then (X45 M x1)
  else (wp_X7_lives M a0 x2 (fun r_3 M_2 => if r_3 = 0 then (∀ x2_6, x2_6 = x2 + 1 → wl_X7_leastBy_5 a0 X45 n_ M_2 x1 x2_6)
  else (∃ b_8, mgR M_2 a0 42 = some b_8 ∧ mkd M_2 b_8 = 100 ∧ ∃ b_11, mgR M_2 a0 43 = some b_11 ∧ mkd M_2 b_11 = 100 ∧ vp_in x2 (mln M_2 b_11) ∧ vp_in (((25 : Int32) * x2) + (mgI M_2 b_11 (ix_ x2))) (mln M_2 b_8) ∧ wp_X7_min M_2 x1 (mgI M_2 b_8 (ix_ (((25 : Int32) * x2) + (mgI M_2 b_11 (ix_ x2))))) (fun r_17 M_16 => ∀ x2_19, x2_19 = x2 + 1 → wl_X7_leastBy_5 a0 X45 n_ M_16 r_17 x2_19))))
def wp_X7_leastBy (M : MM) (a0 : Nat) (Post : Int32 → MM → Prop) : Prop :=
  ∃ n_21, wl_X7_leastBy_5 a0
    (fun (M_22 : MM) (x1_24 : Int32) => Post x1_24 M_22) n_21 M (60 : Int32) (0 : Int32)
def wb_X7_mayBe_28 (M : MM) (a0 : Nat) (x1 : Int32) (x2 : Int32) (x3 : Int32) (R : MM → Int32 → Int32 → Prop) (X26 : MM → Prop) (X43 : MM → Int32 → Prop) : Prop :=
  ∃ b_6, mgR M a0 43 = some b_6 ∧ mkd M b_6 = 100 ∧ vp_in x3 (mln M b_6) ∧ ∀ x2_10, x2_10 = x2 + (mgI M b_6 (ix_ x3)) → ∀ x3_12, x3_12 = x3 + 1 → R M x2_10 x3_12
def wl_X7_mayBe_4 (a0 : Nat) (x1 : Int32) (X26 : MM → Prop) (X43 : MM → Int32 → Prop) : Nat → MM → Int32 → Int32 → Prop
  | 0, _, _, _ => False
  | n_ + 1, M, x2, x3 =>
  if (4 : Int32) ≤ x3 then (X43 M x2)
  else (wp_X7_lives M a0 x3 (fun r_3 M_2 => if r_3 = 0 then (∃ b_14, mgR M_2 a0 43 = some b_14 ∧ mkd M_2 b_14 = 100 ∧ vp_in x3 (mln M_2 b_14) ∧ if (mgI M_2 b_14 (ix_ x3)) ≤ 0 then (wb_X7_mayBe_28 M_2 a0 x1 x2 x3 (wl_X7_mayBe_4 a0 x1 X26 X43 n_) X26 X43)
  else (X26 M_2))
  else (wb_X7_mayBe_28 M_2 a0 x1 x2 x3 (wl_X7_mayBe_4 a0 x1 X26 X43 n_) X26 X43)))
def wp_X7_mayBe (M : MM) (a0 : Nat) (x1 : Int32) (Post : Int32 → MM → Prop) : Prop :=
  ∃ n_19, wl_X7_mayBe_4 a0 x1
    (fun (M_20 : MM) => Post (0 : Int32) M_20)
    (fun (M_22 : MM) (x2_24 : Int32) => if x2_24 = x1 then (Post (1 : Int32) M_22)
  else (Post (0 : Int32) M_22)) n_19 M (0 : Int32) (0 : Int32)
def wb_X7_laysSpread_49 (M : MM) (a0 : Nat) (x1 : Int32) (x2 : Int32) (x3 : Int32) (x4 : Int32) (as0 : Nat) (xs1 : Int32) (xs2 : Int32) (R : MM → Int32 → Prop) (X56 : MM → Prop) : Prop :=
  vp_in xs1 (mln M as0) ∧ ∀ M_11, M_11 = msI M as0 (ix_ xs1) xs2 → ∀ x4_13, x4_13 = x4 + 1 → R M_11 x4_13
def wl_X7_laysSpread_12 (a0 : Nat) (x1 : Int32) (x2 : Int32) (x3 : Int32) (X56 : MM → Prop) : Nat → MM → Int32 → Prop
  | 0, _, _ => False
  | n_ + 1, M, x4 =>
  if (24 : Int32) < x4 then (X56 M)
  else (∃ b_3, mgR M a0 42 = some b_3 ∧ mkd M b_3 = 100 ∧ wp_X7_lives M a0 x3 (fun r_7 M_6 => if r_7 = 0 then (wb_X7_laysSpread_49 M_6 a0 x1 x2 x3 x4 b_3 (((25 : Int32) * x3) + x4) (0 : Int32) (wl_X7_laysSpread_12 a0 x1 x2 x3 X56 n_) X56)
  else (wp_X7_lastsWith M_6 a0 x3 x4 (fun r_16 M_15 => wb_X7_laysSpread_49 M_15 a0 x1 x2 x3 x4 b_3 (((25 : Int32) * x3) + x4) r_16 (wl_X7_laysSpread_12 a0 x1 x2 x3 X56 n_) X56))))
def wl_X7_laysSpread_4 (a0 : Nat) (x1 : Int32) (x2 : Int32) (X62 : MM → Prop) : Nat → MM → Int32 → Prop
  | 0, _, _ => False
  | n_ + 1, M, x3 =>
  if (4 : Int32) ≤ x3 then (X62 M)
  else (∃ n_18, wl_X7_laysSpread_12 a0 x1 x2 x3
    (fun (M_19 : MM) => ∀ x3_21, x3_21 = x3 + 1 → wl_X7_laysSpread_4 a0 x1 x2 X62 n_ M_19 x3_21) n_18 M (0 : Int32))
def wl_X7_laysSpread_159 (a0 : Nat) (x1 : Int32) (x2 : Int32) (x3 : Int32) (x4 : Int32) (x5 : Int32) (X185 : MM → Prop) : Nat → MM → Int32 → Prop
  | 0, _, _ => False
  | n_ + 1, M, x6 =>
  if (4 : Int32) ≤ x6 then (X185 M)
  else (∃ b_67, mgR M a0 44 = some b_67 ∧ mkd M b_67 = 100 ∧ ∃ b_70, mgR M a0 43 = some b_70 ∧ mkd M b_70 = 100 ∧ vp_in x6 (mln M b_70) ∧ vp_in x6 (mln M b_67) ∧ ∀ M_75, M_75 = msI M b_67 (ix_ x6) (mgI M b_70 (ix_ x6)) → ∀ x6_77, x6_77 = x6 + 1 → wl_X7_laysSpread_159 a0 x1 x2 x3 x4 x5 X185 n_ M_75 x6_77)
def wl_X7_laysSpread_83 (a0 : Nat) (x1 : Int32) (x3 : Int32) (x4 : Int32) (X191 : MM → Int32 → Prop) : Nat → MM → Int32 → Int32 → Prop
  | 0, _, _, _ => False
  | n_ + 1, M, x2, x5 =>
  if x1 < ((x3 + x4) + x5) then (X191 M x2)
  else (∃ b_29, mgR M a0 43 = some b_29 ∧ mkd M b_29 = 100 ∧ 0 < mln M b_29 ∧ ∀ M_33, M_33 = msI M b_29 0 x3 → ∃ b_35, mgR M_33 a0 43 = some b_35 ∧ mkd M_33 b_35 = 100 ∧ 1 < mln M_33 b_35 ∧ ∀ M_39, M_39 = msI M_33 b_35 1 x4 → ∃ b_41, mgR M_39 a0 43 = some b_41 ∧ mkd M_39 b_41 = 100 ∧ 2 < mln M_39 b_41 ∧ ∀ M_45, M_45 = msI M_39 b_41 2 x5 → ∃ b_47, mgR M_45 a0 43 = some b_47 ∧ mkd M_45 b_47 = 100 ∧ 3 < mln M_45 b_47 ∧ ∀ M_51, M_51 = msI M_45 b_47 3 (((x1 - x3) - x4) - x5) → wp_X7_mayBe M_51 a0 x1 (fun r_54 M_53 => if r_54 = 0 then (∀ x5_57, x5_57 = x5 + 1 → wl_X7_laysSpread_83 a0 x1 x3 x4 X191 n_ M_53 x2 x5_57)
  else (wp_X7_leastBy M_53 a0 (fun r_60 M_59 => if x2 < r_60 then (wp_X7_leastBy M_59 a0 (fun r_64 M_63 => ∃ n_79, wl_X7_laysSpread_159 a0 x1 r_64 x3 x4 x5
    (fun (M_80 : MM) => ∀ x5_82, x5_82 = x5 + 1 → wl_X7_laysSpread_83 a0 x1 x3 x4 X191 n_ M_80 r_64 x5_82) n_79 M_63 (0 : Int32)))
  else (∀ x5_84, x5_84 = x5 + 1 → wl_X7_laysSpread_83 a0 x1 x3 x4 X191 n_ M_59 x2 x5_84)))))
def wl_X7_laysSpread_72 (a0 : Nat) (x1 : Int32) (x3 : Int32) (X197 : MM → Int32 → Prop) : Nat → MM → Int32 → Int32 → Prop
  | 0, _, _, _ => False
  | n_ + 1, M, x2, x4 =>
  if x1 < (x3 + x4) then (X197 M x2)
  else (∃ n_86, wl_X7_laysSpread_83 a0 x1 x3 x4
    (fun (M_87 : MM) (x2_89 : Int32) => ∀ x4_90, x4_90 = x4 + 1 → wl_X7_laysSpread_72 a0 x1 x3 X197 n_ M_87 x2_89 x4_90) n_86 M x2 (0 : Int32))
def wl_X7_laysSpread_64 (a0 : Nat) (x1 : Int32) (X203 : MM → Int32 → Prop) : Nat → MM → Int32 → Int32 → Prop
  | 0, _, _, _ => False
  | n_ + 1, M, x2, x3 =>
  if x1 < x3 then (X203 M x2)
  else (∃ n_92, wl_X7_laysSpread_72 a0 x1 x3
    (fun (M_93 : MM) (x2_95 : Int32) => ∀ x3_96, x3_96 = x3 + 1 → wl_X7_laysSpread_64 a0 x1 X203 n_ M_93 x2_95 x3_96) n_92 M x2 (0 : Int32))
def wp_X7_laysSpread (M : MM) (a0 : Nat) (x1 : Int32) (Post : Int32 → MM → Prop) : Prop :=
  ∃ n_23, wl_X7_laysSpread_4 a0 x1 (-1 : Int32)
    (fun (M_24 : MM) => ∃ n_98, wl_X7_laysSpread_64 a0 x1
    (fun (M_99 : MM) (x2_101 : Int32) => Post x2_101 M_99) n_98 M_24 (-1 : Int32) (0 : Int32)) n_23 M (0 : Int32)
def wb_X7_spread_27 (M : MM) (a0 : Nat) (x1 : Int32) (x2 : Int32) (Post : Int32 → MM → Prop) : Prop :=
  ∃ b_6, mgR M a0 0 = some b_6 ∧ mkd M b_6 = 100 ∧ 76 < mln M b_6 ∧ ∃ b_10, mgR M a0 0 = some b_10 ∧ mkd M b_10 = 100 ∧ 77 < mln M b_10 ∧ if ((mgI M b_6 76) &&& ((mgI M b_10 77) ^^^ (-1 : Int32))) = 0 then (Post (-2 : Int32) M)
  else (wp_X7_laysSpread M a0 x1 (fun r_16 M_15 => if x2 = (10 : Int32) then (Post r_16 M_15)
  else (∃ b_19, mgR M_15 a0 44 = some b_19 ∧ mkd M_15 b_19 = 100 ∧ vp_in x2 (mln M_15 b_19) ∧ Post (mgI M_15 b_19 (ix_ x2)) M_15)))
def wp_X7_spread (M : MM) (a0 : Nat) (x1 : Int32) (x2 : Int32) (Post : Int32 → MM → Prop) : Prop :=
  wp_X7_in M x1 (0 : Int32) (24 : Int32) (fun r_2 M_1 => if r_2 = 0 then (Post (-1 : Int32) M_1)
  else (if x2 = (10 : Int32) then (wb_X7_spread_27 M_1 a0 x1 x2 Post)
  else (wp_X7_in M_1 x2 (0 : Int32) (3 : Int32) (fun r_24 M_23 => if r_24 = 0 then (Post (-1 : Int32) M_23)
  else (wb_X7_spread_27 M_23 a0 x1 x2 Post)))))
def wl_X7_needs_22 (a0 : Nat) (x1 : Int32) (x2 : Int32) (X38 : MM → Int32 → Prop) (X46 : MM → Prop) : Nat → MM → Int32 → Prop
  | 0, _, _ => False
  | n_ + 1, M, x3 =>
  if (24 : Int32) < x3 then (X46 M)
  else (wp_X7_lastsWith M a0 x1 x3 (fun r_11 M_10 => if r_11 < x2 then (∀ x3_14, x3_14 = x3 + 1 → wl_X7_needs_22 a0 x1 x2 X38 X46 n_ M_10 x3_14)
  else (X38 M_10 x3)))
def wp_X7_needs (M : MM) (a0 : Nat) (x1 : Int32) (x2 : Int32) (Post : Int32 → MM → Prop) : Prop :=
  wp_X7_lives M a0 x1 (fun r_2 M_1 => if r_2 = 0 then (Post (-1 : Int32) M_1)
  else (wp_X7_in M_1 x2 (1 : Int32) (60 : Int32) (fun r_6 M_5 => if r_6 = 0 then (Post (-1 : Int32) M_5)
  else (∃ n_16, wl_X7_needs_22 a0 x1 x2
    (fun (M_17 : MM) (x3_19 : Int32) => Post x3_19 M_17)
    (fun (M_20 : MM) => Post (-2 : Int32) M_20) n_16 M_5 (0 : Int32)))))
def wb_X7_movesOut_80 (M : MM) (a0 : Nat) (x2 : Int32) (x3 : Int32) (x4 : Int32) (x5 : Int32) (x6 : Int64) (x8 : Int32) (x9 : Int32) (as0 : Nat) (xs1 : Int32) (xs2 : Int32) (R : MM → Int32 → Prop) (X87 : MM → Prop) : Prop :=
  vp_in xs1 (mln M as0) ∧ ∀ M_24, M_24 = msI M as0 (ix_ xs1) xs2 → ∀ x9_26, x9_26 = x9 + 1 → R M_24 x9_26
def wl_X7_movesOut_42 (a0 : Nat) (x2 : Int32) (x3 : Int32) (x4 : Int32) (x5 : Int32) (x6 : Int64) (x8 : Int32) (X87 : MM → Prop) : Nat → MM → Int32 → Prop
  | 0, _, _ => False
  | n_ + 1, M, x9 =>
  if x3 ≤ x9 then (X87 M)
  else (∃ b_11, mgR M a0 36 = some b_11 ∧ mkd M b_11 = 100 ∧ if x9 = x8 then (wb_X7_movesOut_80 M a0 x2 x3 x4 x5 x6 x8 x9 b_11 x9 (0 : Int32) (wl_X7_movesOut_42 a0 x2 x3 x4 x5 x6 x8 X87 n_) X87)
  else (∃ b_15, mgR M a0 0 = some b_15 ∧ mkd M b_15 = 100 ∧ ∃ b_18, mgR M a0 35 = some b_18 ∧ mkd M b_18 = 100 ∧ vp_in x9 (mln M b_18) ∧ vp_in ((52 : Int32) + (mgI M b_18 (ix_ x9))) (mln M b_15) ∧ wb_X7_movesOut_80 M a0 x2 x3 x4 x5 x6 x8 x9 b_11 x9 (mgI M b_15 (ix_ ((52 : Int32) + (mgI M b_18 (ix_ x9))))) (wl_X7_movesOut_42 a0 x2 x3 x4 x5 x6 x8 X87 n_) X87))
def wb_X7_movesOut_112 (M : MM) (a0 : Nat) (x2 : Int32) (x3 : Int32) (x4 : Int32) (x8 : Int32) (x9 : Int64) (R : MM → Int32 → Int64 → Int32 → Prop) (X131 : MM → Int32 → Int64 → Prop) : Prop :=
  ∃ b_35, mgR M a0 35 = some b_35 ∧ mkd M b_35 = 100 ∧ vp_in x8 (mln M b_35) ∧ ∀ x5_39, x5_39 = mgI M b_35 (ix_ x8) → ∀ x8_41, x8_41 = x8 + 1 → R M x5_39 x9 x8_41
def wl_X7_movesOut_33 (a0 : Nat) (x2 : Int32) (x3 : Int32) (x4 : Int32) (X131 : MM → Int32 → Int64 → Prop) : Nat → MM → Int32 → Int64 → Int32 → Prop
  | 0, _, _, _, _ => False
  | n_ + 1, M, x5, x6, x8 =>
  if x3 ≤ x8 then (X131 M x5 x6)
  else (∃ n_28, wl_X7_movesOut_42 a0 x2 x3 x4 x5 x6 x8
    (fun (M_29 : MM) => wp_X7_goesThrough M_29 a0 x2 x3 (fun r_32 M_31 => if x5 = (-1 : Int32) then (wb_X7_movesOut_112 M_31 a0 x2 x3 x4 x8 r_32 (wl_X7_movesOut_33 a0 x2 x3 x4 X131 n_) X131)
  else (if r_32 < x6 then (wb_X7_movesOut_112 M_31 a0 x2 x3 x4 x8 r_32 (wl_X7_movesOut_33 a0 x2 x3 x4 X131 n_) X131)
  else (∀ x8_44, x8_44 = x8 + 1 → wl_X7_movesOut_33 a0 x2 x3 x4 X131 n_ M_31 x5 x6 x8_44)))) n_28 M (0 : Int32))
def wp_X7_movesOut (M : MM) (a0 : Nat) (x1 : Int32) (x2 : Int32) (x3 : Int32) (x4 : Int32) (Post : Int64 → MM → Prop) : Prop :=
  wp_X7_canGo M a0 x1 x2 x3 (fun r_2 M_1 => if r_2 = 0 then (Post (-1 : Int64) M_1)
  else (wp_X7_in M_1 x4 (0 : Int32) (1 : Int32) (fun r_6 M_5 => if r_6 = 0 then (Post (-1 : Int64) M_5)
  else (∃ n_46, wl_X7_movesOut_33 a0 x2 x3 x4
    (fun (M_47 : MM) (x5_49 : Int32) (x6_50 : Int64) => if x4 = 0 then (Post x5_49.toInt64 M_47)
  else (Post x6_50 M_47)) n_46 M_5 (-1 : Int32) (0 : Int64) (0 : Int32)))))
def wl_X7_comingIn_6 (x1 : Int32) (x2 : Int32) (X24 : MM → Int32 → Prop) : Nat → MM → Int32 → Int32 → Prop
  | 0, _, _, _ => False
  | n_ + 1, M, x3, x4 =>
  if x4 ≤ x2 then (X24 M x3)
  else (¬ (x1 + (1 : Int32)) = 0 ∧ ∀ x3_3, x3_3 = x3 / (x1 + (1 : Int32)) → ∀ x4_5, x4_5 = x4 + (-1) → wl_X7_comingIn_6 x1 x2 X24 n_ M x3_3 x4_5)
def wp_X7_comingIn (M : MM) (x0 : Int32) (x1 : Int32) (x2 : Int32) (Post : Int32 → MM → Prop) : Prop :=
  ∃ n_7, wl_X7_comingIn_6 x1 x2
    (fun (M_8 : MM) (x3_10 : Int32) => ¬ (x1 + (1 : Int32)) = 0 ∧ Post (rm_ x3_10 (x1 + (1 : Int32))) M_8) n_7 M x0 (6 : Int32)
def wl_X7_comings_4 (x0 : Int32) (x1 : Int32) (X34 : MM → Int32 → Prop) : Nat → MM → Int32 → Int32 → Prop
  | 0, _, _, _ => False
  | n_ + 1, M, x2, x3 =>
  if (7 : Int32) ≤ x3 then (X34 M x2)
  else (wp_X7_comingIn M x0 x1 x3 (fun r_3 M_2 => if x1 ≤ r_3 then (∀ x2_6, x2_6 = x2 + (0 : Int32) → ∀ x3_8, x3_8 = x3 + 1 → wl_X7_comings_4 x0 x1 X34 n_ M_2 x2_6 x3_8)
  else (∀ x2_10, x2_10 = x2 + (1 : Int32) → ∀ x3_12, x3_12 = x3 + 1 → wl_X7_comings_4 x0 x1 X34 n_ M_2 x2_10 x3_12)))
def wp_X7_comings (M : MM) (x0 : Int32) (x1 : Int32) (Post : Int32 → MM → Prop) : Prop :=
  ∃ n_14, wl_X7_comings_4 x0 x1
    (fun (M_15 : MM) (x2_17 : Int32) => Post x2_17 M_15) n_14 M (0 : Int32) (0 : Int32)
def wb_X7_wetBehind_56 (M : MM) (a0 : Nat) (x1 : Int32) (x2 : Int32) (x3 : Int32) (x4 : Int32) (R : MM → Int32 → Prop) (X84 : MM → Prop) : Prop :=
  wp_X7_dries M a0 x1 (0 : Int32) (fun M_19 => ∃ b_22, mgR M_19 a0 0 = some b_22 ∧ mkd M_19 b_22 = 100 ∧ ∃ b_25, mgR M_19 a0 0 = some b_25 ∧ mkd M_19 b_25 = 100 ∧ 79 < mln M_19 b_25 ∧ 79 < mln M_19 b_22 ∧ ∀ M_30, M_30 = msI M_19 b_22 79 ((mgI M_19 b_25 79) + (1 : Int32)) → ∀ x4_32, x4_32 = x4 + 1 → R M_30 x4_32)
def wl_X7_wetBehind_14 (a0 : Nat) (x1 : Int32) (x2 : Int32) (x3 : Int32) (X84 : MM → Prop) : Nat → MM → Int32 → Prop
  | 0, _, _ => False
  | n_ + 1, M, x4 =>
  if (7 : Int32) ≤ x4 then (X84 M)
  else (wp_X7_lives M a0 x1 (fun r_12 M_11 => if r_12 = 0 then (X84 M_11)
  else (wp_X7_comingIn M_11 x3 x2 x4 (fun r_16 M_15 => if x2 ≤ r_16 then (wb_X7_wetBehind_56 M_15 a0 x1 x2 x3 x4 (wl_X7_wetBehind_14 a0 x1 x2 x3 X84 n_) X84)
  else (∃ b_34, mgR M_15 a0 35 = some b_34 ∧ mkd M_15 b_34 = 100 ∧ vp_in r_16 (mln M_15 b_34) ∧ wp_X7_waters M_15 a0 (mgI M_15 b_34 (ix_ r_16)) x1 (fun M_38 => wb_X7_wetBehind_56 M_38 a0 x1 x2 x3 x4 (wl_X7_wetBehind_14 a0 x1 x2 x3 X84 n_) X84))))))
def wb_X7_wetBehind_104 (M : MM) (a0 : Nat) (xs0 : Int32) (Post : Int32 → MM → Prop) : Prop :=
  ∃ b_48, mgR M a0 1 = some b_48 ∧ mkd M b_48 = 100 ∧ ∃ b_51, mgR M a0 0 = some b_51 ∧ mkd M b_51 = 100 ∧ wp_X7_copies M b_48 b_51 (fun M_54 => Post xs0 M_54)
def wb_X7_wetBehind_84 (M : MM) (a0 : Nat) (x1 : Int32) (Post : Int32 → MM → Prop) : Prop :=
  wp_X7_lives M a0 x1 (fun r_45 M_44 => if r_45 = 0 then (wb_X7_wetBehind_104 M_44 a0 (-1 : Int32) Post)
  else (∃ b_57, mgR M_44 a0 0 = some b_57 ∧ mkd M_44 b_57 = 100 ∧ vp_in ((4 : Int32) + x1) (mln M_44 b_57) ∧ wb_X7_wetBehind_104 M_44 a0 (mgI M_44 b_57 (ix_ ((4 : Int32) + x1))) Post))
def wp_X7_wetBehind (M : MM) (a0 : Nat) (x1 : Int32) (x2 : Int32) (x3 : Int32) (Post : Int32 → MM → Prop) : Prop :=
  ∃ b_1, mgR M a0 0 = some b_1 ∧ mkd M b_1 = 100 ∧ ∃ b_4, mgR M a0 1 = some b_4 ∧ mkd M b_4 = 100 ∧ wp_X7_copies M b_1 b_4 (fun M_7 => ∃ n_41, wl_X7_wetBehind_14 a0 x1 x2 x3
    (fun (M_42 : MM) => wb_X7_wetBehind_84 M_42 a0 x1 Post) n_41 M_7 (0 : Int32))
def wl_X7_week_54 (a0 : Nat) (x1 : Int32) (x2 : Int32) (x3 : Int32) (X75 : MM → Int32 → Prop) : Nat → MM → Int32 → Int32 → Prop
  | 0, _, _, _ => False
  | n_ + 1, M, x4, x5 =>
  if (7 : Int32) ≤ x5 then (X75 M x4)
  else (∀ x4_18, x4_18 = x4 * (x2 + (1 : Int32)) → ∀ x5_20, x5_20 = x5 + 1 → wl_X7_week_54 a0 x1 x2 x3 X75 n_ M x4_18 x5_20)
def wb_X7_week_112 (M : MM) (a0 : Nat) (x1 : Int32) (x2 : Int32) (x3 : Int32) (x4 : Int32) (x5 : Int32) (x6 : Int32) (R : MM → Int32 → Int32 → Prop) (X134 : MM → Int32 → Prop) : Prop :=
  wp_X7_wetBehind M a0 x1 x2 x6 (fun r_29 M_28 => if r_29 = (-1 : Int32) then (∀ x6_32, x6_32 = x6 + 1 → R M_28 x5 x6_32)
  else (∀ x6_34, x6_34 = x6 + 1 → R M_28 x6 x6_34))
def wl_X7_week_81 (a0 : Nat) (x1 : Int32) (x2 : Int32) (x3 : Int32) (x4 : Int32) (X134 : MM → Int32 → Prop) : Nat → MM → Int32 → Int32 → Prop
  | 0, _, _, _ => False
  | n_ + 1, M, x5, x6 =>
  if x4 ≤ x6 then (X134 M x5)
  else (if x5 = (-1 : Int32) then (wb_X7_week_112 M a0 x1 x2 x3 x4 x5 x6 (wl_X7_week_81 a0 x1 x2 x3 x4 X134 n_) X134)
  else (wp_X7_comings M x6 x2 (fun r_37 M_36 => wp_X7_comings M_36 x5 x2 (fun r_40 M_39 => if r_37 < r_40 then (wb_X7_week_112 M_39 a0 x1 x2 x3 x4 x5 x6 (wl_X7_week_81 a0 x1 x2 x3 x4 X134 n_) X134)
  else (∀ x6_43, x6_43 = x6 + 1 → wl_X7_week_81 a0 x1 x2 x3 x4 X134 n_ M_39 x5 x6_43)))))
def wb_X7_week_38 (M : MM) (a0 : Nat) (x1 : Int32) (x2 : Int32) (x3 : Int32) (Post : Int32 → MM → Prop) : Prop :=
  wp_X7_laysSome M a0 x2 (fun r_14 M_13 => if r_14 = 0 then (Post (-1 : Int32) M_13)
  else (∃ n_22, wl_X7_week_54 a0 x1 x2 x3
    (fun (M_23 : MM) (x4_25 : Int32) => ∃ n_45, wl_X7_week_81 a0 x1 x2 x3 x4_25
    (fun (M_46 : MM) (x5_48 : Int32) => if x5_48 = (-1 : Int32) then (Post (-2 : Int32) M_46)
  else (if x3 ≤ (9 : Int32) then (wp_X7_comingIn M_46 x5_48 x2 x3 (fun r_52 M_51 => if r_52 = x2 then (Post (-3 : Int32) M_51)
  else (∃ b_55, mgR M_51 a0 35 = some b_55 ∧ mkd M_51 b_55 = 100 ∧ vp_in r_52 (mln M_51 b_55) ∧ Post (mgI M_51 b_55 (ix_ r_52)) M_51)))
  else (if x3 = (10 : Int32) then (wp_X7_comings M_46 x5_48 x2 (fun r_64 M_63 => Post r_64 M_63))
  else (wp_X7_wetBehind M_46 a0 x1 x2 x5_48 (fun r_61 M_60 => Post r_61 M_60))))) n_45 M_23 (-1 : Int32) (0 : Int32)) n_22 M_13 (1 : Int32) (0 : Int32)))
def wp_X7_week (M : MM) (a0 : Nat) (x1 : Int32) (x2 : Int32) (x3 : Int32) (Post : Int32 → MM → Prop) : Prop :=
  wp_X7_lives M a0 x1 (fun r_2 M_1 => if r_2 = 0 then (Post (-1 : Int32) M_1)
  else (wp_X7_in M_1 x2 (1 : Int32) (3 : Int32) (fun r_6 M_5 => if r_6 = 0 then (Post (-1 : Int32) M_5)
  else (wp_X7_in M_5 x3 (10 : Int32) (11 : Int32) (fun r_10 M_9 => if r_10 = 0 then (wp_X7_in M_9 x3 (0 : Int32) (6 : Int32) (fun r_67 M_66 => if r_67 = 0 then (Post (-1 : Int32) M_66)
  else (wb_X7_week_38 M_66 a0 x1 x2 x3 Post)))
  else (wb_X7_week_38 M_9 a0 x1 x2 x3 Post))))))
def wl_X7_areTenths_2 (a0 : Nat) (x1 : Int32) (X22 : MM → Prop) (X30 : MM → Prop) : Nat → MM → Int32 → Prop
  | 0, _, _ => False
  | n_ + 1, M, x2 =>
  if x1 ≤ x2 then (X30 M)
  else (∃ b_2, mgR M a0 3 = some b_2 ∧ mkd M b_2 = 102 ∧ vp_in x2 (mln M b_2) ∧ wp_X7_in M (mgI M b_2 (ix_ x2)) (0 : Int32) (10 : Int32) (fun r_7 M_6 => if r_7 = 0 then (X22 M_6)
  else (∀ x2_10, x2_10 = x2 + 1 → wl_X7_areTenths_2 a0 x1 X22 X30 n_ M_6 x2_10)))
def wp_X7_areTenths (M : MM) (a0 : Nat) (x1 : Int32) (Post : Int32 → MM → Prop) : Prop :=
  ∃ n_12, wl_X7_areTenths_2 a0 x1
    (fun (M_13 : MM) => Post (0 : Int32) M_13)
    (fun (M_15 : MM) => Post (1 : Int32) M_15) n_12 M (0 : Int32)
def wb_X7_laysComes_22 (M : MM) (a0 : Nat) (x1 : Int32) (x2 : Int32) (as0 : Nat) (xs1 : Int32) (xs2 : Int64) (R : MM → Int32 → Prop) (X29 : MM → Prop) : Prop :=
  vp_in xs1 (mln M as0) ∧ ∀ M_7, M_7 = msL M as0 (ix_ xs1) xs2 → ∀ x2_9, x2_9 = x2 + 1 → R M_7 x2_9
def wl_X7_laysComes_2 (a0 : Nat) (x1 : Int32) (X29 : MM → Prop) : Nat → MM → Int32 → Prop
  | 0, _, _ => False
  | n_ + 1, M, x2 =>
  if (13 : Int32) ≤ x2 then (X29 M)
  else (∃ b_2, mgR M a0 45 = some b_2 ∧ mkd M b_2 = 101 ∧ if x2 = 0 then (wb_X7_laysComes_22 M a0 x1 x2 b_2 x2 (1 : Int64) (wl_X7_laysComes_2 a0 x1 X29 n_) X29)
  else (wb_X7_laysComes_22 M a0 x1 x2 b_2 x2 (0 : Int64) (wl_X7_laysComes_2 a0 x1 X29 n_) X29))
def wb_X7_laysComes_90 (M : MM) (a0 : Nat) (x1 : Int32) (x2 : Int32) (x3 : Int32) (as0 : Nat) (xs1 : Int32) (xs2 : Int64) (xs3 : Int64) (R : MM → Int32 → Prop) (X98 : MM → Prop) : Prop :=
  vp_in xs1 (mln M as0) ∧ ∀ M_31, M_31 = msL M as0 (ix_ xs1) (xs2 + xs3) → ∀ x3_33, x3_33 = x3 + (-1) → R M_31 x3_33
def wl_X7_laysComes_40 (a0 : Nat) (x1 : Int32) (x2 : Int32) (X98 : MM → Prop) : Nat → MM → Int32 → Prop
  | 0, _, _ => False
  | n_ + 1, M, x3 =>
  if x3 < 0 then (X98 M)
  else (∃ b_18, mgR M a0 45 = some b_18 ∧ mkd M b_18 = 101 ∧ ∃ b_21, mgR M a0 45 = some b_21 ∧ mkd M b_21 = 101 ∧ vp_in x3 (mln M b_21) ∧ ∃ b_25, mgR M a0 3 = some b_25 ∧ mkd M b_25 = 102 ∧ vp_in x2 (mln M b_25) ∧ if x3 ≤ 0 then (wb_X7_laysComes_90 M a0 x1 x2 x3 b_18 x3 ((mgL M b_21 (ix_ x3)) * (((10 : Int32) - (mgI M b_25 (ix_ x2))).toInt64)) (0 : Int64) (wl_X7_laysComes_40 a0 x1 x2 X98 n_) X98)
  else (∃ b_35, mgR M a0 45 = some b_35 ∧ mkd M b_35 = 101 ∧ vp_in (x3 - (1 : Int32)) (mln M b_35) ∧ ∃ b_39, mgR M a0 3 = some b_39 ∧ mkd M b_39 = 102 ∧ vp_in x2 (mln M b_39) ∧ wb_X7_laysComes_90 M a0 x1 x2 x3 b_18 x3 ((mgL M b_21 (ix_ x3)) * (((10 : Int32) - (mgI M b_25 (ix_ x2))).toInt64)) ((mgL M b_35 (ix_ (x3 - (1 : Int32)))) * ((mgI M b_39 (ix_ x2)).toInt64)) (wl_X7_laysComes_40 a0 x1 x2 X98 n_) X98))
def wl_X7_laysComes_31 (a0 : Nat) (x1 : Int32) (X104 : MM → Prop) : Nat → MM → Int32 → Prop
  | 0, _, _ => False
  | n_ + 1, M, x2 =>
  if x1 ≤ x2 then (X104 M)
  else (∀ x3_15, x3_15 = x2 + (1 : Int32) → ∃ n_43, wl_X7_laysComes_40 a0 x1 x2
    (fun (M_44 : MM) => ∀ x2_46, x2_46 = x2 + 1 → wl_X7_laysComes_31 a0 x1 X104 n_ M_44 x2_46) n_43 M x3_15)
def wp_X7_laysComes (M : MM) (a0 : Nat) (x1 : Int32) (Post : MM → Prop) : Prop :=
  ∃ n_11, wl_X7_laysComes_2 a0 x1
    (fun (M_12 : MM) => ∃ n_48, wl_X7_laysComes_31 a0 x1
    (fun (M_49 : MM) => Post M_49) n_48 M_12 (0 : Int32)) n_11 M (0 : Int32)
def wl_X7_gcd_6 (X31 : MM → Int64 → Prop) : Nat → MM → Int64 → Int64 → Prop
  | 0, _, _, _ => False
  | n_ + 1, M, x4, x6 =>
  if x6 = (0 : Int64) then (X31 M x4)
  else (¬ x6 = 0 ∧ ∀ x8_3, x8_3 = rmL_ x4 x6 → wl_X7_gcd_6 X31 n_ M x6 x8_3)
def wp_X7_gcd (M : MM) (x0 : Int64) (x2 : Int64) (Post : Int64 → MM → Prop) : Prop :=
  ∃ n_5, wl_X7_gcd_6
    (fun (M_6 : MM) (x4_8 : Int64) => Post x4_8 M_6) n_5 M x0 x2
def wp_X7_through (M : MM) (x0 : Int64) (x2 : Int64) (x4 : Int32) (Post : Int64 → MM → Prop) : Prop :=
  wp_X7_gcd M x0 x2 (fun r_2 M_1 => if x4 = 0 then (¬ r_2 = 0 ∧ Post (x0 / r_2) M_1)
  else (¬ r_2 = 0 ∧ Post (x2 / r_2) M_1))
def wp_X7_comes (M : MM) (a0 : Nat) (x1 : Int32) (x2 : Int32) (x3 : Int32) (Post : Int64 → MM → Prop) : Prop :=
  wp_X7_in M x1 (1 : Int32) (12 : Int32) (fun r_2 M_1 => if r_2 = 0 then (Post (-1 : Int64) M_1)
  else (wp_X7_in M_1 x2 (0 : Int32) (12 : Int32) (fun r_6 M_5 => if r_6 = 0 then (Post (-1 : Int64) M_5)
  else (wp_X7_in M_5 x3 (0 : Int32) (1 : Int32) (fun r_10 M_9 => if r_10 = 0 then (Post (-1 : Int64) M_9)
  else (if x1 ≤ (mgI M_9 a0 4) then (∀ M_14, M_14 = msI M_9 a0 4 (0 : Int32) → wp_X7_areTenths M_14 a0 x1 (fun r_17 M_16 => if r_17 = 0 then (Post (-2 : Int64) M_16)
  else (wp_X7_laysComes M_16 a0 x1 (fun M_20 => ∃ b_23, mgR M_20 a0 45 = some b_23 ∧ mkd M_20 b_23 = 101 ∧ vp_in x2 (mln M_20 b_23) ∧ wp_X7_tens M_20 x1 (fun r_28 M_27 => wp_X7_through M_27 (mgL M_20 b_23 (ix_ x2)) r_28 x3 (fun r_31 M_30 => Post r_31 M_30))))))
  else (Post (-1 : Int64) M_9)))))))
def wl_X7_share_9 (a0 : Nat) (x1 : Int32) (x2 : Int32) (X94 : MM → Int32 → Int32 → Prop) : Nat → MM → Int32 → Int32 → Int32 → Prop
  | 0, _, _, _, _ => False
  | n_ + 1, M, x3, x4, x5 =>
  if (8 : Int32) ≤ x5 then (X94 M x3 x4)
  else (wp_X7_isPerson M a0 x5 (fun r_3 M_2 => if r_3 = 0 then (∀ x5_35, x5_35 = x5 + 1 → wl_X7_share_9 a0 x1 x2 X94 n_ M_2 x3 x4 x5_35)
  else (∃ b_6, mgR M_2 a0 0 = some b_6 ∧ mkd M_2 b_6 = 100 ∧ vp_in ((68 : Int32) + x5) (mln M_2 b_6) ∧ ∀ x3_10, x3_10 = x3 + (mgI M_2 b_6 (ix_ ((68 : Int32) + x5))) → ∃ b_12, mgR M_2 a0 0 = some b_12 ∧ mkd M_2 b_12 = 100 ∧ vp_in ((68 : Int32) + x5) (mln M_2 b_12) ∧ if (mgI M_2 b_12 (ix_ ((68 : Int32) + x5))) ≤ 0 then (∀ x5_17, x5_17 = x5 + 1 → wl_X7_share_9 a0 x1 x2 X94 n_ M_2 x3_10 x4 x5_17)
  else (if x4 = (-2 : Int32) then (∀ x5_20, x5_20 = x5 + 1 → wl_X7_share_9 a0 x1 x2 X94 n_ M_2 x3_10 x5 x5_20)
  else (∃ b_22, mgR M_2 a0 0 = some b_22 ∧ mkd M_2 b_22 = 100 ∧ vp_in ((68 : Int32) + x5) (mln M_2 b_22) ∧ ∃ b_26, mgR M_2 a0 0 = some b_26 ∧ mkd M_2 b_26 = 100 ∧ vp_in ((68 : Int32) + x4) (mln M_2 b_26) ∧ if (mgI M_2 b_22 (ix_ ((68 : Int32) + x5))) ≤ (mgI M_2 b_26 (ix_ ((68 : Int32) + x4))) then (∀ x5_31, x5_31 = x5 + 1 → wl_X7_share_9 a0 x1 x2 X94 n_ M_2 x3_10 x4 x5_31)
  else (∀ x5_33, x5_33 = x5 + 1 → wl_X7_share_9 a0 x1 x2 X94 n_ M_2 x3_10 x5 x5_33))))))
def wp_X7_share (M : MM) (a0 : Nat) (x1 : Int32) (x2 : Int32) (Post : Int32 → MM → Prop) : Prop :=
  ∃ n_37, wl_X7_share_9 a0 x1 x2
    (fun (M_38 : MM) (x3_40 : Int32) (x4_41 : Int32) => if x1 = (-1 : Int32) then (if x2 = 0 then (Post x4_41 M_38)
  else (Post (-1 : Int32) M_38))
  else (wp_X7_isPerson M_38 a0 x1 (fun r_44 M_43 => if r_44 = 0 then (Post (-1 : Int32) M_43)
  else (wp_X7_in M_43 x2 (0 : Int32) (1 : Int32) (fun r_48 M_47 => if r_48 = 0 then (Post (-1 : Int32) M_47)
  else (if x3_40 = 0 then (Post x2 M_47)
  else (∃ b_52, mgR M_47 a0 0 = some b_52 ∧ mkd M_47 b_52 = 100 ∧ vp_in ((68 : Int32) + x1) (mln M_47 b_52) ∧ wp_X7_through M_47 ((mgI M_47 b_52 (ix_ ((68 : Int32) + x1))).toInt64) x3_40.toInt64 x2 (fun r_57 M_56 => Post r_57.toInt32 M_56)))))))) n_37 M (0 : Int32) (-2 : Int32) (0 : Int32)
def wb_X7_goesByRota_87 (M : MM) (a0 : Nat) (x1 : Int32) (x2 : Int32) (R : MM → Int32 → Prop) (X109 : MM → Prop) : Prop :=
  ∃ b_33, mgR M a0 0 = some b_33 ∧ mkd M b_33 = 100 ∧ ∃ b_36, mgR M a0 0 = some b_36 ∧ mkd M b_36 = 100 ∧ 79 < mln M b_36 ∧ 79 < mln M b_33 ∧ ∀ M_41, M_41 = msI M b_33 79 ((mgI M b_36 79) + (1 : Int32)) → ∀ x2_43, x2_43 = x2 + 1 → R M_41 x2_43
def wb_X7_goesByRota_71 (M : MM) (a0 : Nat) (x1 : Int32) (x2 : Int32) (as0 : Nat) (xs1 : Int32) (xs2 : Int32) (R : MM → Int32 → Prop) (X109 : MM → Prop) : Prop :=
  wp_X7_dries M as0 xs1 xs2 (fun M_26 => wp_X7_lives M_26 a0 x1 (fun r_30 M_29 => if r_30 = 0 then (∀ M_45, M_45 = msI M_29 a0 49 x2 → wb_X7_goesByRota_87 M_45 a0 x1 x2 R X109)
  else (wb_X7_goesByRota_87 M_29 a0 x1 x2 R X109)))
def wb_X7_goesByRota_56 (M : MM) (a0 : Nat) (x1 : Int32) (x2 : Int32) (R : MM → Int32 → Prop) (X109 : MM → Prop) : Prop :=
  wp_X7_draws M a0 (fun r_23 M_22 => if (5 : Int32) ≤ r_23 then (wb_X7_goesByRota_71 M_22 a0 x1 x2 a0 x1 (0 : Int32) R X109)
  else (wb_X7_goesByRota_71 M_22 a0 x1 x2 a0 x1 (1 : Int32) R X109))
def wl_X7_goesByRota_19 (a0 : Nat) (x1 : Int32) (X109 : MM → Prop) : Nat → MM → Int32 → Prop
  | 0, _, _ => False
  | n_ + 1, M, x2 =>
  if (mgI M a0 46) ≤ x2 then (X109 M)
  else (wp_X7_lives M a0 x1 (fun r_14 M_13 => if r_14 = 0 then (X109 M_13)
  else (∃ b_17, mgR M_13 a0 48 = some b_17 ∧ mkd M_13 b_17 = 100 ∧ vp_in x2 (mln M_13 b_17) ∧ if (mgI M_13 b_17 (ix_ x2)) = (-1 : Int32) then (wb_X7_goesByRota_56 M_13 a0 x1 x2 (wl_X7_goesByRota_19 a0 x1 X109 n_) X109)
  else (∃ b_47, mgR M_13 a0 48 = some b_47 ∧ mkd M_13 b_47 = 100 ∧ vp_in x2 (mln M_13 b_47) ∧ wp_X7_waters M_13 a0 (mgI M_13 b_47 (ix_ x2)) x1 (fun M_51 => wb_X7_goesByRota_56 M_51 a0 x1 x2 (wl_X7_goesByRota_19 a0 x1 X109 n_) X109)))))
def wb_X7_goesByRota_109 (M : MM) (a0 : Nat) (x1 : Int32) (Post : MM → Prop) : Prop :=
  ∃ b_57, mgR M a0 0 = some b_57 ∧ mkd M b_57 = 100 ∧ vp_in ((4 : Int32) + x1) (mln M b_57) ∧ ∀ M_61, M_61 = msI M a0 50 (mgI M b_57 (ix_ ((4 : Int32) + x1))) → ∃ b_63, mgR M_61 a0 1 = some b_63 ∧ mkd M_61 b_63 = 100 ∧ ∃ b_66, mgR M_61 a0 0 = some b_66 ∧ mkd M_61 b_66 = 100 ∧ wp_X7_copies M_61 b_63 b_66 (fun M_69 => Post M_69)
def wp_X7_goesByRota (M : MM) (a0 : Nat) (x1 : Int32) (Post : MM → Prop) : Prop :=
  ∃ b_1, mgR M a0 0 = some b_1 ∧ mkd M b_1 = 100 ∧ ∃ b_4, mgR M a0 1 = some b_4 ∧ mkd M b_4 = 100 ∧ wp_X7_copies M b_1 b_4 (fun M_7 => ∀ M_10, M_10 = msI M_7 a0 49 (-2 : Int32) → ∃ n_54, wl_X7_goesByRota_19 a0 x1
    (fun (M_55 : MM) => wb_X7_goesByRota_109 M_55 a0 x1 Post) n_54 M_10 (0 : Int32))
def wp_X7_isDayAt (M : MM) (x0 : Int32) (Post : Int32 → MM → Prop) : Prop :=
  if x0 = (46 : Int32) then (Post (1 : Int32) M)
  else (wp_X7_in M x0 (97 : Int32) (104 : Int32) (fun r_3 M_2 => if r_3 = 0 then (wp_X7_in M_2 x0 (50 : Int32) (55 : Int32) (fun r_7 M_6 => if r_7 = 0 then (Post (0 : Int32) M_6)
  else (Post (1 : Int32) M_6)))
  else (Post (1 : Int32) M_2)))
def wb_X7_readsWeek_207 (M : MM) (a0 : Nat) (x1 : Int32) (x2 : Int32) (x3 : Int32) (x4 : Int32) (as0 : Nat) (xs1 : Int32) (xs2 : Int32) (R : MM → Int32 → Prop) (X214 : MM → Prop) : Prop :=
  vp_in xs1 (mln M as0) ∧ ∀ M_33, M_33 = msI M as0 (ix_ xs1) xs2 → ∀ x4_35, x4_35 = x4 + 1 → R M_33 x4_35
def wl_X7_readsWeek_176 (a0 : Nat) (x1 : Int32) (x2 : Int32) (x3 : Int32) (X214 : MM → Prop) : Nat → MM → Int32 → Prop
  | 0, _, _ => False
  | n_ + 1, M, x4 =>
  if x3 ≤ x4 then (X214 M)
  else (∃ b_28, mgR M a0 48 = some b_28 ∧ mkd M b_28 = 100 ∧ if x2 = (46 : Int32) then (wb_X7_readsWeek_207 M a0 x1 x2 x3 x4 b_28 ((mgI M a0 46) + x4) (-1 : Int32) (wl_X7_readsWeek_176 a0 x1 x2 x3 X214 n_) X214)
  else (wb_X7_readsWeek_207 M a0 x1 x2 x3 x4 b_28 ((mgI M a0 46) + x4) (x2 - (97 : Int32)) (wl_X7_readsWeek_176 a0 x1 x2 x3 X214 n_) X214))
def wb_X7_readsWeek_145 (M : MM) (a0 : Nat) (x1 : Int32) (x2 : Int32) (x3 : Int32) (R : MM → Int32 → Prop) (X49 : MM → Prop) (X87 : MM → Prop) (X135 : MM → Prop) (X162 : MM → Prop) (X241 : MM → Prop) : Prop :=
  if x2 = (46 : Int32) then (∃ n_37, wl_X7_readsWeek_176 a0 x1 x2 x3
    (fun (M_38 : MM) => ∀ M_40, M_40 = msI M_38 a0 46 ((mgI M_38 a0 46) + x3) → ∀ x1_42, x1_42 = x1 + x3 → ∀ M_44, M_44 = msI M_40 a0 5 ((mgI M_40 a0 5) + (1 : Int32)) → R M_44 x1_42) n_37 M (0 : Int32))
  else (wp_X7_isPerson M a0 (x2 - (97 : Int32)) (fun r_47 M_46 => if r_47 = 0 then (X162 M_46)
  else (∃ n_50, wl_X7_readsWeek_176 a0 x1 x2 x3
    (fun (M_51 : MM) => ∀ M_53, M_53 = msI M_51 a0 46 ((mgI M_51 a0 46) + x3) → ∀ x1_55, x1_55 = x1 + x3 → ∀ M_57, M_57 = msI M_53 a0 5 ((mgI M_53 a0 5) + (1 : Int32)) → R M_57 x1_55) n_50 M_46 (0 : Int32))))
def wb_X7_readsWeek_113 (M : MM) (a0 : Nat) (x1 : Int32) (x3 : Int32) (R : MM → Int32 → Prop) (X49 : MM → Prop) (X87 : MM → Prop) (X135 : MM → Prop) (X162 : MM → Prop) (X241 : MM → Prop) : Prop :=
  wp_X7_here M a0 (fun r_23 M_22 => if r_23 = (46 : Int32) then (wb_X7_readsWeek_145 M_22 a0 x1 r_23 x3 R X49 X87 X135 X162 X241)
  else (wp_X7_in M_22 r_23 (97 : Int32) (104 : Int32) (fun r_60 M_59 => if r_60 = 0 then (X135 M_59)
  else (wb_X7_readsWeek_145 M_59 a0 x1 r_23 x3 R X49 X87 X135 X162 X241))))
def wb_X7_readsWeek_78 (M : MM) (a0 : Nat) (x1 : Int32) (xs0 : Int32) (R : MM → Int32 → Prop) (X49 : MM → Prop) (X87 : MM → Prop) (X135 : MM → Prop) (X162 : MM → Prop) (X241 : MM → Prop) : Prop :=
  if (x1 + xs0) ≤ (7 : Int32) then (if xs0 ≤ (1 : Int32) then (wb_X7_readsWeek_113 M a0 x1 xs0 R X49 X87 X135 X162 X241)
  else (∀ M_63, M_63 = msI M a0 5 ((mgI M a0 5) + (1 : Int32)) → wb_X7_readsWeek_113 M_63 a0 x1 xs0 R X49 X87 X135 X162 X241))
  else (X87 M)
def wl_X7_readsWeek_31 (a0 : Nat) (X49 : MM → Prop) (X87 : MM → Prop) (X135 : MM → Prop) (X162 : MM → Prop) (X241 : MM → Prop) : Nat → MM → Int32 → Prop
  | 0, _, _ => False
  | n_ + 1, M, x1 =>
  if (7 : Int32) ≤ x1 then (X241 M)
  else (wp_X7_here M a0 (fun r_10 M_9 => wp_X7_isDayAt M_9 r_10 (fun r_13 M_12 => if r_13 = 0 then (X49 M_12)
  else (wp_X7_in M_12 r_10 (50 : Int32) (55 : Int32) (fun r_17 M_16 => if r_17 = 0 then (wb_X7_readsWeek_78 M_16 a0 x1 (1 : Int32) (wl_X7_readsWeek_31 a0 X49 X87 X135 X162 X241 n_) X49 X87 X135 X162 X241)
  else (wb_X7_readsWeek_78 M_16 a0 x1 (r_10 - (48 : Int32)) (wl_X7_readsWeek_31 a0 X49 X87 X135 X162 X241 n_) X49 X87 X135 X162 X241))))))
def wp_X7_readsWeek (M : MM) (a0 : Nat) (Post : Int32 → MM → Prop) : Prop :=
  wp_X7_here M a0 (fun r_2 M_1 => wp_X7_isDayAt M_1 r_2 (fun r_5 M_4 => if r_5 = 0 then (∃ n_65, wl_X7_readsWeek_31 a0
    (fun (M_66 : MM) => wp_X7_wrongAt M_66 a0 (1 : Int32) (mgI M_66 a0 5) (fun r_69 M_68 => isB_ r_69 ∧ Post r_69 M_68))
    (fun (M_72 : MM) => wp_X7_wrongAt M_72 a0 (6 : Int32) (mgI M_72 a0 5) (fun r_75 M_74 => isB_ r_75 ∧ Post r_75 M_74))
    (fun (M_78 : MM) => wp_X7_wrongAt M_78 a0 (1 : Int32) (mgI M_78 a0 5) (fun r_81 M_80 => isB_ r_81 ∧ Post r_81 M_80))
    (fun (M_84 : MM) => wp_X7_wrongAt M_84 a0 (7 : Int32) (mgI M_84 a0 5) (fun r_87 M_86 => isB_ r_87 ∧ Post r_87 M_86))
    (fun (M_90 : MM) => ∀ M_92, M_92 = msI M_90 a0 47 ((mgI M_90 a0 47) + (1 : Int32)) → wp_X7_here M_92 a0 (fun r_95 M_94 => wp_X7_isDayAt M_94 r_95 (fun r_98 M_97 => if r_98 = 0 then (Post (1 : Int32) M_97)
  else (wp_X7_wrongAt M_97 a0 (6 : Int32) (mgI M_97 a0 5) (fun r_102 M_101 => if r_102 = 0 then (Post (0 : Int32) M_101)
  else (Post (1 : Int32) M_101)))))) n_65 M_4 (0 : Int32))
  else (if (mgI M_4 a0 47) = (12 : Int32) then (wp_X7_wrongAt M_4 a0 (4 : Int32) (mgI M_4 a0 5) (fun r_147 M_146 => isB_ r_147 ∧ Post r_147 M_146))
  else (∃ n_106, wl_X7_readsWeek_31 a0
    (fun (M_107 : MM) => wp_X7_wrongAt M_107 a0 (1 : Int32) (mgI M_107 a0 5) (fun r_110 M_109 => isB_ r_110 ∧ Post r_110 M_109))
    (fun (M_113 : MM) => wp_X7_wrongAt M_113 a0 (6 : Int32) (mgI M_113 a0 5) (fun r_116 M_115 => isB_ r_116 ∧ Post r_116 M_115))
    (fun (M_119 : MM) => wp_X7_wrongAt M_119 a0 (1 : Int32) (mgI M_119 a0 5) (fun r_122 M_121 => isB_ r_122 ∧ Post r_122 M_121))
    (fun (M_125 : MM) => wp_X7_wrongAt M_125 a0 (7 : Int32) (mgI M_125 a0 5) (fun r_128 M_127 => isB_ r_128 ∧ Post r_128 M_127))
    (fun (M_131 : MM) => ∀ M_133, M_133 = msI M_131 a0 47 ((mgI M_131 a0 47) + (1 : Int32)) → wp_X7_here M_133 a0 (fun r_136 M_135 => wp_X7_isDayAt M_135 r_136 (fun r_139 M_138 => if r_139 = 0 then (Post (1 : Int32) M_138)
  else (wp_X7_wrongAt M_138 a0 (6 : Int32) (mgI M_138 a0 5) (fun r_143 M_142 => if r_143 = 0 then (Post (0 : Int32) M_142)
  else (Post (1 : Int32) M_142)))))) n_106 M_4 (0 : Int32)))))
def wl_X7_rota_87 (a0 : Nat) (x1 : Int32) (x3 : Int32) (X129 : MM → Int32 → Prop) : Nat → MM → Int32 → Prop
  | 0, _, _ => False
  | n_ + 1, M, x4 =>
  if x4 = 0 then (X129 M x4)
  else (if (mgI M a0 6) ≤ (mgI M a0 5) then (X129 M x4)
  else (wp_X7_takes M a0 (47 : Int32) (fun r_33 M_32 => if r_33 = 0 then (wl_X7_rota_87 a0 x1 x3 X129 n_ M_32 (0 : Int32))
  else (wp_X7_readsWeek M_32 a0 (fun r_37 M_36 => if r_37 = 0 then (wl_X7_rota_87 a0 x1 x3 X129 n_ M_36 (0 : Int32))
  else (wl_X7_rota_87 a0 x1 x3 X129 n_ M_36 (1 : Int32)))))))
def wl_X7_rota_165 (a0 : Nat) (x3 : Int32) (X204 : MM → Int32 → Prop) : Nat → MM → Int32 → Int32 → Prop
  | 0, _, _, _ => False
  | n_ + 1, M, x5, x6 =>
  if (mgI M a0 46) ≤ x6 then (X204 M x5)
  else (∃ b_54, mgR M a0 48 = some b_54 ∧ mkd M b_54 = 100 ∧ vp_in x6 (mln M b_54) ∧ if (mgI M b_54 (ix_ x6)) = (x3 - (10 : Int32)) then (∀ x5_63, x5_63 = x5 + (1 : Int32) → ∀ x6_65, x6_65 = x6 + 1 → wl_X7_rota_165 a0 x3 X204 n_ M x5_63 x6_65)
  else (∀ x5_59, x5_59 = x5 + (0 : Int32) → ∀ x6_61, x6_61 = x6 + 1 → wl_X7_rota_165 a0 x3 X204 n_ M x5_59 x6_61))
def wb_X7_rota_129 (M : MM) (a0 : Nat) (x1 : Int32) (x3 : Int32) (x4 : Int32) (Post : Int32 → MM → Prop) : Prop :=
  ∀ M_44, M_44 = msI M a0 4 (0 : Int32) → if x4 = 0 then (Post (mgI M_44 a0 7) M_44)
  else (if x3 = 0 then (Post (mgI M_44 a0 46) M_44)
  else (if x3 < (10 : Int32) then (wp_X7_goesByRota M_44 a0 x1 (fun M_49 => if x3 = (1 : Int32) then (Post (mgI M_49 a0 49) M_49)
  else (Post (mgI M_49 a0 50) M_49)))
  else (∃ n_67, wl_X7_rota_165 a0 x3
    (fun (M_68 : MM) (x5_70 : Int32) => Post x5_70 M_68) n_67 M_44 (0 : Int32) (0 : Int32))))
def wb_X7_rota_38 (M : MM) (a0 : Nat) (x1 : Int32) (x2 : Int32) (x3 : Int32) (Post : Int32 → MM → Prop) : Prop :=
  if (mgI M a0 4) < x2 then (Post (-1 : Int32) M)
  else (∃ b_14, mgR M a0 0 = some b_14 ∧ mkd M b_14 = 100 ∧ 79 < mln M b_14 ∧ if (mgI M b_14 79) ≤ (9915 : Int32) then (∀ M_19, M_19 = msI M a0 5 (0 : Int32) → ∀ M_21, M_21 = msI M_19 a0 6 x2 → ∀ M_23, M_23 = msI M_21 a0 46 (0 : Int32) → ∀ M_25, M_25 = msI M_23 a0 47 (0 : Int32) → wp_X7_readsWeek M_25 a0 (fun r_28 M_27 => ∃ n_40, wl_X7_rota_87 a0 x1 x3
    (fun (M_41 : MM) (x4_43 : Int32) => wb_X7_rota_129 M_41 a0 x1 x3 x4_43 Post) n_40 M_27 r_28))
  else (Post (-1 : Int32) M))
def wp_X7_rota (M : MM) (a0 : Nat) (x1 : Int32) (x2 : Int32) (x3 : Int32) (Post : Int32 → MM → Prop) : Prop :=
  wp_X7_lives M a0 x1 (fun r_2 M_1 => if r_2 = 0 then (Post (-1 : Int32) M_1)
  else (wp_X7_in M_1 x2 (1 : Int32) (90 : Int32) (fun r_6 M_5 => if r_6 = 0 then (Post (-1 : Int32) M_5)
  else (wp_X7_in M_5 x3 (0 : Int32) (2 : Int32) (fun r_10 M_9 => if r_10 = 0 then (wp_X7_in M_9 x3 (10 : Int32) (17 : Int32) (fun r_72 M_71 => if r_72 = 0 then (Post (-1 : Int32) M_71)
  else (wb_X7_rota_38 M_71 a0 x1 x2 x3 Post)))
  else (wb_X7_rota_38 M_9 a0 x1 x2 x3 Post))))))
def wp_X7_gainOf (M : MM) (a0 : Nat) (x1 : Int32) (x2 : Int32) (Post : Int32 → MM → Prop) : Prop :=
  wp_X7_has M x1 x2 (fun r_2 M_1 => if r_2 = 0 then (if x1 = 0 then (Post (0 : Int32) M_1)
  else (∃ b_6, mgR M_1 a0 52 = some b_6 ∧ mkd M_1 b_6 = 100 ∧ vp_in x2 (mln M_1 b_6) ∧ Post (mgI M_1 b_6 (ix_ x2)) M_1))
  else (∃ b_10, mgR M_1 a0 52 = some b_10 ∧ mkd M_1 b_10 = 100 ∧ vp_in x2 (mln M_1 b_10) ∧ ∃ b_14, mgR M_1 a0 51 = some b_14 ∧ mkd M_1 b_14 = 100 ∧ vp_in x2 (mln M_1 b_14) ∧ Post ((mgI M_1 b_10 (ix_ x2)) - (mgI M_1 b_14 (ix_ x2))) M_1))
def wl_X7_laysAlone_2 (a0 : Nat) (x1 : Int32) (X56 : MM → Prop) : Nat → MM → Int32 → Prop
  | 0, _, _ => False
  | n_ + 1, M, x2 =>
  if x1 ≤ x2 then (X56 M)
  else (wp_X7_feels M a0 (fun M_2 => ∃ b_5, mgR M_2 a0 26 = some b_5 ∧ mkd M_2 b_5 = 100 ∧ 8 < mln M_2 b_5 ∧ ∀ M_9, M_9 = msI M_2 b_5 8 x2 → ∃ b_11, mgR M_9 a0 51 = some b_11 ∧ mkd M_9 b_11 = 100 ∧ wp_X7_byText M_9 a0 (0 : Int32) (99 : Int32) (99 : Int32) (fun r_15 M_14 => vp_in x2 (mln M_14 b_11) ∧ ∀ M_18, M_18 = msI M_14 b_11 (ix_ x2) r_15 → ∃ b_20, mgR M_18 a0 52 = some b_20 ∧ mkd M_18 b_20 = 100 ∧ wp_X7_byText M_18 a0 (0 : Int32) (98 : Int32) (999 : Int32) (fun r_24 M_23 => vp_in x2 (mln M_23 b_20) ∧ ∀ M_27, M_27 = msI M_23 b_20 (ix_ x2) r_24 → ∀ x2_29, x2_29 = x2 + 1 → wl_X7_laysAlone_2 a0 x1 X56 n_ M_27 x2_29))))
def wp_X7_laysAlone (M : MM) (a0 : Nat) (x1 : Int32) (Post : MM → Prop) : Prop :=
  ∃ n_31, wl_X7_laysAlone_2 a0 x1
    (fun (M_32 : MM) => Post M_32) n_31 M (0 : Int32)
def wl_X7_waterBy_5 (a0 : Nat) (x1 : Int32) (x2 : Int32) (X25 : MM → Int64 → Prop) : Nat → MM → Int64 → Int32 → Prop
  | 0, _, _, _ => False
  | n_ + 1, M, x3, x5 =>
  if x1 ≤ x5 then (X25 M x3)
  else (∀ x3_2, x3_2 = x3 * (((10 : Int32) - x2).toInt64) → ∀ x5_4, x5_4 = x5 + 1 → wl_X7_waterBy_5 a0 x1 x2 X25 n_ M x3_2 x5_4)
def wl_X7_waterBy_28 (a0 : Nat) (x1 : Int32) (x3 : Int64) (X63 : MM → Prop) (X71 : MM → Prop) : Nat → MM → Int32 → Prop
  | 0, _, _ => False
  | n_ + 1, M, x5 =>
  if x1 ≤ x5 then (X71 M)
  else (∃ b_11, mgR M a0 51 = some b_11 ∧ mkd M b_11 = 100 ∧ vp_in x5 (mln M b_11) ∧ wp_X7_tens M (x1 - (1 : Int32)) (fun r_16 M_15 => ∃ b_18, mgR M_15 a0 52 = some b_18 ∧ mkd M_15 b_18 = 100 ∧ vp_in x5 (mln M_15 b_18) ∧ if (((mgI M b_11 (ix_ x5)).toInt64) * r_16) ≤ (((mgI M_15 b_18 (ix_ x5)).toInt64) * x3) then (∀ x5_23, x5_23 = x5 + 1 → wl_X7_waterBy_28 a0 x1 x3 X63 X71 n_ M_15 x5_23)
  else (X63 M_15)))
def wp_X7_waterBy (M : MM) (a0 : Nat) (x1 : Int32) (x2 : Int32) (Post : Int32 → MM → Prop) : Prop :=
  ∃ n_6, wl_X7_waterBy_5 a0 x1 x2
    (fun (M_7 : MM) (x3_9 : Int64) => ∃ n_25, wl_X7_waterBy_28 a0 x1 x3_9
    (fun (M_26 : MM) => Post (0 : Int32) M_26)
    (fun (M_28 : MM) => Post (1 : Int32) M_28) n_25 M_7 (0 : Int32)) n_6 M (1 : Int64) (1 : Int32)
def wl_X7_alone_88 (a0 : Nat) (x1 : Int32) (x2 : Int32) (x3 : Int32) (x4 : Int32) (x5 : Int32) (X136 : MM → Int32 → Prop) : Nat → MM → Int32 → Int32 → Prop
  | 0, _, _, _ => False
  | n_ + 1, M, x6, x7 =>
  if x1 ≤ x7 then (X136 M x6)
  else (if x6 = 0 then (X136 M x6)
  else (wp_X7_gainOf M a0 (x5 ^^^ ((1 : Int32) <<< (x7 &&& 31))) x7 (fun r_17 M_16 => wp_X7_gainOf M_16 a0 x5 x7 (fun r_20 M_19 => if r_20 < r_17 then (∀ x7_23, x7_23 = x7 + 1 → wl_X7_alone_88 a0 x1 x2 x3 x4 x5 X136 n_ M_19 (0 : Int32) x7_23)
  else (∀ x7_25, x7_25 = x7 + 1 → wl_X7_alone_88 a0 x1 x2 x3 x4 x5 X136 n_ M_19 (1 : Int32) x7_25)))))
def wb_X7_alone_155 (M : MM) (a0 : Nat) (x1 : Int32) (x2 : Int32) (x3 : Int32) (x5 : Int32) (xs0 : Int32) (R : MM → Int32 → Int32 → Int32 → Prop) (X167 : MM → Int32 → Int32 → Prop) : Prop :=
  ∀ x3_33, x3_33 = x3 + (1 : Int32) → ∀ x5_35, x5_35 = x5 + 1 → R M x3_33 xs0 x5_35
def wb_X7_alone_136 (M : MM) (a0 : Nat) (x1 : Int32) (x2 : Int32) (x3 : Int32) (x4 : Int32) (x5 : Int32) (x6 : Int32) (R : MM → Int32 → Int32 → Int32 → Prop) (X167 : MM → Int32 → Int32 → Prop) : Prop :=
  if x6 = 0 then (∀ x5_37, x5_37 = x5 + 1 → R M x3 x4 x5_37)
  else (if x3 = 0 then (wb_X7_alone_155 M a0 x1 x2 x3 x5 x5 R X167)
  else (wb_X7_alone_155 M a0 x1 x2 x3 x5 x4 R X167))
def wl_X7_alone_74 (a0 : Nat) (x1 : Int32) (x2 : Int32) (X167 : MM → Int32 → Int32 → Prop) : Nat → MM → Int32 → Int32 → Int32 → Prop
  | 0, _, _, _, _ => False
  | n_ + 1, M, x3, x4, x5 =>
  if ((1 : Int32) <<< (x1 &&& 31)) ≤ x5 then (X167 M x3 x4)
  else (∃ n_27, wl_X7_alone_88 a0 x1 x2 x3 x4 x5
    (fun (M_28 : MM) (x6_30 : Int32) => wb_X7_alone_136 M_28 a0 x1 x2 x3 x4 x5 x6_30 (wl_X7_alone_74 a0 x1 x2 X167 n_) X167) n_27 M (1 : Int32) (0 : Int32))
def wl_X7_alone_34 (a0 : Nat) (x1 : Int32) (X54 : MM → Int32 → Prop) : Nat → MM → Int32 → Prop
  | 0, _, _ => False
  | n_ + 1, M, x3 =>
  if x3 < 0 then (X54 M x3)
  else (wp_X7_waterBy M a0 x1 x3 (fun r_47 M_46 => if r_47 = 0 then (∀ x3_50, x3_50 = x3 - (1 : Int32) → wl_X7_alone_34 a0 x1 X54 n_ M_46 x3_50)
  else (X54 M_46 x3)))
def wb_X7_alone_54 (M : MM) (x3 : Int32) (Post : Int32 → MM → Prop) : Prop :=
  if 0 ≤ x3 then (Post x3 M)
  else (Post (-2 : Int32) M)
def wp_X7_alone (M : MM) (a0 : Nat) (x1 : Int32) (x2 : Int32) (Post : Int32 → MM → Prop) : Prop :=
  wp_X7_in M x1 (2 : Int32) (6 : Int32) (fun r_2 M_1 => if r_2 = 0 then (Post (-1 : Int32) M_1)
  else (wp_X7_in M_1 x2 (0 : Int32) (2 : Int32) (fun r_6 M_5 => if r_6 = 0 then (Post (-1 : Int32) M_5)
  else (wp_X7_laysAlone M_5 a0 x1 (fun M_9 => if x2 = (2 : Int32) then (∃ n_52, wl_X7_alone_34 a0 x1
    (fun (M_53 : MM) (x3_55 : Int32) => wb_X7_alone_54 M_53 x3_55 Post) n_52 M_9 (10 : Int32))
  else (∃ n_39, wl_X7_alone_74 a0 x1 x2
    (fun (M_40 : MM) (x3_42 : Int32) (x4_43 : Int32) => if x2 = 0 then (Post x3_42 M_40)
  else (Post x4_43 M_40)) n_39 M_9 (0 : Int32) (-2 : Int32) (0 : Int32)))))))
def wl_X7_whoDid_107 (a0 : Nat) (x1 : Int32) (x2 : Int32) (x3 : Int32) (x4 : Int32) (x5 : Int32) (x6 : Int64) (x8 : Int32) (x9 : Int32) (x10 : Int32) (X188 : MM → Int32 → Int32 → Prop) : Nat → MM → Int32 → Int32 → Int32 → Prop
  | 0, _, _, _, _ => False
  | n_ + 1, M, x11, x12, x13 =>
  if (256 : Int32) ≤ x13 then (X188 M x11 x12)
  else (if (x13 &&& (x2 ^^^ (-1 : Int32))) = 0 then (∃ b_33, mgR M a0 3 = some b_33 ∧ mkd M b_33 = 102 ∧ vp_in x10 (mln M b_33) ∧ wp_X7_bits M x13 (fun r_38 M_37 => wp_X7_max M_37 (0 : Int32) ((((mgI M b_33 (ix_ x10)) &&& (255 : Int32)) + (x3 * r_38)) - x4) (fun r_41 M_40 => ∃ b_43, mgR M_40 a0 3 = some b_43 ∧ mkd M_40 b_43 = 102 ∧ vp_in (x10 + (1 : Int32)) (mln M_40 b_43) ∧ if r_41 = ((mgI M_40 b_43 (ix_ (x10 + (1 : Int32)))) &&& (255 : Int32)) then (∀ x11_48, x11_48 = x11 + (1 : Int32) → ∀ x12_50, x12_50 = x12 &&& x13 → ∀ x13_52, x13_52 = x13 + 1 → wl_X7_whoDid_107 a0 x1 x2 x3 x4 x5 x6 x8 x9 x10 X188 n_ M_40 x11_48 x12_50 x13_52)
  else (∀ x13_54, x13_54 = x13 + 1 → wl_X7_whoDid_107 a0 x1 x2 x3 x4 x5 x6 x8 x9 x10 X188 n_ M_40 x11 x12 x13_54))))
  else (∀ x13_31, x13_31 = x13 + 1 → wl_X7_whoDid_107 a0 x1 x2 x3 x4 x5 x6 x8 x9 x10 X188 n_ M x11 x12 x13_31))
def wb_X7_whoDid_212 (M : MM) (a0 : Nat) (x1 : Int32) (x2 : Int32) (x3 : Int32) (x4 : Int32) (x5 : Int32) (x6 : Int64) (x8 : Int32) (x9 : Int32) (x10 : Int32) (x12 : Int32) (R : MM → Int64 → Int32 → Int32 → Int32 → Prop) (X225 : MM → Int64 → Int32 → Int32 → Prop) : Prop :=
  ∀ x9_64, x9_64 = x9 ||| x12 → ∀ x10_66, x10_66 = x10 + 1 → R M x6 x8 x9_64 x10_66
def wl_X7_whoDid_92 (a0 : Nat) (x1 : Int32) (x2 : Int32) (x3 : Int32) (x4 : Int32) (x5 : Int32) (X225 : MM → Int64 → Int32 → Int32 → Prop) : Nat → MM → Int64 → Int32 → Int32 → Int32 → Prop
  | 0, _, _, _, _, _ => False
  | n_ + 1, M, x6, x8, x9, x10 =>
  if x1 ≤ x10 then (X225 M x6 x8 x9)
  else (∃ n_56, wl_X7_whoDid_107 a0 x1 x2 x3 x4 x5 x6 x8 x9 x10
    (fun (M_57 : MM) (x11_59 : Int32) (x12_60 : Int32) => ∀ x6_61, x6_61 = x6 * x11_59.toInt64 → if x11_59 = 0 then (if x8 = (-2 : Int32) then (wb_X7_whoDid_212 M_57 a0 x1 x2 x3 x4 x5 x6_61 x10 x9 x10 x12_60 (wl_X7_whoDid_92 a0 x1 x2 x3 x4 x5 X225 n_) X225)
  else (wb_X7_whoDid_212 M_57 a0 x1 x2 x3 x4 x5 x6_61 x8 x9 x10 x12_60 (wl_X7_whoDid_92 a0 x1 x2 x3 x4 x5 X225 n_) X225))
  else (wb_X7_whoDid_212 M_57 a0 x1 x2 x3 x4 x5 x6_61 x8 x9 x10 x12_60 (wl_X7_whoDid_92 a0 x1 x2 x3 x4 x5 X225 n_) X225)) n_56 M (0 : Int32) x2 (0 : Int32))
def wp_X7_whoDid (M : MM) (a0 : Nat) (x1 : Int32) (x2 : Int32) (x3 : Int32) (x4 : Int32) (x5 : Int32) (Post : Int64 → MM → Prop) : Prop :=
  wp_X7_in M x1 (1 : Int32) (6 : Int32) (fun r_2 M_1 => if r_2 = 0 then (Post (-1 : Int64) M_1)
  else (wp_X7_in M_1 x2 (1 : Int32) (255 : Int32) (fun r_6 M_5 => if r_6 = 0 then (Post (-1 : Int64) M_5)
  else (wp_X7_bits M_5 x2 (fun r_10 M_9 => if (5 : Int32) < r_10 then (Post (-1 : Int64) M_9)
  else (wp_X7_in M_9 x3 (1 : Int32) (9 : Int32) (fun r_14 M_13 => if r_14 = 0 then (Post (-1 : Int64) M_13)
  else (wp_X7_in M_13 x4 (0 : Int32) (9 : Int32) (fun r_18 M_17 => if r_18 = 0 then (Post (-1 : Int64) M_17)
  else (wp_X7_in M_17 x5 (0 : Int32) (2 : Int32) (fun r_22 M_21 => if r_22 = 0 then (Post (-1 : Int64) M_21)
  else (if (x1 + (1 : Int32)) ≤ (mgI M_21 a0 4) then (∀ M_26, M_26 = msI M_21 a0 4 (0 : Int32) → ∃ n_69, wl_X7_whoDid_92 a0 x1 x2 x3 x4 x5
    (fun (M_70 : MM) (x6_72 : Int64) (x8_73 : Int32) (x9_74 : Int32) => if x5 = 0 then (Post x6_72 M_70)
  else (if x5 = (1 : Int32) then (Post x8_73.toInt64 M_70)
  else (if x6_72 = (0 : Int64) then (Post (0 : Int64) M_70)
  else (Post x9_74.toInt64 M_70)))) n_69 M_26 (1 : Int64) (-2 : Int32) (0 : Int32) (0 : Int32))
  else (Post (-1 : Int64) M_21)))))))))))))
def wl_X7_can_80 (a0 : Nat) (x1 : Int32) (x2 : Int32) (x3 : Int32) (x4 : Int32) (X124 : MM → Int64 → Prop) : Nat → MM → Int64 → Int32 → Prop
  | 0, _, _, _ => False
  | n_ + 1, M, x5, x7 =>
  if x1 < x7 then (X124 M x5)
  else (∃ b_28, mgR M a0 45 = some b_28 ∧ mkd M b_28 = 101 ∧ vp_in x7 (mln M b_28) ∧ wp_X7_max M (0 : Int32) ((x2 * x7) - x3) (fun r_33 M_32 => wp_X7_max M_32 (0 : Int32) (x2 - x3) (fun r_36 M_35 => ∀ x5_38, x5_38 = x5 + ((mgL M b_28 (ix_ x7)) * ((r_33 - r_36).toInt64)) → ∀ x7_40, x7_40 = x7 + 1 → wl_X7_can_80 a0 x1 x2 x3 x4 X124 n_ M_35 x5_38 x7_40)))
def wp_X7_can (M : MM) (a0 : Nat) (x1 : Int32) (x2 : Int32) (x3 : Int32) (x4 : Int32) (Post : Int64 → MM → Prop) : Prop :=
  wp_X7_in M x1 (1 : Int32) (6 : Int32) (fun r_2 M_1 => if r_2 = 0 then (Post (-1 : Int64) M_1)
  else (wp_X7_in M_1 x2 (1 : Int32) (9 : Int32) (fun r_6 M_5 => if r_6 = 0 then (Post (-1 : Int64) M_5)
  else (wp_X7_in M_5 x3 (0 : Int32) (60 : Int32) (fun r_10 M_9 => if r_10 = 0 then (Post (-1 : Int64) M_9)
  else (wp_X7_in M_9 x4 (0 : Int32) (1 : Int32) (fun r_14 M_13 => if r_14 = 0 then (Post (-1 : Int64) M_13)
  else (if x1 ≤ (mgI M_13 a0 4) then (∀ M_18, M_18 = msI M_13 a0 4 (0 : Int32) → wp_X7_areTenths M_18 a0 x1 (fun r_21 M_20 => if r_21 = 0 then (Post (-2 : Int64) M_20)
  else (wp_X7_laysComes M_20 a0 x1 (fun M_24 => ∃ n_42, wl_X7_can_80 a0 x1 x2 x3 x4
    (fun (M_43 : MM) (x5_45 : Int64) => wp_X7_tens M_43 x1 (fun r_47 M_46 => wp_X7_through M_46 x5_45 r_47 x4 (fun r_50 M_49 => Post r_50 M_49))) n_42 M_24 (0 : Int64) (1 : Int32)))))
  else (Post (-1 : Int64) M_13)))))))))
def wp_X7_seed (M : MM) (a0 : Nat) (x1 : Int32) (Post : Int32 → MM → Prop) : Prop :=
  wp_X7_in M x1 (0 : Int32) (65535 : Int32) (fun r_2 M_1 => if r_2 = 0 then (Post (0 : Int32) M_1)
  else (∃ b_5, mgR M_1 a0 0 = some b_5 ∧ mkd M_1 b_5 = 100 ∧ 80 < mln M_1 b_5 ∧ ∀ M_9, M_9 = msI M_1 b_5 80 x1 → Post (1 : Int32) M_9))
def wl_X7_keep_20 (a0 : Nat) (X54 : MM → Int32 → Prop) : Nat → MM → Int32 → Int32 → Prop
  | 0, _, _, _ => False
  | n_ + 1, M, x1, x2 =>
  if (4 : Int32) ≤ x2 then (X54 M x1)
  else (wp_X7_isPlant M a0 x2 (fun r_14 M_13 => if r_14 = 0 then (∀ x1_17, x1_17 = x1 + (0 : Int32) → ∀ x2_19, x2_19 = x2 + 1 → wl_X7_keep_20 a0 X54 n_ M_13 x1_17 x2_19)
  else (∃ b_21, mgR M_13 a0 0 = some b_21 ∧ mkd M_13 b_21 = 100 ∧ vp_in ((4 : Int32) + x2) (mln M_13 b_21) ∧ ∀ x1_25, x1_25 = x1 + (mgI M_13 b_21 (ix_ ((4 : Int32) + x2))) → ∀ x2_27, x2_27 = x2 + 1 → wl_X7_keep_20 a0 X54 n_ M_13 x1_25 x2_27)))
def wp_X7_keep (M : MM) (a0 : Nat) (Post : Int32 → MM → Prop) : Prop :=
  ∀ M_1, M_1 = msI M a0 53 (1 : Int32) → ∃ b_3, mgR M_1 a0 0 = some b_3 ∧ mkd M_1 b_3 = 100 ∧ ∃ b_6, mgR M_1 a0 2 = some b_6 ∧ mkd M_1 b_6 = 100 ∧ wp_X7_copies M_1 b_3 b_6 (fun M_9 => ∃ n_29, wl_X7_keep_20 a0
    (fun (M_30 : MM) (x1_32 : Int32) => Post x1_32 M_30) n_29 M_9 (0 : Int32) (0 : Int32))
def wp_X7_undo (M : MM) (a0 : Nat) (Post : Int32 → MM → Prop) : Prop :=
  if (mgI M a0 53) = 0 then (Post (0 : Int32) M)
  else (∃ b_2, mgR M a0 2 = some b_2 ∧ mkd M b_2 = 100 ∧ ∃ b_5, mgR M a0 0 = some b_5 ∧ mkd M b_5 = 100 ∧ wp_X7_copies M b_2 b_5 (fun M_8 => Post (1 : Int32) M_8))
def wl_X7_tapeNumber_6 (a0 : Nat) (x1 : Int32) (X37 : MM → Int32 → Prop) : Nat → MM → Int32 → Int32 → Prop
  | 0, _, _, _ => False
  | n_ + 1, M, x2, x3 =>
  if (((4 : Int32) * x1) + (4 : Int32)) ≤ x3 then (X37 M x2)
  else (∃ b_4, mgR M a0 3 = some b_4 ∧ mkd M b_4 = 102 ∧ vp_in x3 (mln M b_4) ∧ ∀ x2_8, x2_8 = (x2 <<< ((8 : Int32) &&& 31)) ||| ((mgI M b_4 (ix_ x3)) &&& (255 : Int32)) → ∀ x3_10, x3_10 = x3 + 1 → wl_X7_tapeNumber_6 a0 x1 X37 n_ M x2_8 x3_10)
def wp_X7_tapeNumber (M : MM) (a0 : Nat) (x1 : Int32) (Post : Int32 → MM → Prop) : Prop :=
  ∀ x3_1, x3_1 = (4 : Int32) * x1 → ∃ n_12, wl_X7_tapeNumber_6 a0 x1
    (fun (M_13 : MM) (x2_15 : Int32) => Post x2_15 M_13) n_12 M (0 : Int32) x3_1
def wl_X7_check_38 (a0 : Nat) (x1 : Int32) (x2 : Int32) (X68 : MM → Int32 → Prop) (X76 : MM → Prop) : Nat → MM → Int32 → Prop
  | 0, _, _ => False
  | n_ + 1, M, x3 =>
  if x2 ≤ x3 then (X76 M)
  else (wp_X7_tapeNumber M a0 x3 (fun r_14 M_13 => ∃ b_16, mgR M_13 a0 0 = some b_16 ∧ mkd M_13 b_16 = 100 ∧ vp_in ((((24 : Int32) + ((7 : Int32) * x1)) + (6 : Int32)) - x3) (mln M_13 b_16) ∧ if r_14 = (mgI M_13 b_16 (ix_ ((((24 : Int32) + ((7 : Int32) * x1)) + (6 : Int32)) - x3))) then (∀ x3_21, x3_21 = x3 + 1 → wl_X7_check_38 a0 x1 x2 X68 X76 n_ M_13 x3_21)
  else (X68 M_13 x3)))
def wp_X7_check (M : MM) (a0 : Nat) (x1 : Int32) (x2 : Int32) (Post : Int32 → MM → Prop) : Prop :=
  wp_X7_isPlant M a0 x1 (fun r_2 M_1 => if r_2 = 0 then (Post (-2 : Int32) M_1)
  else (wp_X7_in M_1 x2 (0 : Int32) (7 : Int32) (fun r_6 M_5 => if r_6 = 0 then (Post (-2 : Int32) M_5)
  else (if x2 ≤ ((mgI M_5 a0 4) / (4 : Int32)) then (∀ M_10, M_10 = msI M_5 a0 4 (0 : Int32) → ∃ n_23, wl_X7_check_38 a0 x1 x2
    (fun (M_24 : MM) (x3_26 : Int32) => Post x3_26 M_24)
    (fun (M_27 : MM) => Post (-1 : Int32) M_27) n_23 M_10 (0 : Int32))
  else (Post (-2 : Int32) M_5)))))
def wb_X7_count_187 (M : MM) (a0 : Nat) (x1 : Int32) (Post : Int32 → MM → Prop) : Prop :=
  wp_X7_in M x1 (40 : Int32) (47 : Int32) (fun r_45 M_44 => if r_45 = 0 then (Post (-1 : Int32) M_44)
  else (wp_X7_isPerson M_44 a0 (x1 - (40 : Int32)) (fun r_49 M_48 => if r_49 = 0 then (Post (-1 : Int32) M_48)
  else (∃ b_52, mgR M_48 a0 0 = some b_52 ∧ mkd M_48 b_52 = 100 ∧ vp_in (((68 : Int32) + x1) - (40 : Int32)) (mln M_48 b_52) ∧ Post (mgI M_48 b_52 (ix_ (((68 : Int32) + x1) - (40 : Int32)))) M_48))))
def wb_X7_count_152 (M : MM) (a0 : Nat) (x1 : Int32) (Post : Int32 → MM → Prop) : Prop :=
  wp_X7_in M x1 (30 : Int32) (37 : Int32) (fun r_41 M_40 => if r_41 = 0 then (wb_X7_count_187 M_40 a0 x1 Post)
  else (wp_X7_isPerson M_40 a0 (x1 - (30 : Int32)) (fun r_57 M_56 => if r_57 = 0 then (wb_X7_count_187 M_56 a0 x1 Post)
  else (∃ b_60, mgR M_56 a0 0 = some b_60 ∧ mkd M_56 b_60 = 100 ∧ vp_in (((60 : Int32) + x1) - (30 : Int32)) (mln M_56 b_60) ∧ Post (mgI M_56 b_60 (ix_ (((60 : Int32) + x1) - (30 : Int32)))) M_56))))
def wp_X7_count (M : MM) (a0 : Nat) (x1 : Int32) (Post : Int32 → MM → Prop) : Prop :=
  if x1 = 0 then (∃ b_2, mgR M a0 0 = some b_2 ∧ mkd M b_2 = 100 ∧ 79 < mln M b_2 ∧ Post (mgI M b_2 79) M)
  else (if x1 = 1 then (∃ b_7, mgR M a0 0 = some b_7 ∧ mkd M b_7 = 100 ∧ 76 < mln M b_7 ∧ Post (mgI M b_7 76) M)
  else (if x1 = 2 then (∃ b_12, mgR M a0 0 = some b_12 ∧ mkd M b_12 = 100 ∧ 77 < mln M b_12 ∧ Post (mgI M b_12 77) M)
  else (if x1 = 3 then (∃ b_17, mgR M a0 0 = some b_17 ∧ mkd M b_17 = 100 ∧ 78 < mln M b_17 ∧ Post (mgI M b_17 78) M)
  else (if x1 = 4 then (∃ b_22, mgR M a0 20 = some b_22 ∧ mkd M b_22 = 100 ∧ 0 < mln M b_22 ∧ Post (mgI M b_22 0) M)
  else (if x1 = 5 then (Post (mgI M a0 4) M)
  else (if x1 = 6 then (∃ b_28, mgR M a0 0 = some b_28 ∧ mkd M b_28 = 100 ∧ 80 < mln M b_28 ∧ Post (mgI M b_28 80) M)
  else (wp_X7_in M x1 (10 : Int32) (13 : Int32) (fun r_33 M_32 => if r_33 = 0 then (wp_X7_in M_32 x1 (20 : Int32) (27 : Int32) (fun r_37 M_36 => if r_37 = 0 then (wb_X7_count_152 M_36 a0 x1 Post)
  else (wp_X7_isPerson M_36 a0 (x1 - (20 : Int32)) (fun r_65 M_64 => if r_65 = 0 then (wb_X7_count_152 M_64 a0 x1 Post)
  else (∃ b_68, mgR M_64 a0 0 = some b_68 ∧ mkd M_64 b_68 = 100 ∧ vp_in (((52 : Int32) + x1) - (20 : Int32)) (mln M_64 b_68) ∧ Post (mgI M_64 b_68 (ix_ (((52 : Int32) + x1) - (20 : Int32)))) M_64)))))
  else (∃ b_72, mgR M_32 a0 20 = some b_72 ∧ mkd M_32 b_72 = 100 ∧ vp_in (x1 - (9 : Int32)) (mln M_32 b_72) ∧ Post (mgI M_32 b_72 (ix_ (x1 - (9 : Int32)))) M_32)))))))))
theorem hd_X7_tried : mHd yX7_tried 2 := ⟨by decide, by decide, by decide +kernel⟩
theorem hd_X7_plantIs : mHd yX7_plantIs 2 := ⟨by decide, by decide, by decide +kernel⟩
theorem hd_X7_laysSome : mHd yX7_laysSome 1 := ⟨by decide, by decide, by decide +kernel⟩
theorem hd_X7_canGo : mHd yX7_canGo 3 := ⟨by decide, by decide, by decide +kernel⟩
theorem hd_X7_drownedIn : mHd yX7_drownedIn 1 := ⟨by decide, by decide, by decide +kernel⟩
theorem hd_X7_dryIn : mHd yX7_dryIn 1 := ⟨by decide, by decide, by decide +kernel⟩
theorem hd_X7_feelsState : mHd yX7_feelsState 2 := ⟨by decide, by decide, by decide +kernel⟩
theorem hd_X7_cupsIn : mHd yX7_cupsIn 3 := ⟨by decide, by decide, by decide +kernel⟩
theorem hd_X7_comesBy : mHd yX7_comesBy 2 := ⟨by decide, by decide, by decide +kernel⟩
theorem hd_X7_stateOf : mHd yX7_stateOf 3 := ⟨by decide, by decide, by decide +kernel⟩
theorem hd_X7_sunBy : mHd yX7_sunBy 3 := ⟨by decide, by decide, by decide +kernel⟩
theorem hd_X7_tens : mHd yX7_tens 1 := ⟨by decide, by decide, by decide +kernel⟩
theorem hd_X7_goesThrough : mHd yX7_goesThrough 2 := ⟨by decide, by decide, by decide +kernel⟩
theorem hd_X7_exactly : mHd yX7_exactly 4 := ⟨by decide, by decide, by decide +kernel⟩
theorem hd_X7_chance : mHd yX7_chance 4 := ⟨by decide, by decide, by decide +kernel⟩
theorem hd_X7_toAsk : mHd yX7_toAsk 4 := ⟨by decide, by decide, by decide +kernel⟩
theorem hd_X7_few : mHd yX7_few 4 := ⟨by decide, by decide, by decide +kernel⟩
theorem hd_X7_pot : mHd yX7_pot 4 := ⟨by decide, by decide, by decide +kernel⟩
theorem hd_X7_ruleFor : mHd yX7_ruleFor 5 := ⟨by decide, by decide, by decide +kernel⟩
theorem hd_X7_lastsWith : mHd yX7_lastsWith 2 := ⟨by decide, by decide, by decide +kernel⟩
theorem hd_X7_lasts : mHd yX7_lasts 2 := ⟨by decide, by decide, by decide +kernel⟩
theorem hd_X7_leastBy : mHd yX7_leastBy 0 := ⟨by decide, by decide, by decide +kernel⟩
theorem hd_X7_mayBe : mHd yX7_mayBe 1 := ⟨by decide, by decide, by decide +kernel⟩
theorem hd_X7_laysSpread : mHd yX7_laysSpread 1 := ⟨by decide, by decide, by decide +kernel⟩
theorem hd_X7_spread : mHd yX7_spread 2 := ⟨by decide, by decide, by decide +kernel⟩
theorem hd_X7_needs : mHd yX7_needs 2 := ⟨by decide, by decide, by decide +kernel⟩
theorem hd_X7_movesOut : mHd yX7_movesOut 4 := ⟨by decide, by decide, by decide +kernel⟩
theorem hd_X7_comingIn : mHd yX7_comingIn 3 := ⟨by decide, by decide, by decide +kernel⟩
theorem hd_X7_comings : mHd yX7_comings 2 := ⟨by decide, by decide, by decide +kernel⟩
theorem hd_X7_wetBehind : mHd yX7_wetBehind 3 := ⟨by decide, by decide, by decide +kernel⟩
theorem hd_X7_week : mHd yX7_week 3 := ⟨by decide, by decide, by decide +kernel⟩
theorem hd_X7_areTenths : mHd yX7_areTenths 1 := ⟨by decide, by decide, by decide +kernel⟩
theorem hd_X7_laysComes : mHd yX7_laysComes 1 := ⟨by decide, by decide, by decide +kernel⟩
theorem hd_X7_gcd : mHd yX7_gcd 2 := ⟨by decide, by decide, by decide +kernel⟩
theorem hd_X7_through : mHd yX7_through 3 := ⟨by decide, by decide, by decide +kernel⟩
theorem hd_X7_comes : mHd yX7_comes 3 := ⟨by decide, by decide, by decide +kernel⟩
theorem hd_X7_share : mHd yX7_share 2 := ⟨by decide, by decide, by decide +kernel⟩
theorem hd_X7_goesByRota : mHd yX7_goesByRota 1 := ⟨by decide, by decide, by decide +kernel⟩
theorem hd_X7_isDayAt : mHd yX7_isDayAt 1 := ⟨by decide, by decide, by decide +kernel⟩
theorem hd_X7_readsWeek : mHd yX7_readsWeek 0 := ⟨by decide, by decide, by decide +kernel⟩
theorem hd_X7_rota : mHd yX7_rota 3 := ⟨by decide, by decide, by decide +kernel⟩
theorem hd_X7_gainOf : mHd yX7_gainOf 2 := ⟨by decide, by decide, by decide +kernel⟩
theorem hd_X7_laysAlone : mHd yX7_laysAlone 1 := ⟨by decide, by decide, by decide +kernel⟩
theorem hd_X7_waterBy : mHd yX7_waterBy 2 := ⟨by decide, by decide, by decide +kernel⟩
theorem hd_X7_alone : mHd yX7_alone 2 := ⟨by decide, by decide, by decide +kernel⟩
theorem hd_X7_whoDid : mHd yX7_whoDid 5 := ⟨by decide, by decide, by decide +kernel⟩
theorem hd_X7_can : mHd yX7_can 4 := ⟨by decide, by decide, by decide +kernel⟩
theorem hd_X7_seed : mHd yX7_seed 1 := ⟨by decide, by decide, by decide +kernel⟩
theorem hd_X7_keep : mHd yX7_keep 0 := ⟨by decide, by decide, by decide +kernel⟩
theorem hd_X7_undo : mHd yX7_undo 0 := ⟨by decide, by decide, by decide +kernel⟩
theorem hd_X7_tapeNumber : mHd yX7_tapeNumber 1 := ⟨by decide, by decide, by decide +kernel⟩
theorem hd_X7_check : mHd yX7_check 2 := ⟨by decide, by decide, by decide +kernel⟩
theorem hd_X7_count : mHd yX7_count 1 := ⟨by decide, by decide, by decide +kernel⟩
set_option maxHeartbeats 4000000 in
theorem B_X7_tried_173 {E : mE} {M : MM} {a0 : Nat} {xs0 : Int32} {Post : Int32 → MM → Prop} (C : mC E yX7_tried cX7_tried 5 ((some .int)) { frames := 7, cells := 0, slots := 0, locals := 164 }) (hE : mEnd E { frames := 7, cells := 0, slots := 0, locals := 164 } (pI_ Post)) (k_a0 : mkd M a0 = 7) (h : wb_X7_tried_173 M a0 xs0 Post) : mV E M 0 0 173 [(0, .ref a0)] [.int xs0] := by
  unfold wb_X7_tried_173 at h
  refine r_istore C (lv' := [(4, .int xs0), (0, .ref a0)]) dX7_tried_173 (pc' := 175) rfl xs0 rfl (Nat.le_of_ble_eq_true rfl) rfl ?_
  refine r_aload_n C dX7_tried_175 (pc' := 176) rfl (j := 1) rfl ?_
  refine r_getf C (Cn := RX7) (T := TX7) 1 k_a0 (by decide) vc_X7 in_X7 (by decide) q1225 dX7_tried_176 (pc' := 179) rfl (v := va_rf (mgR M a0 1)) rfl ?_
  obtain ⟨b_31, e_32, k_33, h⟩ := h
  refine r_ref [] e_32 ?_
  refine r_aload_n C dX7_tried_179 (pc' := 180) rfl (j := 1) rfl ?_
  refine r_getf C (Cn := RX7) (T := TX7) 0 k_a0 (by decide) vc_X7 in_X7 (by decide) q1224 dX7_tried_180 (pc' := 183) rfl (v := va_rf (mgR M a0 0)) rfl ?_
  obtain ⟨b_34, e_35, k_36, h⟩ := h
  refine r_ref [] e_35 ?_
  refine r_callSv (As := [.ref b_31, .ref b_34]) (rest := []) C (S_X7_copies k_33 k_36 h) (lw_S q1588 q1589 q112 q1590) hd_X7_copies rfl rfl (Nat.le_of_ble_eq_true rfl) (Nat.le_of_ble_eq_true rfl) (Nat.le_of_ble_eq_true rfl) rfl rfl (Nat.le_of_ble_eq_true rfl) (Nat.le_of_ble_eq_true rfl) dX7_tried_183 (pc' := 186) rfl (fun M_37 h m_39 => ?_)
  refine r_iload C dX7_tried_186 (pc' := 188) rfl (j := 0) rfl ?_
  exact r_iret C hE (Nat.le_of_ble_eq_true rfl) (Nat.le_of_ble_eq_true rfl) dX7_tried_188 ⟨_, rfl, h⟩
set_option maxHeartbeats 4000000 in
theorem B_X7_tried_58 {E : mE} {M : MM} {a0 : Nat} {x1 : Int32} {x2 : Int32} {xs0 : Int32} {Post : Int32 → MM → Prop} (C : mC E yX7_tried cX7_tried 5 ((some .int)) { frames := 7, cells := 0, slots := 0, locals := 164 }) (hE : mEnd E { frames := 7, cells := 0, slots := 0, locals := 164 } (pI_ Post)) (k_a0 : mkd M a0 = 7) (h : wb_X7_tried_58 M a0 x1 x2 xs0 Post) : mV E M 0 0 58 [(0, .ref a0), (1, .int x1), (2, .int x2)] [.int xs0] := by
  unfold wb_X7_tried_58 at h
  refine r_istore_n C (lv' := [(3, .int xs0), (0, .ref a0), (1, .int x1), (2, .int x2)]) dX7_tried_58 (pc' := 59) rfl rfl xs0 rfl (Nat.le_of_ble_eq_true rfl) rfl ?_
  refine r_iload_n C dX7_tried_59 (pc' := 60) rfl (j := 2) rfl ?_
  refine r_iconst C dX7_tried_60 (pc' := 61) rfl (v := 1) rfl ?_
  refine r_bipush C dX7_tried_61 (pc' := 63) rfl (v := 60) rfl ?_
  refine r_callSi (As := [.int x1, .int (1 : Int32), .int (60 : Int32)]) (rest := []) C (S_X7_in h) (lw_S q1391 q1392 q112 q1393) hd_X7_in rfl rfl (Nat.le_of_ble_eq_true rfl) (Nat.le_of_ble_eq_true rfl) (Nat.le_of_ble_eq_true rfl) rfl rfl (Nat.le_of_ble_eq_true rfl) (Nat.le_of_ble_eq_true rfl) dX7_tried_63 (pc' := 66) rfl (fun r_6 M_5 h m_7 => ?_)
  refine r_if_eq C dX7_tried_66 (pc' := 69) rfl (tgt := 73) (by decide) (fun c_8 => ?_) (fun c_8 => ?_)
  · have h := it_t h c_8
    refine r_iconst C dX7_tried_73 (pc' := 74) rfl (v := -1) rfl ?_
    exact r_iret C hE (Nat.le_of_ble_eq_true rfl) (Nat.le_of_ble_eq_true rfl) dX7_tried_74 ⟨_, rfl, h⟩
  · have h := it_f h c_8
    refine r_iload_n C dX7_tried_69 (pc' := 70) rfl (j := 0) rfl ?_
    refine r_if_ne C dX7_tried_70 (pc' := 73) rfl (tgt := 75) (by decide) (fun c_9 => ?_) (fun c_9 => ?_)
    · have h := it_f h c_9
      refine r_aload_n C dX7_tried_75 (pc' := 76) rfl (j := 1) rfl ?_
      refine r_getf C (Cn := RX7) (T := TX7) 0 (mMo.kd m_7 k_a0 (by decide)) (by decide) vc_X7 in_X7 (by decide) q1224 dX7_tried_76 (pc' := 79) rfl (v := va_rf (mgR M_5 a0 0)) rfl ?_
      obtain ⟨b_10, e_11, k_12, h⟩ := h
      refine r_ref [] e_11 ?_
      refine r_aload_n C dX7_tried_79 (pc' := 80) rfl (j := 1) rfl ?_
      refine r_getf C (Cn := RX7) (T := TX7) 1 (mMo.kd m_7 k_a0 (by decide)) (by decide) vc_X7 in_X7 (by decide) q1225 dX7_tried_80 (pc' := 83) rfl (v := va_rf (mgR M_5 a0 1)) rfl ?_
      obtain ⟨b_13, e_14, k_15, h⟩ := h
      refine r_ref [] e_14 ?_
      refine r_callSv (As := [.ref b_10, .ref b_13]) (rest := []) C (S_X7_copies k_12 k_15 h) (lw_S q1588 q1589 q112 q1590) hd_X7_copies rfl rfl (Nat.le_of_ble_eq_true rfl) (Nat.le_of_ble_eq_true rfl) (Nat.le_of_ble_eq_true rfl) rfl rfl (Nat.le_of_ble_eq_true rfl) (Nat.le_of_ble_eq_true rfl) dX7_tried_83 (pc' := 86) rfl (fun M_16 h m_18 => ?_)
      refine r_aload_n C dX7_tried_86 (pc' := 87) rfl (j := 1) rfl ?_
      refine r_iload_n C dX7_tried_87 (pc' := 88) rfl (j := 2) rfl ?_
      refine r_callVv (As := [.int x1]) (rest := []) (Cn := RX7) (T := TX7) C (mMo.kd m_18 (mMo.kd m_7 k_a0 (by decide)) (by decide)) (by decide) vc_X7 (S_X7_daysGo (mMo.kd m_18 (mMo.kd m_7 k_a0 (by decide)) (by decide)) h) (lw_V q1560 q1562 qs79 q112 q1563) rfl hd_X7_daysGo rfl rfl (Nat.le_of_ble_eq_true rfl) (Nat.le_of_ble_eq_true rfl) (Nat.le_of_ble_eq_true rfl) rfl rfl (Nat.le_of_ble_eq_true rfl) (Nat.le_of_ble_eq_true rfl) dX7_tried_88 (pc' := 91) rfl (fun M_19 h m_21 => ?_)
      refine r_iload_n C dX7_tried_91 (pc' := 92) rfl (j := 3) rfl ?_
      refine r_if_ne C dX7_tried_92 (pc' := 95) rfl (tgt := 102) (by decide) (fun c_22 => ?_) (fun c_22 => ?_)
      · have h := it_f h c_22
        refine r_iload_n C dX7_tried_102 (pc' := 103) rfl (j := 3) rfl ?_
        refine r_iconst C dX7_tried_103 (pc' := 104) rfl (v := 1) rfl ?_
        refine r_icmp_ne C dX7_tried_104 (pc' := 107) rfl (tgt := 114) (by decide) (fun c_23 => ?_) (fun c_23 => ?_)
        · have h := it_f h c_23
          refine r_iload_n C dX7_tried_114 (pc' := 115) rfl (j := 3) rfl ?_
          refine r_iconst C dX7_tried_115 (pc' := 116) rfl (v := 2) rfl ?_
          refine r_icmp_ne C dX7_tried_116 (pc' := 119) rfl (tgt := 132) (by decide) (fun c_24 => ?_) (fun c_24 => ?_)
          · have h := it_f h c_24
            refine r_iload_n C dX7_tried_132 (pc' := 133) rfl (j := 3) rfl ?_
            refine r_iconst C dX7_tried_133 (pc' := 134) rfl (v := 3) rfl ?_
            refine r_icmp_ne C dX7_tried_134 (pc' := 137) rfl (tgt := 144) (by decide) (fun c_25 => ?_) (fun c_25 => ?_)
            · have h := it_f h c_25
              refine r_iload_n C dX7_tried_144 (pc' := 145) rfl (j := 3) rfl ?_
              refine r_bipush C dX7_tried_145 (pc' := 147) rfl (v := 20) rfl ?_
              refine r_icmp_ge C dX7_tried_147 (pc' := 150) rfl (tgt := 164) (by decide) (fun c_26 => ?_) (fun c_26 => ?_)
              · have h := it_t h c_26
                refine r_aload_n C dX7_tried_164 (pc' := 165) rfl (j := 1) rfl ?_
                refine r_getf C (Cn := RX7) (T := TX7) 30 (mMo.kd m_21 (mMo.kd m_18 (mMo.kd m_7 k_a0 (by decide)) (by decide)) (by decide)) (by decide) vc_X7 in_X7 (by decide) q1254 dX7_tried_165 (pc' := 168) rfl (v := va_rf (mgR M_19 a0 30)) rfl ?_
                obtain ⟨b_27, e_28, k_29, h⟩ := h
                refine r_ref [] e_28 ?_
                refine r_iload_n C dX7_tried_168 (pc' := 169) rfl (j := 3) rfl ?_
                refine r_bipush C dX7_tried_169 (pc' := 171) rfl (v := 20) rfl ?_
                refine r_isub C dX7_tried_171 (pc' := 172) rfl ?_
                obtain ⟨c_30, h⟩ := h
                refine r_iald C (j := (ix_ (x2 - (20 : Int32)))) k_29 c_30 rfl dX7_tried_172 (pc' := 173) rfl ?_
                refine r_sub (lv' := [(0, .ref a0)]) [1] rfl ?_
                exact B_X7_tried_173 C hE (mMo.kd m_21 (mMo.kd m_18 (mMo.kd m_7 k_a0 (by decide)) (by decide)) (by decide)) h
              · have h := it_f h c_26
                refine r_aload_n C dX7_tried_150 (pc' := 151) rfl (j := 1) rfl ?_
                refine r_getf C (Cn := RX7) (T := TX7) 0 (mMo.kd m_21 (mMo.kd m_18 (mMo.kd m_7 k_a0 (by decide)) (by decide)) (by decide)) (by decide) vc_X7 in_X7 (by decide) q1224 dX7_tried_151 (pc' := 154) rfl (v := va_rf (mgR M_19 a0 0)) rfl ?_
                obtain ⟨b_40, e_41, k_42, h⟩ := h
                refine r_ref [] e_41 ?_
                refine r_iconst C dX7_tried_154 (pc' := 155) rfl (v := 4) rfl ?_
                refine r_iload_n C dX7_tried_155 (pc' := 156) rfl (j := 3) rfl ?_
                refine r_iadd C dX7_tried_156 (pc' := 157) rfl ?_
                refine r_bipush C dX7_tried_157 (pc' := 159) rfl (v := 10) rfl ?_
                refine r_isub C dX7_tried_159 (pc' := 160) rfl ?_
                obtain ⟨c_43, h⟩ := h
                refine r_iald C (j := (ix_ (((4 : Int32) + x2) - (10 : Int32)))) k_42 c_43 rfl dX7_tried_160 (pc' := 161) rfl ?_
                refine r_goto C dX7_tried_161 (tgt := 173) (by decide) ?_
                refine r_sub (lv' := [(0, .ref a0)]) [1] rfl ?_
                exact B_X7_tried_173 C hE (mMo.kd m_21 (mMo.kd m_18 (mMo.kd m_7 k_a0 (by decide)) (by decide)) (by decide)) h
            · have h := it_t h c_25
              refine r_aload_n C dX7_tried_137 (pc' := 138) rfl (j := 1) rfl ?_
              refine r_getf C (Cn := RX7) (T := TX7) 29 (mMo.kd m_21 (mMo.kd m_18 (mMo.kd m_7 k_a0 (by decide)) (by decide)) (by decide)) (by decide) vc_X7 in_X7 (by decide) q1253 dX7_tried_138 (pc' := 141) rfl (v := .int (mgI M_19 a0 29)) rfl ?_
              refine r_goto C dX7_tried_141 (tgt := 173) (by decide) ?_
              refine r_sub (lv' := [(0, .ref a0)]) [1] rfl ?_
              exact B_X7_tried_173 C hE (mMo.kd m_21 (mMo.kd m_18 (mMo.kd m_7 k_a0 (by decide)) (by decide)) (by decide)) h
          · have h := it_t h c_24
            refine r_aload_n C dX7_tried_119 (pc' := 120) rfl (j := 1) rfl ?_
            refine r_getf C (Cn := RX7) (T := TX7) 0 (mMo.kd m_21 (mMo.kd m_18 (mMo.kd m_7 k_a0 (by decide)) (by decide)) (by decide)) (by decide) vc_X7 in_X7 (by decide) q1224 dX7_tried_120 (pc' := 123) rfl (v := va_rf (mgR M_19 a0 0)) rfl ?_
            obtain ⟨b_44, e_45, k_46, h⟩ := h
            refine r_ref [] e_45 ?_
            refine r_bipush C dX7_tried_123 (pc' := 125) rfl (v := 77) rfl ?_
            obtain ⟨c_47, h⟩ := h
            refine r_iald C (j := 77) k_46 (vp_l (by decide) (by decide) c_47) (by decide) dX7_tried_125 (pc' := 126) rfl ?_
            refine r_callSi (As := [.int (mgI M_19 b_44 77)]) (rest := []) C (S_X7_bits h) (lw_S q1542 q1543 q112 q1544) hd_X7_bits rfl rfl (Nat.le_of_ble_eq_true rfl) (Nat.le_of_ble_eq_true rfl) (Nat.le_of_ble_eq_true rfl) rfl rfl (Nat.le_of_ble_eq_true rfl) (Nat.le_of_ble_eq_true rfl) dX7_tried_126 (pc' := 129) rfl (fun r_49 M_48 h m_50 => ?_)
            refine r_goto C dX7_tried_129 (tgt := 173) (by decide) ?_
            refine r_sub (lv' := [(0, .ref a0)]) [1] rfl ?_
            exact B_X7_tried_173 C hE (mMo.kd m_50 (mMo.kd m_21 (mMo.kd m_18 (mMo.kd m_7 k_a0 (by decide)) (by decide)) (by decide)) (by decide)) h
        · have h := it_t h c_23
          refine r_aload_n C dX7_tried_107 (pc' := 108) rfl (j := 1) rfl ?_
          refine r_getf C (Cn := RX7) (T := TX7) 28 (mMo.kd m_21 (mMo.kd m_18 (mMo.kd m_7 k_a0 (by decide)) (by decide)) (by decide)) (by decide) vc_X7 in_X7 (by decide) q1252 dX7_tried_108 (pc' := 111) rfl (v := .int (mgI M_19 a0 28)) rfl ?_
          refine r_goto C dX7_tried_111 (tgt := 173) (by decide) ?_
          refine r_sub (lv' := [(0, .ref a0)]) [1] rfl ?_
          exact B_X7_tried_173 C hE (mMo.kd m_21 (mMo.kd m_18 (mMo.kd m_7 k_a0 (by decide)) (by decide)) (by decide)) h
      · have h := it_t h c_22
        refine r_aload_n C dX7_tried_95 (pc' := 96) rfl (j := 1) rfl ?_
        refine r_getf C (Cn := RX7) (T := TX7) 27 (mMo.kd m_21 (mMo.kd m_18 (mMo.kd m_7 k_a0 (by decide)) (by decide)) (by decide)) (by decide) vc_X7 in_X7 (by decide) q1251 dX7_tried_96 (pc' := 99) rfl (v := .int (mgI M_19 a0 27)) rfl ?_
        refine r_goto C dX7_tried_99 (tgt := 173) (by decide) ?_
        refine r_sub (lv' := [(0, .ref a0)]) [1] rfl ?_
        exact B_X7_tried_173 C hE (mMo.kd m_21 (mMo.kd m_18 (mMo.kd m_7 k_a0 (by decide)) (by decide)) (by decide)) h
    · have h := it_t h c_9
      refine r_iconst C dX7_tried_73 (pc' := 74) rfl (v := -1) rfl ?_
      exact r_iret C hE (Nat.le_of_ble_eq_true rfl) (Nat.le_of_ble_eq_true rfl) dX7_tried_74 ⟨_, rfl, h⟩
set_option maxHeartbeats 4000000 in
theorem B_X7_tried_53 {E : mE} {M : MM} {a0 : Nat} {x1 : Int32} {x2 : Int32} {Post : Int32 → MM → Prop} (C : mC E yX7_tried cX7_tried 5 ((some .int)) { frames := 7, cells := 0, slots := 0, locals := 164 }) (hE : mEnd E { frames := 7, cells := 0, slots := 0, locals := 164 } (pI_ Post)) (k_a0 : mkd M a0 = 7) (h : wb_X7_tried_53 M a0 x1 x2 Post) : mV E M 0 0 53 [(0, .ref a0), (1, .int x1), (2, .int x2)] [] := by
  unfold wb_X7_tried_53 at h
  refine r_iconst C dX7_tried_53 (pc' := 54) rfl (v := 1) rfl ?_
  refine r_goto C dX7_tried_54 (tgt := 58) (by decide) ?_
  refine r_sub (lv' := [(0, .ref a0), (1, .int x1), (2, .int x2)]) [0, 1, 2] rfl ?_
  exact B_X7_tried_58 C hE k_a0 h
set_option maxHeartbeats 4000000 in
theorem B_X7_tried_57 {E : mE} {M : MM} {a0 : Nat} {x1 : Int32} {x2 : Int32} {Post : Int32 → MM → Prop} (C : mC E yX7_tried cX7_tried 5 ((some .int)) { frames := 7, cells := 0, slots := 0, locals := 164 }) (hE : mEnd E { frames := 7, cells := 0, slots := 0, locals := 164 } (pI_ Post)) (k_a0 : mkd M a0 = 7) (h : wb_X7_tried_57 M a0 x1 x2 Post) : mV E M 0 0 57 [(0, .ref a0), (1, .int x1), (2, .int x2)] [] := by
  unfold wb_X7_tried_57 at h
  refine r_iconst C dX7_tried_57 (pc' := 58) rfl (v := 0) rfl ?_
  refine r_sub (lv' := [(0, .ref a0), (1, .int x1), (2, .int x2)]) [0, 1, 2] rfl ?_
  exact B_X7_tried_58 C hE k_a0 h
set_option maxHeartbeats 4000000 in
theorem B_X7_tried_31 {E : mE} {M : MM} {a0 : Nat} {x1 : Int32} {x2 : Int32} {Post : Int32 → MM → Prop} (C : mC E yX7_tried cX7_tried 5 ((some .int)) { frames := 7, cells := 0, slots := 0, locals := 164 }) (hE : mEnd E { frames := 7, cells := 0, slots := 0, locals := 164 } (pI_ Post)) (k_a0 : mkd M a0 = 7) (h : wb_X7_tried_31 M a0 x1 x2 Post) : mV E M 0 0 31 [(0, .ref a0), (1, .int x1), (2, .int x2)] [] := by
  unfold wb_X7_tried_31 at h
  refine r_iload_n C dX7_tried_31 (pc' := 32) rfl (j := 2) rfl ?_
  refine r_bipush C dX7_tried_32 (pc' := 34) rfl (v := 20) rfl ?_
  refine r_bipush C dX7_tried_34 (pc' := 36) rfl (v := 27) rfl ?_
  refine r_callSi (As := [.int x2, .int (20 : Int32), .int (27 : Int32)]) (rest := []) C (S_X7_in h) (lw_S q1391 q1392 q112 q1393) hd_X7_in rfl rfl (Nat.le_of_ble_eq_true rfl) (Nat.le_of_ble_eq_true rfl) (Nat.le_of_ble_eq_true rfl) rfl rfl (Nat.le_of_ble_eq_true rfl) (Nat.le_of_ble_eq_true rfl) dX7_tried_36 (pc' := 39) rfl (fun r_56 M_55 h m_57 => ?_)
  refine r_if_eq C dX7_tried_39 (pc' := 42) rfl (tgt := 57) (by decide) (fun c_58 => ?_) (fun c_58 => ?_)
  · have h := it_t h c_58
    refine r_sub (lv' := [(0, .ref a0), (1, .int x1), (2, .int x2)]) [0, 1, 2] rfl ?_
    exact B_X7_tried_57 C hE (mMo.kd m_57 k_a0 (by decide)) h
  · have h := it_f h c_58
    refine r_aload_n C dX7_tried_42 (pc' := 43) rfl (j := 0) rfl ?_
    refine r_iload_n C dX7_tried_43 (pc' := 44) rfl (j := 2) rfl ?_
    refine r_bipush C dX7_tried_44 (pc' := 46) rfl (v := 20) rfl ?_
    refine r_isub C dX7_tried_46 (pc' := 47) rfl ?_
    refine r_callVi (As := [.int (x2 - (20 : Int32))]) (rest := []) (Cn := RX7) (T := TX7) C (mMo.kd m_57 k_a0 (by decide)) (by decide) vc_X7 (S_X7_isPerson (mMo.kd m_57 k_a0 (by decide)) h) (lw_V q1526 q1528 qs73 q112 q1529) rfl hd_X7_isPerson rfl rfl (Nat.le_of_ble_eq_true rfl) (Nat.le_of_ble_eq_true rfl) (Nat.le_of_ble_eq_true rfl) rfl rfl (Nat.le_of_ble_eq_true rfl) (Nat.le_of_ble_eq_true rfl) dX7_tried_47 (pc' := 50) rfl (fun r_60 M_59 h m_61 => ?_)
    refine r_if_eq C dX7_tried_50 (pc' := 53) rfl (tgt := 57) (by decide) (fun c_62 => ?_) (fun c_62 => ?_)
    · have h := it_t h c_62
      refine r_sub (lv' := [(0, .ref a0), (1, .int x1), (2, .int x2)]) [0, 1, 2] rfl ?_
      exact B_X7_tried_57 C hE (mMo.kd m_61 (mMo.kd m_57 k_a0 (by decide)) (by decide)) h
    · have h := it_f h c_62
      refine r_sub (lv' := [(0, .ref a0), (1, .int x1), (2, .int x2)]) [0, 1, 2] rfl ?_
      exact B_X7_tried_53 C hE (mMo.kd m_61 (mMo.kd m_57 k_a0 (by decide)) (by decide)) h
set_option maxHeartbeats 4000000 in
theorem S_X7_tried {D : DD} {l : Launch} {M : MM} {a0 : Nat} {x1 : Int32} {x2 : Int32} {Post : Int32 → MM → Prop} (k_a0 : mkd M a0 = 7) (h : wp_X7_tried M a0 x1 x2 Post) : mMet D l yX7_tried cX7_tried 5 ((some .int)) { frames := 7, cells := 0, slots := 0, locals := 164 } M [.ref a0, .int x1, .int x2] (pI_ Post) := by
  refine m_of2 [(0, .ref a0), (1, .int x1), (2, .int x2)] (by decide +kernel) (Nat.le_of_ble_eq_true rfl) rfl (fun E hED hEl C hE => ?_)
  subst hED
  subst hEl
  unfold wp_X7_tried at h
  refine r_iload_n C dX7_tried_0 (pc' := 1) rfl (j := 2) rfl ?_
  refine r_iconst C dX7_tried_1 (pc' := 2) rfl (v := 0) rfl ?_
  refine r_iconst C dX7_tried_2 (pc' := 3) rfl (v := 3) rfl ?_
  refine r_callSi (As := [.int x2, .int (0 : Int32), .int (3 : Int32)]) (rest := []) C (S_X7_in h) (lw_S q1391 q1392 q112 q1393) hd_X7_in rfl rfl (Nat.le_of_ble_eq_true rfl) (Nat.le_of_ble_eq_true rfl) (Nat.le_of_ble_eq_true rfl) rfl rfl (Nat.le_of_ble_eq_true rfl) (Nat.le_of_ble_eq_true rfl) dX7_tried_3 (pc' := 6) rfl (fun r_2 M_1 h m_3 => ?_)
  refine r_if_ne C dX7_tried_6 (pc' := 9) rfl (tgt := 53) (by decide) (fun c_4 => ?_) (fun c_4 => ?_)
  · have h := it_f h c_4
    refine r_sub (lv' := [(0, .ref a0), (1, .int x1), (2, .int x2)]) [0, 1, 2] rfl ?_
    exact B_X7_tried_53 C hE (mMo.kd m_3 k_a0 (by decide)) h
  · have h := it_t h c_4
    refine r_iload_n C dX7_tried_9 (pc' := 10) rfl (j := 2) rfl ?_
    refine r_bipush C dX7_tried_10 (pc' := 12) rfl (v := 10) rfl ?_
    refine r_bipush C dX7_tried_12 (pc' := 14) rfl (v := 13) rfl ?_
    refine r_callSi (As := [.int x2, .int (10 : Int32), .int (13 : Int32)]) (rest := []) C (S_X7_in h) (lw_S q1391 q1392 q112 q1393) hd_X7_in rfl rfl (Nat.le_of_ble_eq_true rfl) (Nat.le_of_ble_eq_true rfl) (Nat.le_of_ble_eq_true rfl) rfl rfl (Nat.le_of_ble_eq_true rfl) (Nat.le_of_ble_eq_true rfl) dX7_tried_14 (pc' := 17) rfl (fun r_52 M_51 h m_53 => ?_)
    refine r_if_eq C dX7_tried_17 (pc' := 20) rfl (tgt := 31) (by decide) (fun c_54 => ?_) (fun c_54 => ?_)
    · have h := it_t h c_54
      refine r_sub (lv' := [(0, .ref a0), (1, .int x1), (2, .int x2)]) [0, 1, 2] rfl ?_
      exact B_X7_tried_31 C hE (mMo.kd m_53 (mMo.kd m_3 k_a0 (by decide)) (by decide)) h
    · have h := it_f h c_54
      refine r_aload_n C dX7_tried_20 (pc' := 21) rfl (j := 0) rfl ?_
      refine r_iload_n C dX7_tried_21 (pc' := 22) rfl (j := 2) rfl ?_
      refine r_bipush C dX7_tried_22 (pc' := 24) rfl (v := 10) rfl ?_
      refine r_isub C dX7_tried_24 (pc' := 25) rfl ?_
      refine r_callVi (As := [.int (x2 - (10 : Int32))]) (rest := []) (Cn := RX7) (T := TX7) C (mMo.kd m_53 (mMo.kd m_3 k_a0 (by decide)) (by decide)) (by decide) vc_X7 (S_X7_isPlant (mMo.kd m_53 (mMo.kd m_3 k_a0 (by decide)) (by decide)) h) (lw_V q1402 q1404 qs51 q112 q1405) rfl hd_X7_isPlant rfl rfl (Nat.le_of_ble_eq_true rfl) (Nat.le_of_ble_eq_true rfl) (Nat.le_of_ble_eq_true rfl) rfl rfl (Nat.le_of_ble_eq_true rfl) (Nat.le_of_ble_eq_true rfl) dX7_tried_25 (pc' := 28) rfl (fun r_64 M_63 h m_65 => ?_)
      refine r_if_ne C dX7_tried_28 (pc' := 31) rfl (tgt := 53) (by decide) (fun c_66 => ?_) (fun c_66 => ?_)
      · have h := it_f h c_66
        refine r_sub (lv' := [(0, .ref a0), (1, .int x1), (2, .int x2)]) [0, 1, 2] rfl ?_
        exact B_X7_tried_53 C hE (mMo.kd m_65 (mMo.kd m_53 (mMo.kd m_3 k_a0 (by decide)) (by decide)) (by decide)) h
      · have h := it_t h c_66
        refine r_sub (lv' := [(0, .ref a0), (1, .int x1), (2, .int x2)]) [0, 1, 2] rfl ?_
        exact B_X7_tried_31 C hE (mMo.kd m_65 (mMo.kd m_53 (mMo.kd m_3 k_a0 (by decide)) (by decide)) (by decide)) h
set_option maxHeartbeats 4000000 in
theorem S_X7_plantIs {D : DD} {l : Launch} {M : MM} {a0 : Nat} {x1 : Int32} {x2 : Int32} {Post : Int32 → MM → Prop} (k_a0 : mkd M a0 = 7) (h : wp_X7_plantIs M a0 x1 x2 Post) : mMet D l yX7_plantIs cX7_plantIs 3 ((some .int)) { frames := 3, cells := 0, slots := 0, locals := 63 } M [.ref a0, .int x1, .int x2] (pI_ Post) := by
  refine m_of2 [(0, .ref a0), (1, .int x1), (2, .int x2)] (by decide +kernel) (Nat.le_of_ble_eq_true rfl) rfl (fun E hED hEl C hE => ?_)
  subst hED
  subst hEl
  unfold wp_X7_plantIs at h
  refine r_aload_n C dX7_plantIs_0 (pc' := 1) rfl (j := 0) rfl ?_
  refine r_iload_n C dX7_plantIs_1 (pc' := 2) rfl (j := 1) rfl ?_
  refine r_callVi (As := [.int x1]) (rest := []) (Cn := RX7) (T := TX7) C k_a0 (by decide) vc_X7 (S_X7_isPlant k_a0 h) (lw_V q1402 q1404 qs51 q112 q1405) rfl hd_X7_isPlant rfl rfl (Nat.le_of_ble_eq_true rfl) (Nat.le_of_ble_eq_true rfl) (Nat.le_of_ble_eq_true rfl) rfl rfl (Nat.le_of_ble_eq_true rfl) (Nat.le_of_ble_eq_true rfl) dX7_plantIs_2 (pc' := 5) rfl (fun r_2 M_1 h m_3 => ?_)
  refine r_if_ne C dX7_plantIs_5 (pc' := 8) rfl (tgt := 10) (by decide) (fun c_4 => ?_) (fun c_4 => ?_)
  · have h := it_f h c_4
    refine r_iload_n C dX7_plantIs_10 (pc' := 11) rfl (j := 2) rfl ?_
    by_cases c_5 : x2 = 0
    · have h := it_t h c_5
      refine r_tsIn C dX7_plantIs_11 (off := 41) (tgt := 52) (by rw [c_5]; decide) (by rw [c_5]; decide) (by rw [c_5]; decide) (by decide) ?_
      refine r_aload_n C dX7_plantIs_52 (pc' := 53) rfl (j := 0) rfl ?_
      refine r_getf C (Cn := RX7) (T := TX7) 0 (mMo.kd m_3 k_a0 (by decide)) (by decide) vc_X7 in_X7 (by decide) q1224 dX7_plantIs_53 (pc' := 56) rfl (v := va_rf (mgR M_1 a0 0)) rfl ?_
      obtain ⟨b_6, e_7, k_8, h⟩ := h
      refine r_ref [] e_7 ?_
      refine r_iconst C dX7_plantIs_56 (pc' := 57) rfl (v := 0) rfl ?_
      refine r_iload_n C dX7_plantIs_57 (pc' := 58) rfl (j := 1) rfl ?_
      refine r_iadd C dX7_plantIs_58 (pc' := 59) rfl ?_
      obtain ⟨c_9, h⟩ := h
      refine r_iald C (j := (ix_ ((0 : Int32) + x1))) k_8 c_9 rfl dX7_plantIs_59 (pc' := 60) rfl ?_
      exact r_iret C hE (Nat.le_of_ble_eq_true rfl) (Nat.le_of_ble_eq_true rfl) dX7_plantIs_60 ⟨_, rfl, h⟩
    have h := it_f h c_5
    by_cases c_10 : x2 = 1
    · have h := it_t h c_10
      refine r_tsIn C dX7_plantIs_11 (off := 50) (tgt := 61) (by rw [c_10]; decide) (by rw [c_10]; decide) (by rw [c_10]; decide) (by decide) ?_
      refine r_aload_n C dX7_plantIs_61 (pc' := 62) rfl (j := 0) rfl ?_
      refine r_getf C (Cn := RX7) (T := TX7) 0 (mMo.kd m_3 k_a0 (by decide)) (by decide) vc_X7 in_X7 (by decide) q1224 dX7_plantIs_62 (pc' := 65) rfl (v := va_rf (mgR M_1 a0 0)) rfl ?_
      obtain ⟨b_11, e_12, k_13, h⟩ := h
      refine r_ref [] e_12 ?_
      refine r_iconst C dX7_plantIs_65 (pc' := 66) rfl (v := 4) rfl ?_
      refine r_iload_n C dX7_plantIs_66 (pc' := 67) rfl (j := 1) rfl ?_
      refine r_iadd C dX7_plantIs_67 (pc' := 68) rfl ?_
      obtain ⟨c_14, h⟩ := h
      refine r_iald C (j := (ix_ ((4 : Int32) + x1))) k_13 c_14 rfl dX7_plantIs_68 (pc' := 69) rfl ?_
      exact r_iret C hE (Nat.le_of_ble_eq_true rfl) (Nat.le_of_ble_eq_true rfl) dX7_plantIs_69 ⟨_, rfl, h⟩
    have h := it_f h c_10
    by_cases c_15 : x2 = 2
    · have h := it_t h c_15
      refine r_tsIn C dX7_plantIs_11 (off := 59) (tgt := 70) (by rw [c_15]; decide) (by rw [c_15]; decide) (by rw [c_15]; decide) (by decide) ?_
      refine r_aload_n C dX7_plantIs_70 (pc' := 71) rfl (j := 0) rfl ?_
      refine r_getf C (Cn := RX7) (T := TX7) 0 (mMo.kd m_3 k_a0 (by decide)) (by decide) vc_X7 in_X7 (by decide) q1224 dX7_plantIs_71 (pc' := 74) rfl (v := va_rf (mgR M_1 a0 0)) rfl ?_
      obtain ⟨b_16, e_17, k_18, h⟩ := h
      refine r_ref [] e_17 ?_
      refine r_bipush C dX7_plantIs_74 (pc' := 76) rfl (v := 8) rfl ?_
      refine r_iload_n C dX7_plantIs_76 (pc' := 77) rfl (j := 1) rfl ?_
      refine r_iadd C dX7_plantIs_77 (pc' := 78) rfl ?_
      obtain ⟨c_19, h⟩ := h
      refine r_iald C (j := (ix_ ((8 : Int32) + x1))) k_18 c_19 rfl dX7_plantIs_78 (pc' := 79) rfl ?_
      exact r_iret C hE (Nat.le_of_ble_eq_true rfl) (Nat.le_of_ble_eq_true rfl) dX7_plantIs_79 ⟨_, rfl, h⟩
    have h := it_f h c_15
    by_cases c_20 : x2 = 3
    · have h := it_t h c_20
      refine r_tsIn C dX7_plantIs_11 (off := 69) (tgt := 80) (by rw [c_20]; decide) (by rw [c_20]; decide) (by rw [c_20]; decide) (by decide) ?_
      refine r_aload_n C dX7_plantIs_80 (pc' := 81) rfl (j := 0) rfl ?_
      refine r_getf C (Cn := RX7) (T := TX7) 0 (mMo.kd m_3 k_a0 (by decide)) (by decide) vc_X7 in_X7 (by decide) q1224 dX7_plantIs_81 (pc' := 84) rfl (v := va_rf (mgR M_1 a0 0)) rfl ?_
      obtain ⟨b_21, e_22, k_23, h⟩ := h
      refine r_ref [] e_22 ?_
      refine r_bipush C dX7_plantIs_84 (pc' := 86) rfl (v := 12) rfl ?_
      refine r_iload_n C dX7_plantIs_86 (pc' := 87) rfl (j := 1) rfl ?_
      refine r_iadd C dX7_plantIs_87 (pc' := 88) rfl ?_
      obtain ⟨c_24, h⟩ := h
      refine r_iald C (j := (ix_ ((12 : Int32) + x1))) k_23 c_24 rfl dX7_plantIs_88 (pc' := 89) rfl ?_
      exact r_iret C hE (Nat.le_of_ble_eq_true rfl) (Nat.le_of_ble_eq_true rfl) dX7_plantIs_89 ⟨_, rfl, h⟩
    have h := it_f h c_20
    by_cases c_25 : x2 = 4
    · have h := it_t h c_25
      refine r_tsIn C dX7_plantIs_11 (off := 79) (tgt := 90) (by rw [c_25]; decide) (by rw [c_25]; decide) (by rw [c_25]; decide) (by decide) ?_
      refine r_aload_n C dX7_plantIs_90 (pc' := 91) rfl (j := 0) rfl ?_
      refine r_getf C (Cn := RX7) (T := TX7) 0 (mMo.kd m_3 k_a0 (by decide)) (by decide) vc_X7 in_X7 (by decide) q1224 dX7_plantIs_91 (pc' := 94) rfl (v := va_rf (mgR M_1 a0 0)) rfl ?_
      obtain ⟨b_26, e_27, k_28, h⟩ := h
      refine r_ref [] e_27 ?_
      refine r_bipush C dX7_plantIs_94 (pc' := 96) rfl (v := 16) rfl ?_
      refine r_iload_n C dX7_plantIs_96 (pc' := 97) rfl (j := 1) rfl ?_
      refine r_iadd C dX7_plantIs_97 (pc' := 98) rfl ?_
      obtain ⟨c_29, h⟩ := h
      refine r_iald C (j := (ix_ ((16 : Int32) + x1))) k_28 c_29 rfl dX7_plantIs_98 (pc' := 99) rfl ?_
      exact r_iret C hE (Nat.le_of_ble_eq_true rfl) (Nat.le_of_ble_eq_true rfl) dX7_plantIs_99 ⟨_, rfl, h⟩
    have h := it_f h c_25
    by_cases c_30 : x2 = 5
    · have h := it_t h c_30
      refine r_tsIn C dX7_plantIs_11 (off := 89) (tgt := 100) (by rw [c_30]; decide) (by rw [c_30]; decide) (by rw [c_30]; decide) (by decide) ?_
      refine r_aload_n C dX7_plantIs_100 (pc' := 101) rfl (j := 0) rfl ?_
      refine r_iload_n C dX7_plantIs_101 (pc' := 102) rfl (j := 1) rfl ?_
      refine r_callVi (As := [.int x1]) (rest := []) (Cn := RX7) (T := TX7) C (mMo.kd m_3 k_a0 (by decide)) (by decide) vc_X7 (S_X7_lives (mMo.kd m_3 k_a0 (by decide)) h) (lw_V q1413 q1415 qs52 q112 q1416) rfl hd_X7_lives rfl rfl (Nat.le_of_ble_eq_true rfl) (Nat.le_of_ble_eq_true rfl) (Nat.le_of_ble_eq_true rfl) rfl rfl (Nat.le_of_ble_eq_true rfl) (Nat.le_of_ble_eq_true rfl) dX7_plantIs_102 (pc' := 105) rfl (fun r_32 M_31 h m_33 => ?_)
      refine r_if_eq C dX7_plantIs_105 (pc' := 108) rfl (tgt := 112) (by decide) (fun c_34 => ?_) (fun c_34 => ?_)
      · have h := it_t h c_34
        refine r_iconst C dX7_plantIs_112 (pc' := 113) rfl (v := 1) rfl ?_
        exact r_iret C hE (Nat.le_of_ble_eq_true rfl) (Nat.le_of_ble_eq_true rfl) dX7_plantIs_113 ⟨_, rfl, h⟩
      · have h := it_f h c_34
        refine r_iconst C dX7_plantIs_108 (pc' := 109) rfl (v := 0) rfl ?_
        refine r_goto C dX7_plantIs_109 (tgt := 113) (by decide) ?_
        exact r_iret C hE (Nat.le_of_ble_eq_true rfl) (Nat.le_of_ble_eq_true rfl) dX7_plantIs_113 ⟨_, rfl, h⟩
    have h := it_f h c_30
    by_cases c_35 : x2 = 6
    · have h := it_t h c_35
      refine r_tsIn C dX7_plantIs_11 (off := 103) (tgt := 114) (by rw [c_35]; decide) (by rw [c_35]; decide) (by rw [c_35]; decide) (by decide) ?_
      refine r_aload_n C dX7_plantIs_114 (pc' := 115) rfl (j := 0) rfl ?_
      refine r_getf C (Cn := RX7) (T := TX7) 0 (mMo.kd m_3 k_a0 (by decide)) (by decide) vc_X7 in_X7 (by decide) q1224 dX7_plantIs_115 (pc' := 118) rfl (v := va_rf (mgR M_1 a0 0)) rfl ?_
      obtain ⟨b_36, e_37, k_38, h⟩ := h
      refine r_ref [] e_37 ?_
      refine r_bipush C dX7_plantIs_118 (pc' := 120) rfl (v := 20) rfl ?_
      refine r_iload_n C dX7_plantIs_120 (pc' := 121) rfl (j := 1) rfl ?_
      refine r_iadd C dX7_plantIs_121 (pc' := 122) rfl ?_
      obtain ⟨c_39, h⟩ := h
      refine r_iald C (j := (ix_ ((20 : Int32) + x1))) k_38 c_39 rfl dX7_plantIs_122 (pc' := 123) rfl ?_
      exact r_iret C hE (Nat.le_of_ble_eq_true rfl) (Nat.le_of_ble_eq_true rfl) dX7_plantIs_123 ⟨_, rfl, h⟩
    have h := it_f h c_35
    have c_5 := lv_neT c_5 (show ((0 : Int32)).toInt = 0 from by decide)
    have c_10 := lv_neT c_10 (show ((1 : Int32)).toInt = 1 from by decide)
    have c_15 := lv_neT c_15 (show ((2 : Int32)).toInt = 2 from by decide)
    have c_20 := lv_neT c_20 (show ((3 : Int32)).toInt = 3 from by decide)
    have c_25 := lv_neT c_25 (show ((4 : Int32)).toInt = 4 from by decide)
    have c_30 := lv_neT c_30 (show ((5 : Int32)).toInt = 5 from by decide)
    have c_35 := lv_neT c_35 (show ((6 : Int32)).toInt = 6 from by decide)
    refine r_tsOut C dX7_plantIs_11 (tgt := 124) (by omega) (by decide) ?_
    refine r_iload_n C dX7_plantIs_124 (pc' := 125) rfl (j := 2) rfl ?_
    refine r_bipush C dX7_plantIs_125 (pc' := 127) rfl (v := 10) rfl ?_
    refine r_bipush C dX7_plantIs_127 (pc' := 129) rfl (v := 16) rfl ?_
    refine r_callSi (As := [.int x2, .int (10 : Int32), .int (16 : Int32)]) (rest := []) C (S_X7_in h) (lw_S q1391 q1392 q112 q1393) hd_X7_in rfl rfl (Nat.le_of_ble_eq_true rfl) (Nat.le_of_ble_eq_true rfl) (Nat.le_of_ble_eq_true rfl) rfl rfl (Nat.le_of_ble_eq_true rfl) (Nat.le_of_ble_eq_true rfl) dX7_plantIs_129 (pc' := 132) rfl (fun r_41 M_40 h m_42 => ?_)
    refine r_if_eq C dX7_plantIs_132 (pc' := 135) rfl (tgt := 155) (by decide) (fun c_43 => ?_) (fun c_43 => ?_)
    · have h := it_t h c_43
      refine r_iconst C dX7_plantIs_155 (pc' := 156) rfl (v := -1) rfl ?_
      exact r_iret C hE (Nat.le_of_ble_eq_true rfl) (Nat.le_of_ble_eq_true rfl) dX7_plantIs_156 ⟨_, rfl, h⟩
    · have h := it_f h c_43
      refine r_aload_n C dX7_plantIs_135 (pc' := 136) rfl (j := 0) rfl ?_
      refine r_getf C (Cn := RX7) (T := TX7) 0 (mMo.kd m_42 (mMo.kd m_3 k_a0 (by decide)) (by decide)) (by decide) vc_X7 in_X7 (by decide) q1224 dX7_plantIs_136 (pc' := 139) rfl (v := va_rf (mgR M_40 a0 0)) rfl ?_
      obtain ⟨b_44, e_45, k_46, h⟩ := h
      refine r_ref [] e_45 ?_
      refine r_bipush C dX7_plantIs_139 (pc' := 141) rfl (v := 24) rfl ?_
      refine r_bipush C dX7_plantIs_141 (pc' := 143) rfl (v := 7) rfl ?_
      refine r_iload_n C dX7_plantIs_143 (pc' := 144) rfl (j := 1) rfl ?_
      refine r_imul C dX7_plantIs_144 (pc' := 145) rfl ?_
      refine r_iadd C dX7_plantIs_145 (pc' := 146) rfl ?_
      refine r_iload_n C dX7_plantIs_146 (pc' := 147) rfl (j := 2) rfl ?_
      refine r_iadd C dX7_plantIs_147 (pc' := 148) rfl ?_
      refine r_bipush C dX7_plantIs_148 (pc' := 150) rfl (v := 10) rfl ?_
      refine r_isub C dX7_plantIs_150 (pc' := 151) rfl ?_
      obtain ⟨c_47, h⟩ := h
      refine r_iald C (j := (ix_ ((((24 : Int32) + ((7 : Int32) * x1)) + x2) - (10 : Int32)))) k_46 c_47 rfl dX7_plantIs_151 (pc' := 152) rfl ?_
      refine r_goto C dX7_plantIs_152 (tgt := 156) (by decide) ?_
      exact r_iret C hE (Nat.le_of_ble_eq_true rfl) (Nat.le_of_ble_eq_true rfl) dX7_plantIs_156 ⟨_, rfl, h⟩
  · have h := it_t h c_4
    refine r_iconst C dX7_plantIs_8 (pc' := 9) rfl (v := -1) rfl ?_
    exact r_iret C hE (Nat.le_of_ble_eq_true rfl) (Nat.le_of_ble_eq_true rfl) dX7_plantIs_9 ⟨_, rfl, h⟩
set_option maxHeartbeats 4000000 in
theorem B_X7_laysSome_4 {E : mE} {a0 : Nat} {x1 : Int32} {X58 : MM → Int32 → Prop} {Post : Int32 → MM → Prop} (C : mC E yX7_laysSome cX7_laysSome 4 ((some .boolean)) { frames := 2, cells := 0, slots := 0, locals := 42 }) (hE : mEnd E { frames := 2, cells := 0, slots := 0, locals := 42 } (pI_ Post)) : ∀ (n_ : Nat) (M : MM) (x2 : Int32) (x3 : Int32), mkd M a0 = 7 → wl_X7_laysSome_4 a0 x1 X58 n_ M x2 x3 → (∀ (M' : MM) (x2' : Int32), mMo M M' → X58 M' x2' → mV E M' 0 0 58 [(1, .int x1), (2, .int x2')] []) → mV E M 0 0 4 [(0, .ref a0), (1, .int x1), (2, .int x2), (3, .int x3)] [] := by
  intro n_
  induction n_ with
  | zero =>
    intro M x2 x3 k_a0 h hX58
    exact absurd h (by rw [wl_X7_laysSome_4]; exact fun q => q)
  | succ n_ ih =>
    intro M x2 x3 k_a0 h hX58
    rw [wl_X7_laysSome_4] at h
    refine r_iload_n C dX7_laysSome_4 (pc' := 5) rfl (j := 3) rfl ?_
    refine r_bipush C dX7_laysSome_5 (pc' := 7) rfl (v := 8) rfl ?_
    refine r_icmp_ge C dX7_laysSome_7 (pc' := 10) rfl (tgt := 58) (by decide) (fun c_1 => ?_) (fun c_1 => ?_)
    · have h := it_t h c_1
      refine r_sub (lv' := [(1, .int x1), (2, .int x2)]) [1, 2] rfl ?_
      exact hX58 M x2 mMo.rf h
    · have h := it_f h c_1
      refine r_iload_n C dX7_laysSome_10 (pc' := 11) rfl (j := 2) rfl ?_
      refine r_iload_n C dX7_laysSome_11 (pc' := 12) rfl (j := 1) rfl ?_
      refine r_icmp_ge C dX7_laysSome_12 (pc' := 15) rfl (tgt := 58) (by decide) (fun c_2 => ?_) (fun c_2 => ?_)
      · have h := it_t h c_2
        refine r_sub (lv' := [(1, .int x1), (2, .int x2)]) [1, 2] rfl ?_
        exact hX58 M x2 mMo.rf h
      · have h := it_f h c_2
        refine r_aload_n C dX7_laysSome_15 (pc' := 16) rfl (j := 0) rfl ?_
        refine r_iload_n C dX7_laysSome_16 (pc' := 17) rfl (j := 3) rfl ?_
        refine r_callVi (As := [.int x3]) (rest := []) (Cn := RX7) (T := TX7) C k_a0 (by decide) vc_X7 (S_X7_isPerson k_a0 h) (lw_V q1526 q1528 qs73 q112 q1529) rfl hd_X7_isPerson rfl rfl (Nat.le_of_ble_eq_true rfl) (Nat.le_of_ble_eq_true rfl) (Nat.le_of_ble_eq_true rfl) rfl rfl (Nat.le_of_ble_eq_true rfl) (Nat.le_of_ble_eq_true rfl) dX7_laysSome_17 (pc' := 20) rfl (fun r_4 M_3 h m_5 => ?_)
        refine r_if_ne C dX7_laysSome_20 (pc' := 23) rfl (tgt := 26) (by decide) (fun c_6 => ?_) (fun c_6 => ?_)
        · have h := it_f h c_6
          refine r_aload_n C dX7_laysSome_26 (pc' := 27) rfl (j := 0) rfl ?_
          refine r_getf C (Cn := RX7) (T := TX7) 35 (mMo.kd m_5 k_a0 (by decide)) (by decide) vc_X7 in_X7 (by decide) q1259 dX7_laysSome_27 (pc' := 30) rfl (v := va_rf (mgR M_3 a0 35)) rfl ?_
          obtain ⟨b_7, e_8, k_9, h⟩ := h
          refine r_ref [] e_8 ?_
          refine r_iload_n C dX7_laysSome_30 (pc' := 31) rfl (j := 2) rfl ?_
          refine r_iload_n C dX7_laysSome_31 (pc' := 32) rfl (j := 3) rfl ?_
          obtain ⟨c_10, h⟩ := h
          obtain ⟨M_11, e_12, h⟩ := bn_ h
          refine r_iast C (j := (ix_ x2)) k_9 c_10 rfl dX7_laysSome_32 (pc' := 33) rfl M_11 e_12 ?_
          refine r_aload_n C dX7_laysSome_33 (pc' := 34) rfl (j := 0) rfl ?_
          refine r_getf C (Cn := RX7) (T := TX7) 36 (mMo.kd (mo_I e_12) (mMo.kd m_5 k_a0 (by decide)) (by decide)) (by decide) vc_X7 in_X7 (by decide) q1260 dX7_laysSome_34 (pc' := 37) rfl (v := va_rf (mgR M_11 a0 36)) rfl ?_
          obtain ⟨b_13, e_14, k_15, h⟩ := h
          refine r_ref [] e_14 ?_
          refine r_iload_n C dX7_laysSome_37 (pc' := 38) rfl (j := 2) rfl ?_
          refine r_aload_n C dX7_laysSome_38 (pc' := 39) rfl (j := 0) rfl ?_
          refine r_getf C (Cn := RX7) (T := TX7) 0 (mMo.kd (mo_I e_12) (mMo.kd m_5 k_a0 (by decide)) (by decide)) (by decide) vc_X7 in_X7 (by decide) q1224 dX7_laysSome_39 (pc' := 42) rfl (v := va_rf (mgR M_11 a0 0)) rfl ?_
          obtain ⟨b_16, e_17, k_18, h⟩ := h
          refine r_ref [] e_17 ?_
          refine r_bipush C dX7_laysSome_42 (pc' := 44) rfl (v := 52) rfl ?_
          refine r_iload_n C dX7_laysSome_44 (pc' := 45) rfl (j := 3) rfl ?_
          refine r_iadd C dX7_laysSome_45 (pc' := 46) rfl ?_
          obtain ⟨c_19, h⟩ := h
          refine r_iald C (j := (ix_ ((52 : Int32) + x3))) k_18 c_19 rfl dX7_laysSome_46 (pc' := 47) rfl ?_
          obtain ⟨c_20, h⟩ := h
          obtain ⟨M_21, e_22, h⟩ := bn_ h
          refine r_iast C (j := (ix_ x2)) k_15 c_20 rfl dX7_laysSome_47 (pc' := 48) rfl M_21 e_22 ?_
          refine r_iload_n C dX7_laysSome_48 (pc' := 49) rfl (j := 2) rfl ?_
          refine r_iconst C dX7_laysSome_49 (pc' := 50) rfl (v := 1) rfl ?_
          refine r_iadd C dX7_laysSome_50 (pc' := 51) rfl ?_
          obtain ⟨x2_23, e_24, h⟩ := bn_ h
          refine r_istore_n C (lv' := [(2, .int x2_23), (0, .ref a0), (1, .int x1), (3, .int x3)]) dX7_laysSome_51 (pc' := 52) rfl rfl x2_23 e_24 (Nat.le_of_ble_eq_true rfl) rfl ?_
          obtain ⟨x3_25, e_26, h⟩ := bn_ h
          refine r_iinc C (lv' := [(3, .int x3_25), (2, .int x2_23), (0, .ref a0), (1, .int x1)]) dX7_laysSome_52 (pc' := 55) rfl (j := 3) rfl x3_25 (by rw [e_26]; rfl) (Nat.le_of_ble_eq_true rfl) rfl ?_
          refine r_goto C dX7_laysSome_55 (tgt := 4) (by decide) ?_
          refine r_sub (lv' := [(0, .ref a0), (1, .int x1), (2, .int x2_23), (3, .int x3_25)]) [2, 3, 1, 0] rfl ?_
          exact ih M_21 x2_23 x3_25 (mMo.kd (mo_I e_22) (mMo.kd (mo_I e_12) (mMo.kd m_5 k_a0 (by decide)) (by decide)) (by decide)) h (fun M9 w0 hm9 h9 => hX58 M9 w0 (mMo.tr (mMo.tr (mMo.tr m_5 (mo_I e_12)) (mo_I e_22)) hm9) h9)
        · have h := it_t h c_6
          refine r_goto C dX7_laysSome_23 (tgt := 52) (by decide) ?_
          obtain ⟨x3_27, e_28, h⟩ := bn_ h
          refine r_iinc C (lv' := [(3, .int x3_27), (0, .ref a0), (1, .int x1), (2, .int x2)]) dX7_laysSome_52 (pc' := 55) rfl (j := 3) rfl x3_27 (by rw [e_28]; rfl) (Nat.le_of_ble_eq_true rfl) rfl ?_
          refine r_goto C dX7_laysSome_55 (tgt := 4) (by decide) ?_
          refine r_sub (lv' := [(0, .ref a0), (1, .int x1), (2, .int x2), (3, .int x3_27)]) [1, 2, 3, 0] rfl ?_
          exact ih M_3 x2 x3_27 (mMo.kd m_5 k_a0 (by decide)) h (fun M9 w0 hm9 h9 => hX58 M9 w0 (mMo.tr m_5 hm9) h9)
set_option maxHeartbeats 4000000 in
theorem B_X7_laysSome_58 {E : mE} {M : MM} {x1 : Int32} {x2 : Int32} {Post : Int32 → MM → Prop} (C : mC E yX7_laysSome cX7_laysSome 4 ((some .boolean)) { frames := 2, cells := 0, slots := 0, locals := 42 }) (hE : mEnd E { frames := 2, cells := 0, slots := 0, locals := 42 } (pI_ Post)) (h : wb_X7_laysSome_58 M x1 x2 Post) : mV E M 0 0 58 [(1, .int x1), (2, .int x2)] [] := by
  unfold wb_X7_laysSome_58 at h
  refine r_iload_n C dX7_laysSome_58 (pc' := 59) rfl (j := 1) rfl ?_
  refine r_iload_n C dX7_laysSome_59 (pc' := 60) rfl (j := 0) rfl ?_
  refine r_icmp_ne C dX7_laysSome_60 (pc' := 63) rfl (tgt := 67) (by decide) (fun c_33 => ?_) (fun c_33 => ?_)
  · have h := it_f h c_33
    refine r_iconst C dX7_laysSome_67 (pc' := 68) rfl (v := 0) rfl ?_
    exact r_zret C hE (Or.inl rfl) (Nat.le_of_ble_eq_true rfl) (Nat.le_of_ble_eq_true rfl) dX7_laysSome_68 ⟨_, rfl, h⟩
  · have h := it_t h c_33
    refine r_iconst C dX7_laysSome_63 (pc' := 64) rfl (v := 1) rfl ?_
    refine r_goto C dX7_laysSome_64 (tgt := 68) (by decide) ?_
    exact r_zret C hE (Or.inr rfl) (Nat.le_of_ble_eq_true rfl) (Nat.le_of_ble_eq_true rfl) dX7_laysSome_68 ⟨_, rfl, h⟩
set_option maxHeartbeats 4000000 in
theorem S_X7_laysSome {D : DD} {l : Launch} {M : MM} {a0 : Nat} {x1 : Int32} {Post : Int32 → MM → Prop} (k_a0 : mkd M a0 = 7) (h : wp_X7_laysSome M a0 x1 Post) : mMet D l yX7_laysSome cX7_laysSome 4 ((some .boolean)) { frames := 2, cells := 0, slots := 0, locals := 42 } M [.ref a0, .int x1] (pI_ Post) := by
  refine m_of2 [(0, .ref a0), (1, .int x1)] (by decide +kernel) (Nat.le_of_ble_eq_true rfl) rfl (fun E hED hEl C hE => ?_)
  subst hED
  subst hEl
  unfold wp_X7_laysSome at h
  refine r_iconst C dX7_laysSome_0 (pc' := 1) rfl (v := 0) rfl ?_
  refine r_istore_n C (lv' := [(2, .int (0 : Int32)), (0, .ref a0), (1, .int x1)]) dX7_laysSome_1 (pc' := 2) rfl rfl (0 : Int32) rfl (Nat.le_of_ble_eq_true rfl) rfl ?_
  refine r_iconst C dX7_laysSome_2 (pc' := 3) rfl (v := 0) rfl ?_
  refine r_istore_n C (lv' := [(3, .int (0 : Int32)), (2, .int (0 : Int32)), (0, .ref a0), (1, .int x1)]) dX7_laysSome_3 (pc' := 4) rfl rfl (0 : Int32) rfl (Nat.le_of_ble_eq_true rfl) rfl ?_
  obtain ⟨n_29, h⟩ := h
  refine r_sub (lv' := [(0, .ref a0), (1, .int x1), (2, .int (0 : Int32)), (3, .int (0 : Int32))]) [2, 3, 1, 0] rfl ?_
  refine B_X7_laysSome_4 C hE n_29 M (0 : Int32) (0 : Int32) k_a0 h (fun M_30 x2_32 m_31 h => ?_)
  refine r_sub (lv' := [(1, .int x1), (2, .int x2_32)]) [0, 1] rfl ?_
  exact B_X7_laysSome_58 C hE h
set_option maxHeartbeats 4000000 in
theorem S_X7_canGo {D : DD} {l : Launch} {M : MM} {a0 : Nat} {x1 : Int32} {x2 : Int32} {x3 : Int32} {Post : Int32 → MM → Prop} (k_a0 : mkd M a0 = 7) (h : wp_X7_canGo M a0 x1 x2 x3 Post) : mMet D l yX7_canGo cX7_canGo 4 ((some .boolean)) { frames := 3, cells := 0, slots := 0, locals := 65 } M [.ref a0, .int x1, .int x2, .int x3] (pI_ Post) := by
  refine m_of2 [(0, .ref a0), (1, .int x1), (2, .int x2), (3, .int x3)] (by decide +kernel) (Nat.le_of_ble_eq_true rfl) rfl (fun E hED hEl C hE => ?_)
  subst hED
  subst hEl
  unfold wp_X7_canGo at h
  refine r_aload_n C dX7_canGo_0 (pc' := 1) rfl (j := 0) rfl ?_
  refine r_iload_n C dX7_canGo_1 (pc' := 2) rfl (j := 1) rfl ?_
  refine r_callVi (As := [.int x1]) (rest := []) (Cn := RX7) (T := TX7) C k_a0 (by decide) vc_X7 (S_X7_lives k_a0 h) (lw_V q1413 q1415 qs52 q112 q1416) rfl hd_X7_lives rfl rfl (Nat.le_of_ble_eq_true rfl) (Nat.le_of_ble_eq_true rfl) (Nat.le_of_ble_eq_true rfl) rfl rfl (Nat.le_of_ble_eq_true rfl) (Nat.le_of_ble_eq_true rfl) dX7_canGo_2 (pc' := 5) rfl (fun r_2 M_1 h m_3 => ?_)
  refine r_if_eq C dX7_canGo_5 (pc' := 8) rfl (tgt := 45) (by decide) (fun c_4 => ?_) (fun c_4 => ?_)
  · have h := it_t h c_4
    refine r_iconst C dX7_canGo_45 (pc' := 46) rfl (v := 0) rfl ?_
    exact r_zret C hE (Or.inl rfl) (Nat.le_of_ble_eq_true rfl) (Nat.le_of_ble_eq_true rfl) dX7_canGo_46 ⟨_, rfl, h⟩
  · have h := it_f h c_4
    refine r_iload_n C dX7_canGo_8 (pc' := 9) rfl (j := 2) rfl ?_
    refine r_iconst C dX7_canGo_9 (pc' := 10) rfl (v := 1) rfl ?_
    refine r_bipush C dX7_canGo_10 (pc' := 12) rfl (v := 9) rfl ?_
    refine r_callSi (As := [.int x2, .int (1 : Int32), .int (9 : Int32)]) (rest := []) C (S_X7_in h) (lw_S q1391 q1392 q112 q1393) hd_X7_in rfl rfl (Nat.le_of_ble_eq_true rfl) (Nat.le_of_ble_eq_true rfl) (Nat.le_of_ble_eq_true rfl) rfl rfl (Nat.le_of_ble_eq_true rfl) (Nat.le_of_ble_eq_true rfl) dX7_canGo_12 (pc' := 15) rfl (fun r_6 M_5 h m_7 => ?_)
    refine r_if_eq C dX7_canGo_15 (pc' := 18) rfl (tgt := 45) (by decide) (fun c_8 => ?_) (fun c_8 => ?_)
    · have h := it_t h c_8
      refine r_iconst C dX7_canGo_45 (pc' := 46) rfl (v := 0) rfl ?_
      exact r_zret C hE (Or.inl rfl) (Nat.le_of_ble_eq_true rfl) (Nat.le_of_ble_eq_true rfl) dX7_canGo_46 ⟨_, rfl, h⟩
    · have h := it_f h c_8
      refine r_iload_n C dX7_canGo_18 (pc' := 19) rfl (j := 3) rfl ?_
      refine r_iconst C dX7_canGo_19 (pc' := 20) rfl (v := 1) rfl ?_
      refine r_iconst C dX7_canGo_20 (pc' := 21) rfl (v := 3) rfl ?_
      refine r_callSi (As := [.int x3, .int (1 : Int32), .int (3 : Int32)]) (rest := []) C (S_X7_in h) (lw_S q1391 q1392 q112 q1393) hd_X7_in rfl rfl (Nat.le_of_ble_eq_true rfl) (Nat.le_of_ble_eq_true rfl) (Nat.le_of_ble_eq_true rfl) rfl rfl (Nat.le_of_ble_eq_true rfl) (Nat.le_of_ble_eq_true rfl) dX7_canGo_21 (pc' := 24) rfl (fun r_10 M_9 h m_11 => ?_)
      refine r_if_eq C dX7_canGo_24 (pc' := 27) rfl (tgt := 45) (by decide) (fun c_12 => ?_) (fun c_12 => ?_)
      · have h := it_t h c_12
        refine r_iconst C dX7_canGo_45 (pc' := 46) rfl (v := 0) rfl ?_
        exact r_zret C hE (Or.inl rfl) (Nat.le_of_ble_eq_true rfl) (Nat.le_of_ble_eq_true rfl) dX7_canGo_46 ⟨_, rfl, h⟩
      · have h := it_f h c_12
        refine r_iload_n C dX7_canGo_27 (pc' := 28) rfl (j := 2) rfl ?_
        refine r_iload_n C dX7_canGo_28 (pc' := 29) rfl (j := 3) rfl ?_
        refine r_iconst C dX7_canGo_29 (pc' := 30) rfl (v := 1) rfl ?_
        refine r_iadd C dX7_canGo_30 (pc' := 31) rfl ?_
        refine r_imul C dX7_canGo_31 (pc' := 32) rfl ?_
        refine r_bipush C dX7_canGo_32 (pc' := 34) rfl (v := 18) rfl ?_
        refine r_icmp_gt C dX7_canGo_34 (pc' := 37) rfl (tgt := 45) (by decide) (fun c_13 => ?_) (fun c_13 => ?_)
        · have h := it_t h c_13
          refine r_iconst C dX7_canGo_45 (pc' := 46) rfl (v := 0) rfl ?_
          exact r_zret C hE (Or.inl rfl) (Nat.le_of_ble_eq_true rfl) (Nat.le_of_ble_eq_true rfl) dX7_canGo_46 ⟨_, rfl, h⟩
        · have h := it_f h c_13
          refine r_aload_n C dX7_canGo_37 (pc' := 38) rfl (j := 0) rfl ?_
          refine r_iload_n C dX7_canGo_38 (pc' := 39) rfl (j := 3) rfl ?_
          refine r_callVi (As := [.int x3]) (rest := []) (Cn := RX7) (T := TX7) C (mMo.kd m_11 (mMo.kd m_7 (mMo.kd m_3 k_a0 (by decide)) (by decide)) (by decide)) (by decide) vc_X7 (S_X7_laysSome (mMo.kd m_11 (mMo.kd m_7 (mMo.kd m_3 k_a0 (by decide)) (by decide)) (by decide)) h) (lw_V q1603 q1605 qs85 q112 q1606) rfl hd_X7_laysSome rfl rfl (Nat.le_of_ble_eq_true rfl) (Nat.le_of_ble_eq_true rfl) (Nat.le_of_ble_eq_true rfl) rfl rfl (Nat.le_of_ble_eq_true rfl) (Nat.le_of_ble_eq_true rfl) dX7_canGo_39 (pc' := 42) rfl (fun r_15 M_14 h m_16 => ?_)
          refine r_if_ne C dX7_canGo_42 (pc' := 45) rfl (tgt := 47) (by decide) (fun c_17 => ?_) (fun c_17 => ?_)
          · have h := it_f h c_17
            refine r_aload_n C dX7_canGo_47 (pc' := 48) rfl (j := 0) rfl ?_
            refine r_iload_n C dX7_canGo_48 (pc' := 49) rfl (j := 1) rfl ?_
            obtain ⟨M_18, e_19, h⟩ := bn_ h
            refine r_putI C (Cn := RX7) (T := TX7) tyX7 33 (mMo.kd m_16 (mMo.kd m_11 (mMo.kd m_7 (mMo.kd m_3 k_a0 (by decide)) (by decide)) (by decide)) (by decide)) (by decide) vc_X7 in_X7 tyX7_ok nmX7 (by decide) q1257 rfl rfl dX7_canGo_49 (pc' := 52) rfl rfl rfl M_18 e_19 ?_
            refine r_aload_n C dX7_canGo_52 (pc' := 53) rfl (j := 0) rfl ?_
            refine r_aload_n C dX7_canGo_53 (pc' := 54) rfl (j := 0) rfl ?_
            refine r_getf C (Cn := RX7) (T := TX7) 0 (mMo.kd (mo_I e_19) (mMo.kd m_16 (mMo.kd m_11 (mMo.kd m_7 (mMo.kd m_3 k_a0 (by decide)) (by decide)) (by decide)) (by decide)) (by decide)) (by decide) vc_X7 in_X7 (by decide) q1224 dX7_canGo_54 (pc' := 57) rfl (v := va_rf (mgR M_18 a0 0)) rfl ?_
            obtain ⟨b_20, e_21, k_22, h⟩ := h
            refine r_ref [] e_21 ?_
            refine r_iconst C dX7_canGo_57 (pc' := 58) rfl (v := 4) rfl ?_
            refine r_iload_n C dX7_canGo_58 (pc' := 59) rfl (j := 1) rfl ?_
            refine r_iadd C dX7_canGo_59 (pc' := 60) rfl ?_
            obtain ⟨c_23, h⟩ := h
            refine r_iald C (j := (ix_ ((4 : Int32) + x1))) k_22 c_23 rfl dX7_canGo_60 (pc' := 61) rfl ?_
            obtain ⟨M_24, e_25, h⟩ := bn_ h
            refine r_putI C (Cn := RX7) (T := TX7) tyX7 34 (mMo.kd (mo_I e_19) (mMo.kd m_16 (mMo.kd m_11 (mMo.kd m_7 (mMo.kd m_3 k_a0 (by decide)) (by decide)) (by decide)) (by decide)) (by decide)) (by decide) vc_X7 in_X7 tyX7_ok nmX7 (by decide) q1258 rfl rfl dX7_canGo_61 (pc' := 64) rfl rfl rfl M_24 e_25 ?_
            refine r_iconst C dX7_canGo_64 (pc' := 65) rfl (v := 1) rfl ?_
            exact r_zret C hE (Or.inr rfl) (Nat.le_of_ble_eq_true rfl) (Nat.le_of_ble_eq_true rfl) dX7_canGo_65 ⟨_, rfl, h⟩
          · have h := it_t h c_17
            refine r_iconst C dX7_canGo_45 (pc' := 46) rfl (v := 0) rfl ?_
            exact r_zret C hE (Or.inl rfl) (Nat.le_of_ble_eq_true rfl) (Nat.le_of_ble_eq_true rfl) dX7_canGo_46 ⟨_, rfl, h⟩
set_option maxHeartbeats 4000000 in
theorem S_X7_drownedIn {D : DD} {l : Launch} {M : MM} {x0 : Int32} {Post : Int32 → MM → Prop} (h : wp_X7_drownedIn M x0 Post) : mMet D l yX7_drownedIn cX7_drownedIn 1 ((some .int)) { frames := 0, cells := 0, slots := 0, locals := 0 } M [.int x0] (pI_ Post) := by
  refine m_of2 [(0, .int x0)] (by decide +kernel) (Nat.le_of_ble_eq_true rfl) rfl (fun E hED hEl C hE => ?_)
  subst hED
  subst hEl
  unfold wp_X7_drownedIn at h
  refine r_iload_n C dX7_drownedIn_0 (pc' := 1) rfl (j := 0) rfl ?_
  refine r_bipush C dX7_drownedIn_1 (pc' := 3) rfl (v := 20) rfl ?_
  refine r_irem C dX7_drownedIn_3 (pc' := 4) rfl (by decide) ?_
  refine r_bipush C dX7_drownedIn_4 (pc' := 6) rfl (v := 10) rfl ?_
  refine r_icmp_ge C dX7_drownedIn_6 (pc' := 9) rfl (tgt := 13) (by decide) (fun c_1 => ?_) (fun c_1 => ?_)
  · have h := it_t h c_1
    refine r_iload_n C dX7_drownedIn_13 (pc' := 14) rfl (j := 0) rfl ?_
    refine r_bipush C dX7_drownedIn_14 (pc' := 16) rfl (v := 20) rfl ?_
    refine r_irem C dX7_drownedIn_16 (pc' := 17) rfl (by decide) ?_
    refine r_bipush C dX7_drownedIn_17 (pc' := 19) rfl (v := 10) rfl ?_
    refine r_isub C dX7_drownedIn_19 (pc' := 20) rfl ?_
    exact r_iret C hE (Nat.le_of_ble_eq_true rfl) (Nat.le_of_ble_eq_true rfl) dX7_drownedIn_20 ⟨_, rfl, h⟩
  · have h := it_f h c_1
    refine r_iconst C dX7_drownedIn_9 (pc' := 10) rfl (v := 0) rfl ?_
    refine r_goto C dX7_drownedIn_10 (tgt := 20) (by decide) ?_
    exact r_iret C hE (Nat.le_of_ble_eq_true rfl) (Nat.le_of_ble_eq_true rfl) dX7_drownedIn_20 ⟨_, rfl, h⟩
set_option maxHeartbeats 4000000 in
theorem S_X7_dryIn {D : DD} {l : Launch} {M : MM} {x0 : Int32} {Post : Int32 → MM → Prop} (h : wp_X7_dryIn M x0 Post) : mMet D l yX7_dryIn cX7_dryIn 1 ((some .int)) { frames := 0, cells := 0, slots := 0, locals := 0 } M [.int x0] (pI_ Post) := by
  refine m_of2 [(0, .int x0)] (by decide +kernel) (Nat.le_of_ble_eq_true rfl) rfl (fun E hED hEl C hE => ?_)
  subst hED
  subst hEl
  unfold wp_X7_dryIn at h
  refine r_iload_n C dX7_dryIn_0 (pc' := 1) rfl (j := 0) rfl ?_
  refine r_bipush C dX7_dryIn_1 (pc' := 3) rfl (v := 20) rfl ?_
  refine r_irem C dX7_dryIn_3 (pc' := 4) rfl (by decide) ?_
  refine r_bipush C dX7_dryIn_4 (pc' := 6) rfl (v := 10) rfl ?_
  refine r_icmp_ge C dX7_dryIn_6 (pc' := 9) rfl (tgt := 16) (by decide) (fun c_1 => ?_) (fun c_1 => ?_)
  · have h := it_t h c_1
    refine r_iconst C dX7_dryIn_16 (pc' := 17) rfl (v := 0) rfl ?_
    exact r_iret C hE (Nat.le_of_ble_eq_true rfl) (Nat.le_of_ble_eq_true rfl) dX7_dryIn_17 ⟨_, rfl, h⟩
  · have h := it_f h c_1
    refine r_iload_n C dX7_dryIn_9 (pc' := 10) rfl (j := 0) rfl ?_
    refine r_bipush C dX7_dryIn_10 (pc' := 12) rfl (v := 20) rfl ?_
    refine r_irem C dX7_dryIn_12 (pc' := 13) rfl (by decide) ?_
    refine r_goto C dX7_dryIn_13 (tgt := 17) (by decide) ?_
    exact r_iret C hE (Nat.le_of_ble_eq_true rfl) (Nat.le_of_ble_eq_true rfl) dX7_dryIn_17 ⟨_, rfl, h⟩
set_option maxHeartbeats 4000000 in
theorem S_X7_feelsState {D : DD} {l : Launch} {M : MM} {a0 : Nat} {x1 : Int32} {x2 : Int32} {Post : MM → Prop} (k_a0 : mkd M a0 = 7) (h : wp_X7_feelsState M a0 x1 x2 Post) : mMet D l yX7_feelsState cX7_feelsState 3 (none) { frames := 3, cells := 0, slots := 0, locals := 64 } M [.ref a0, .int x1, .int x2] (pV_ Post) := by
  refine m_of2 [(0, .ref a0), (1, .int x1), (2, .int x2)] (by decide +kernel) (Nat.le_of_ble_eq_true rfl) rfl (fun E hED hEl C hE => ?_)
  subst hED
  subst hEl
  unfold wp_X7_feelsState at h
  refine r_aload_n C dX7_feelsState_0 (pc' := 1) rfl (j := 0) rfl ?_
  refine r_aload_n C dX7_feelsState_1 (pc' := 2) rfl (j := 0) rfl ?_
  refine r_getf C (Cn := RX7) (T := TX7) 33 k_a0 (by decide) vc_X7 in_X7 (by decide) q1257 dX7_feelsState_2 (pc' := 5) rfl (v := .int (mgI M a0 33)) rfl ?_
  refine r_callVv (As := [.int (mgI M a0 33)]) (rest := []) (Cn := RX7) (T := TX7) C k_a0 (by decide) vc_X7 (S_X7_feelsPlant k_a0 h) (lw_V q1534 q1536 qs75 q112 q1537) rfl hd_X7_feelsPlant rfl rfl (Nat.le_of_ble_eq_true rfl) (Nat.le_of_ble_eq_true rfl) (Nat.le_of_ble_eq_true rfl) rfl rfl (Nat.le_of_ble_eq_true rfl) (Nat.le_of_ble_eq_true rfl) dX7_feelsState_5 (pc' := 8) rfl (fun M_1 h m_3 => ?_)
  refine r_aload_n C dX7_feelsState_8 (pc' := 9) rfl (j := 0) rfl ?_
  refine r_getf C (Cn := RX7) (T := TX7) 26 (mMo.kd m_3 k_a0 (by decide)) (by decide) vc_X7 in_X7 (by decide) q1250 dX7_feelsState_9 (pc' := 12) rfl (v := va_rf (mgR M_1 a0 26)) rfl ?_
  obtain ⟨b_4, e_5, k_6, h⟩ := h
  refine r_ref [] e_5 ?_
  refine r_iconst C dX7_feelsState_12 (pc' := 13) rfl (v := 4) rfl ?_
  refine r_iload_n C dX7_feelsState_13 (pc' := 14) rfl (j := 2) rfl ?_
  obtain ⟨c_7, h⟩ := h
  obtain ⟨M_8, e_9, h⟩ := bn_ h
  refine r_iast C (j := 4) k_6 (vp_l (by decide) (by decide) c_7) (by decide) dX7_feelsState_14 (pc' := 15) rfl M_8 e_9 ?_
  refine r_aload_n C dX7_feelsState_15 (pc' := 16) rfl (j := 0) rfl ?_
  refine r_getf C (Cn := RX7) (T := TX7) 26 (mMo.kd (mo_I e_9) (mMo.kd m_3 k_a0 (by decide)) (by decide)) (by decide) vc_X7 in_X7 (by decide) q1250 dX7_feelsState_16 (pc' := 19) rfl (v := va_rf (mgR M_8 a0 26)) rfl ?_
  obtain ⟨b_10, e_11, k_12, h⟩ := h
  refine r_ref [] e_11 ?_
  refine r_iconst C dX7_feelsState_19 (pc' := 20) rfl (v := 5) rfl ?_
  refine r_aload_n C dX7_feelsState_20 (pc' := 21) rfl (j := 0) rfl ?_
  refine r_getf C (Cn := RX7) (T := TX7) 34 (mMo.kd (mo_I e_9) (mMo.kd m_3 k_a0 (by decide)) (by decide)) (by decide) vc_X7 in_X7 (by decide) q1258 dX7_feelsState_21 (pc' := 24) rfl (v := .int (mgI M_8 a0 34)) rfl ?_
  obtain ⟨c_13, h⟩ := h
  obtain ⟨M_14, e_15, h⟩ := bn_ h
  refine r_iast C (j := 5) k_12 (vp_l (by decide) (by decide) c_13) (by decide) dX7_feelsState_24 (pc' := 25) rfl M_14 e_15 ?_
  refine r_aload_n C dX7_feelsState_25 (pc' := 26) rfl (j := 0) rfl ?_
  refine r_getf C (Cn := RX7) (T := TX7) 26 (mMo.kd (mo_I e_15) (mMo.kd (mo_I e_9) (mMo.kd m_3 k_a0 (by decide)) (by decide)) (by decide)) (by decide) vc_X7 in_X7 (by decide) q1250 dX7_feelsState_26 (pc' := 29) rfl (v := va_rf (mgR M_14 a0 26)) rfl ?_
  obtain ⟨b_16, e_17, k_18, h⟩ := h
  refine r_ref [] e_17 ?_
  refine r_bipush C dX7_feelsState_29 (pc' := 31) rfl (v := 6) rfl ?_
  refine r_iload_n C dX7_feelsState_31 (pc' := 32) rfl (j := 1) rfl ?_
  refine r_callSi (As := [.int x1]) (rest := [.int (6 : Int32), .ref b_16]) C (S_X7_dryIn h) (lw_S q1631 q1632 q112 q1633) hd_X7_dryIn rfl rfl (Nat.le_of_ble_eq_true rfl) (Nat.le_of_ble_eq_true rfl) (Nat.le_of_ble_eq_true rfl) rfl rfl (Nat.le_of_ble_eq_true rfl) (Nat.le_of_ble_eq_true rfl) dX7_feelsState_32 (pc' := 35) rfl (fun r_20 M_19 h m_21 => ?_)
  obtain ⟨c_22, h⟩ := h
  obtain ⟨M_23, e_24, h⟩ := bn_ h
  refine r_iast C (j := 6) (mMo.kd m_21 k_18 (by decide)) (vp_l (by decide) (by decide) c_22) (by decide) dX7_feelsState_35 (pc' := 36) rfl M_23 e_24 ?_
  refine r_aload_n C dX7_feelsState_36 (pc' := 37) rfl (j := 0) rfl ?_
  refine r_getf C (Cn := RX7) (T := TX7) 26 (mMo.kd (mo_I e_24) (mMo.kd m_21 (mMo.kd (mo_I e_15) (mMo.kd (mo_I e_9) (mMo.kd m_3 k_a0 (by decide)) (by decide)) (by decide)) (by decide)) (by decide)) (by decide) vc_X7 in_X7 (by decide) q1250 dX7_feelsState_37 (pc' := 40) rfl (v := va_rf (mgR M_23 a0 26)) rfl ?_
  obtain ⟨b_25, e_26, k_27, h⟩ := h
  refine r_ref [] e_26 ?_
  refine r_bipush C dX7_feelsState_40 (pc' := 42) rfl (v := 7) rfl ?_
  refine r_iload_n C dX7_feelsState_42 (pc' := 43) rfl (j := 1) rfl ?_
  refine r_callSi (As := [.int x1]) (rest := [.int (7 : Int32), .ref b_25]) C (S_X7_drownedIn h) (lw_S q1634 q1635 q112 q1636) hd_X7_drownedIn rfl rfl (Nat.le_of_ble_eq_true rfl) (Nat.le_of_ble_eq_true rfl) (Nat.le_of_ble_eq_true rfl) rfl rfl (Nat.le_of_ble_eq_true rfl) (Nat.le_of_ble_eq_true rfl) dX7_feelsState_43 (pc' := 46) rfl (fun r_29 M_28 h m_30 => ?_)
  obtain ⟨c_31, h⟩ := h
  obtain ⟨M_32, e_33, h⟩ := bn_ h
  refine r_iast C (j := 7) (mMo.kd m_30 k_27 (by decide)) (vp_l (by decide) (by decide) c_31) (by decide) dX7_feelsState_46 (pc' := 47) rfl M_32 e_33 ?_
  refine r_aload_n C dX7_feelsState_47 (pc' := 48) rfl (j := 0) rfl ?_
  refine r_getf C (Cn := RX7) (T := TX7) 26 (mMo.kd (mo_I e_33) (mMo.kd m_30 (mMo.kd (mo_I e_24) (mMo.kd m_21 (mMo.kd (mo_I e_15) (mMo.kd (mo_I e_9) (mMo.kd m_3 k_a0 (by decide)) (by decide)) (by decide)) (by decide)) (by decide)) (by decide)) (by decide)) (by decide) vc_X7 in_X7 (by decide) q1250 dX7_feelsState_48 (pc' := 51) rfl (v := va_rf (mgR M_32 a0 26)) rfl ?_
  obtain ⟨b_34, e_35, k_36, h⟩ := h
  refine r_ref [] e_35 ?_
  refine r_bipush C dX7_feelsState_51 (pc' := 53) rfl (v := 11) rfl ?_
  refine r_bipush C dX7_feelsState_53 (pc' := 55) rfl (v := 99) rfl ?_
  obtain ⟨c_37, h⟩ := h
  obtain ⟨M_38, e_39, h⟩ := bn_ h
  refine r_iast C (j := 11) k_36 (vp_l (by decide) (by decide) c_37) (by decide) dX7_feelsState_55 (pc' := 56) rfl M_38 e_39 ?_
  exact r_vret C hE (Nat.le_of_ble_eq_true rfl) (Nat.le_of_ble_eq_true rfl) dX7_feelsState_56 ⟨rfl, h⟩
set_option maxHeartbeats 4000000 in
theorem S_X7_cupsIn {D : DD} {l : Launch} {M : MM} {a0 : Nat} {x1 : Int32} {x2 : Int32} {x3 : Int32} {Post : Int32 → MM → Prop} (k_a0 : mkd M a0 = 7) (h : wp_X7_cupsIn M a0 x1 x2 x3 Post) : mMet D l yX7_cupsIn cX7_cupsIn 4 ((some .int)) { frames := 4, cells := 0, slots := 0, locals := 86 } M [.ref a0, .int x1, .int x2, .int x3] (pI_ Post) := by
  refine m_of2 [(0, .ref a0), (1, .int x1), (2, .int x2), (3, .int x3)] (by decide +kernel) (Nat.le_of_ble_eq_true rfl) rfl (fun E hED hEl C hE => ?_)
  subst hED
  subst hEl
  unfold wp_X7_cupsIn at h
  refine r_aload_n C dX7_cupsIn_0 (pc' := 1) rfl (j := 0) rfl ?_
  refine r_getf C (Cn := RX7) (T := TX7) 31 k_a0 (by decide) vc_X7 in_X7 (by decide) q1255 dX7_cupsIn_1 (pc' := 4) rfl (v := .int (mgI M a0 31)) rfl ?_
  refine r_iconst C dX7_cupsIn_4 (pc' := 5) rfl (v := -1) rfl ?_
  refine r_icmp_eq C dX7_cupsIn_5 (pc' := 8) rfl (tgt := 25) (by decide) (fun c_1 => ?_) (fun c_1 => ?_)
  · have h := it_t h c_1
    refine r_aload_n C dX7_cupsIn_25 (pc' := 26) rfl (j := 0) rfl ?_
    refine r_iload_n C dX7_cupsIn_26 (pc' := 27) rfl (j := 1) rfl ?_
    refine r_iload_n C dX7_cupsIn_27 (pc' := 28) rfl (j := 2) rfl ?_
    refine r_callVv (As := [.int x1, .int x2]) (rest := []) (Cn := RX7) (T := TX7) C k_a0 (by decide) vc_X7 (S_X7_feelsState k_a0 h) (lw_V q1627 q1629 qs89 q112 q1630) rfl hd_X7_feelsState rfl rfl (Nat.le_of_ble_eq_true rfl) (Nat.le_of_ble_eq_true rfl) (Nat.le_of_ble_eq_true rfl) rfl rfl (Nat.le_of_ble_eq_true rfl) (Nat.le_of_ble_eq_true rfl) dX7_cupsIn_28 (pc' := 31) rfl (fun M_2 h m_4 => ?_)
    refine r_aload_n C dX7_cupsIn_31 (pc' := 32) rfl (j := 0) rfl ?_
    refine r_getf C (Cn := RX7) (T := TX7) 26 (mMo.kd m_4 k_a0 (by decide)) (by decide) vc_X7 in_X7 (by decide) q1250 dX7_cupsIn_32 (pc' := 35) rfl (v := va_rf (mgR M_2 a0 26)) rfl ?_
    obtain ⟨b_5, e_6, k_7, h⟩ := h
    refine r_ref [] e_6 ?_
    refine r_bipush C dX7_cupsIn_35 (pc' := 37) rfl (v := 8) rfl ?_
    refine r_aload_n C dX7_cupsIn_37 (pc' := 38) rfl (j := 0) rfl ?_
    refine r_getf C (Cn := RX7) (T := TX7) 35 (mMo.kd m_4 k_a0 (by decide)) (by decide) vc_X7 in_X7 (by decide) q1259 dX7_cupsIn_38 (pc' := 41) rfl (v := va_rf (mgR M_2 a0 35)) rfl ?_
    obtain ⟨b_8, e_9, k_10, h⟩ := h
    refine r_ref [] e_9 ?_
    refine r_iload_n C dX7_cupsIn_41 (pc' := 42) rfl (j := 3) rfl ?_
    obtain ⟨c_11, h⟩ := h
    refine r_iald C (j := (ix_ x3)) k_10 c_11 rfl dX7_cupsIn_42 (pc' := 43) rfl ?_
    obtain ⟨c_12, h⟩ := h
    obtain ⟨M_13, e_14, h⟩ := bn_ h
    refine r_iast C (j := 8) k_7 (vp_l (by decide) (by decide) c_12) (by decide) dX7_cupsIn_43 (pc' := 44) rfl M_13 e_14 ?_
    refine r_aload_n C dX7_cupsIn_44 (pc' := 45) rfl (j := 0) rfl ?_
    refine r_getf C (Cn := RX7) (T := TX7) 26 (mMo.kd (mo_I e_14) (mMo.kd m_4 k_a0 (by decide)) (by decide)) (by decide) vc_X7 in_X7 (by decide) q1250 dX7_cupsIn_45 (pc' := 48) rfl (v := va_rf (mgR M_13 a0 26)) rfl ?_
    obtain ⟨b_15, e_16, k_17, h⟩ := h
    refine r_ref [] e_16 ?_
    refine r_bipush C dX7_cupsIn_48 (pc' := 50) rfl (v := 9) rfl ?_
    refine r_aload_n C dX7_cupsIn_50 (pc' := 51) rfl (j := 0) rfl ?_
    refine r_getf C (Cn := RX7) (T := TX7) 36 (mMo.kd (mo_I e_14) (mMo.kd m_4 k_a0 (by decide)) (by decide)) (by decide) vc_X7 in_X7 (by decide) q1260 dX7_cupsIn_51 (pc' := 54) rfl (v := va_rf (mgR M_13 a0 36)) rfl ?_
    obtain ⟨b_18, e_19, k_20, h⟩ := h
    refine r_ref [] e_19 ?_
    refine r_iload_n C dX7_cupsIn_54 (pc' := 55) rfl (j := 3) rfl ?_
    obtain ⟨c_21, h⟩ := h
    refine r_iald C (j := (ix_ x3)) k_20 c_21 rfl dX7_cupsIn_55 (pc' := 56) rfl ?_
    obtain ⟨c_22, h⟩ := h
    obtain ⟨M_23, e_24, h⟩ := bn_ h
    refine r_iast C (j := 9) k_17 (vp_l (by decide) (by decide) c_22) (by decide) dX7_cupsIn_56 (pc' := 57) rfl M_23 e_24 ?_
    refine r_aload_n C dX7_cupsIn_57 (pc' := 58) rfl (j := 0) rfl ?_
    refine r_aload_n C dX7_cupsIn_58 (pc' := 59) rfl (j := 0) rfl ?_
    refine r_getf C (Cn := RX7) (T := TX7) 0 (mMo.kd (mo_I e_24) (mMo.kd (mo_I e_14) (mMo.kd m_4 k_a0 (by decide)) (by decide)) (by decide)) (by decide) vc_X7 in_X7 (by decide) q1224 dX7_cupsIn_59 (pc' := 62) rfl (v := va_rf (mgR M_23 a0 0)) rfl ?_
    obtain ⟨b_25, e_26, k_27, h⟩ := h
    refine r_ref [] e_26 ?_
    refine r_bipush C dX7_cupsIn_62 (pc' := 64) rfl (v := 60) rfl ?_
    refine r_aload_n C dX7_cupsIn_64 (pc' := 65) rfl (j := 0) rfl ?_
    refine r_getf C (Cn := RX7) (T := TX7) 35 (mMo.kd (mo_I e_24) (mMo.kd (mo_I e_14) (mMo.kd m_4 k_a0 (by decide)) (by decide)) (by decide)) (by decide) vc_X7 in_X7 (by decide) q1259 dX7_cupsIn_65 (pc' := 68) rfl (v := va_rf (mgR M_23 a0 35)) rfl ?_
    obtain ⟨b_28, e_29, k_30, h⟩ := h
    refine r_ref [] e_29 ?_
    refine r_iload_n C dX7_cupsIn_68 (pc' := 69) rfl (j := 3) rfl ?_
    obtain ⟨c_31, h⟩ := h
    refine r_iald C (j := (ix_ x3)) k_30 c_31 rfl dX7_cupsIn_69 (pc' := 70) rfl ?_
    refine r_iadd C dX7_cupsIn_70 (pc' := 71) rfl ?_
    obtain ⟨c_32, h⟩ := h
    refine r_iald C (j := (ix_ ((60 : Int32) + (mgI M_23 b_28 (ix_ x3))))) k_27 c_32 rfl dX7_cupsIn_71 (pc' := 72) rfl ?_
    refine r_iconst C dX7_cupsIn_72 (pc' := 73) rfl (v := 1) rfl ?_
    refine r_iadd C dX7_cupsIn_73 (pc' := 74) rfl ?_
    refine r_bipush C dX7_cupsIn_74 (pc' := 76) rfl (v := 103) rfl ?_
    refine r_bipush C dX7_cupsIn_76 (pc' := 78) rfl (v := 9) rfl ?_
    refine r_callVi (As := [.int ((mgI M_23 b_25 (ix_ ((60 : Int32) + (mgI M_23 b_28 (ix_ x3))))) + (1 : Int32)), .int (103 : Int32), .int (9 : Int32)]) (rest := []) (Cn := RX7) (T := TX7) C (mMo.kd (mo_I e_24) (mMo.kd (mo_I e_14) (mMo.kd m_4 k_a0 (by decide)) (by decide)) (by decide)) (by decide) vc_X7 (S_X7_byText (mMo.kd (mo_I e_24) (mMo.kd (mo_I e_14) (mMo.kd m_4 k_a0 (by decide)) (by decide)) (by decide)) h) (lw_V q1545 q1547 qs77 q112 q1548) rfl hd_X7_byText rfl rfl (Nat.le_of_ble_eq_true rfl) (Nat.le_of_ble_eq_true rfl) (Nat.le_of_ble_eq_true rfl) rfl rfl (Nat.le_of_ble_eq_true rfl) (Nat.le_of_ble_eq_true rfl) dX7_cupsIn_78 (pc' := 81) rfl (fun r_34 M_33 h m_35 => ?_)
    exact r_iret C hE (Nat.le_of_ble_eq_true rfl) (Nat.le_of_ble_eq_true rfl) dX7_cupsIn_81 ⟨_, rfl, h⟩
  · have h := it_f h c_1
    refine r_iload_n C dX7_cupsIn_8 (pc' := 9) rfl (j := 2) rfl ?_
    refine r_aload_n C dX7_cupsIn_9 (pc' := 10) rfl (j := 0) rfl ?_
    refine r_getf C (Cn := RX7) (T := TX7) 32 k_a0 (by decide) vc_X7 in_X7 (by decide) q1256 dX7_cupsIn_10 (pc' := 13) rfl (v := .int (mgI M a0 32)) rfl ?_
    refine r_icmp_ge C dX7_cupsIn_13 (pc' := 16) rfl (tgt := 23) (by decide) (fun c_36 => ?_) (fun c_36 => ?_)
    · have h := it_t h c_36
      refine r_iconst C dX7_cupsIn_23 (pc' := 24) rfl (v := 0) rfl ?_
      exact r_iret C hE (Nat.le_of_ble_eq_true rfl) (Nat.le_of_ble_eq_true rfl) dX7_cupsIn_24 ⟨_, rfl, h⟩
    · have h := it_f h c_36
      refine r_aload_n C dX7_cupsIn_16 (pc' := 17) rfl (j := 0) rfl ?_
      refine r_getf C (Cn := RX7) (T := TX7) 31 k_a0 (by decide) vc_X7 in_X7 (by decide) q1255 dX7_cupsIn_17 (pc' := 20) rfl (v := .int (mgI M a0 31)) rfl ?_
      refine r_goto C dX7_cupsIn_20 (tgt := 24) (by decide) ?_
      exact r_iret C hE (Nat.le_of_ble_eq_true rfl) (Nat.le_of_ble_eq_true rfl) dX7_cupsIn_24 ⟨_, rfl, h⟩
set_option maxHeartbeats 4000000 in
theorem B_X7_comesBy_31 {E : mE} {M : MM} {a0 : Nat} {x1 : Int32} {x2 : Int32} {x3 : Int32} {as0 : Nat} {xs1 : Int32} {xs2 : Int64} {R : MM → Int32 → Prop} {X38 : MM → Prop} {Post : MM → Prop} (C : mC E yX7_comesBy cX7_comesBy 6 (none) { frames := 5, cells := 0, slots := 0, locals := 109 }) (hE : mEnd E { frames := 5, cells := 0, slots := 0, locals := 109 } (pV_ Post)) (k_a0 : mkd M a0 = 7) (k_as0 : mkd M as0 = 101) (h : wb_X7_comesBy_31 M a0 x1 x2 x3 as0 xs1 xs2 R X38) (hR : ∀ (M' : MM) (x3' : Int32), mMo M M' → mkd M' a0 = 7 → R M' x3' → mV E M' 0 0 2 [(0, .ref a0), (1, .int x1), (2, .int x2), (3, .int x3')] []) (hX38 : ∀ (M' : MM), mMo M M' → X38 M' → mV E M' 0 0 38 [(0, .ref a0), (1, .int x1), (2, .int x2)] []) : mV E M 0 0 31 [(0, .ref a0), (1, .int x1), (2, .int x2), (3, .int x3)] [.long xs2, .int xs1, .ref as0] := by
  unfold wb_X7_comesBy_31 at h
  obtain ⟨c_6, h⟩ := h
  obtain ⟨M_7, e_8, h⟩ := bn_ h
  refine r_last C (j := (ix_ xs1)) k_as0 c_6 rfl dX7_comesBy_31 (pc' := 32) rfl M_7 e_8 ?_
  obtain ⟨x3_9, e_10, h⟩ := bn_ h
  refine r_iinc C (lv' := [(3, .int x3_9), (0, .ref a0), (1, .int x1), (2, .int x2)]) dX7_comesBy_32 (pc' := 35) rfl (j := 3) rfl x3_9 (by rw [e_10]; rfl) (Nat.le_of_ble_eq_true rfl) rfl ?_
  refine r_goto C dX7_comesBy_35 (tgt := 2) (by decide) ?_
  refine r_sub (lv' := [(0, .ref a0), (1, .int x1), (2, .int x2), (3, .int x3_9)]) [1, 2, 3, 0] rfl ?_
  exact hR M_7 x3_9 (mo_L e_8) (mMo.kd (mo_L e_8) k_a0 (by decide)) h
set_option maxHeartbeats 4000000 in
theorem B_X7_comesBy_2 {E : mE} {a0 : Nat} {x1 : Int32} {x2 : Int32} {X38 : MM → Prop} {Post : MM → Prop} (C : mC E yX7_comesBy cX7_comesBy 6 (none) { frames := 5, cells := 0, slots := 0, locals := 109 }) (hE : mEnd E { frames := 5, cells := 0, slots := 0, locals := 109 } (pV_ Post)) : ∀ (n_ : Nat) (M : MM) (x3 : Int32), mkd M a0 = 7 → wl_X7_comesBy_2 a0 x1 x2 X38 n_ M x3 → (∀ (M' : MM), mMo M M' → X38 M' → mV E M' 0 0 38 [(0, .ref a0), (1, .int x1), (2, .int x2)] []) → mV E M 0 0 2 [(0, .ref a0), (1, .int x1), (2, .int x2), (3, .int x3)] [] := by
  intro n_
  induction n_ with
  | zero =>
    intro M x3 k_a0 h hX38
    exact absurd h (by rw [wl_X7_comesBy_2]; exact fun q => q)
  | succ n_ ih =>
    intro M x3 k_a0 h hX38
    rw [wl_X7_comesBy_2] at h
    refine r_iload_n C dX7_comesBy_2 (pc' := 3) rfl (j := 3) rfl ?_
    refine r_bipush C dX7_comesBy_3 (pc' := 5) rfl (v := 24) rfl ?_
    refine r_icmp_gt C dX7_comesBy_5 (pc' := 8) rfl (tgt := 38) (by decide) (fun c_1 => ?_) (fun c_1 => ?_)
    · have h := it_t h c_1
      refine r_sub (lv' := [(0, .ref a0), (1, .int x1), (2, .int x2)]) [0, 1, 2] rfl ?_
      exact hX38 M mMo.rf h
    · have h := it_f h c_1
      refine r_aload_n C dX7_comesBy_8 (pc' := 9) rfl (j := 0) rfl ?_
      refine r_getf C (Cn := RX7) (T := TX7) 40 k_a0 (by decide) vc_X7 in_X7 (by decide) q1264 dX7_comesBy_9 (pc' := 12) rfl (v := va_rf (mgR M a0 40)) rfl ?_
      obtain ⟨b_2, e_3, k_4, h⟩ := h
      refine r_ref [] e_3 ?_
      refine r_iload_n C dX7_comesBy_12 (pc' := 13) rfl (j := 3) rfl ?_
      refine r_iload_n C dX7_comesBy_13 (pc' := 14) rfl (j := 3) rfl ?_
      refine r_iload_n C dX7_comesBy_14 (pc' := 15) rfl (j := 1) rfl ?_
      refine r_bipush C dX7_comesBy_15 (pc' := 17) rfl (v := 20) rfl ?_
      refine r_idiv C dX7_comesBy_17 (pc' := 18) rfl (by decide) ?_
      refine r_icmp_ne C dX7_comesBy_18 (pc' := 21) rfl (tgt := 30) (by decide) (fun c_5 => ?_) (fun c_5 => ?_)
      · have h := it_f h c_5
        refine r_lconst C dX7_comesBy_30 (pc' := 31) rfl (v := 0) rfl ?_
        refine r_sub (lv' := [(0, .ref a0), (1, .int x1), (2, .int x2), (3, .int x3)]) [0, 1, 2, 3] rfl ?_
        exact B_X7_comesBy_31 C hE k_a0 k_4 h (fun M8 v0 hm8 g0 h8 => ih M8 v0 g0 h8 (fun M9 hm9 h9 => hX38 M9 (mMo.tr hm8 hm9) h9)) (fun M9 hm9 h9 => hX38 M9 hm9 h9)
      · have h := it_t h c_5
        refine r_aload_n C dX7_comesBy_21 (pc' := 22) rfl (j := 0) rfl ?_
        refine r_getf C (Cn := RX7) (T := TX7) 37 k_a0 (by decide) vc_X7 in_X7 (by decide) q1261 dX7_comesBy_22 (pc' := 25) rfl (v := va_rf (mgR M a0 37)) rfl ?_
        obtain ⟨b_11, e_12, k_13, h⟩ := h
        refine r_ref [] e_12 ?_
        refine r_iload_n C dX7_comesBy_25 (pc' := 26) rfl (j := 1) rfl ?_
        obtain ⟨c_14, h⟩ := h
        refine r_lald C (j := (ix_ x1)) k_13 c_14 rfl dX7_comesBy_26 (pc' := 27) rfl ?_
        refine r_goto C dX7_comesBy_27 (tgt := 31) (by decide) ?_
        refine r_sub (lv' := [(0, .ref a0), (1, .int x1), (2, .int x2), (3, .int x3)]) [0, 1, 2, 3] rfl ?_
        exact B_X7_comesBy_31 C hE k_a0 k_4 h (fun M8 v0 hm8 g0 h8 => ih M8 v0 g0 h8 (fun M9 hm9 h9 => hX38 M9 (mMo.tr hm8 hm9) h9)) (fun M9 hm9 h9 => hX38 M9 hm9 h9)
set_option maxHeartbeats 4000000 in
theorem B_X7_comesBy_48 {E : mE} {a0 : Nat} {x1 : Int32} {x2 : Int32} {x3 : Int32} {X86 : MM → Prop} {Post : MM → Prop} (C : mC E yX7_comesBy cX7_comesBy 6 (none) { frames := 5, cells := 0, slots := 0, locals := 109 }) (hE : mEnd E { frames := 5, cells := 0, slots := 0, locals := 109 } (pV_ Post)) : ∀ (n_ : Nat) (M : MM) (x4 : Int32), mkd M a0 = 7 → wl_X7_comesBy_48 a0 x1 x2 x3 X86 n_ M x4 → (∀ (M' : MM), mMo M M' → X86 M' → mV E M' 0 0 86 [(0, .ref a0), (1, .int x1), (2, .int x2), (3, .int x3)] []) → mV E M 0 0 48 [(0, .ref a0), (1, .int x1), (2, .int x2), (3, .int x3), (4, .int x4)] [] := by
  intro n_
  induction n_ with
  | zero =>
    intro M x4 k_a0 h hX86
    exact absurd h (by rw [wl_X7_comesBy_48]; exact fun q => q)
  | succ n_ ih =>
    intro M x4 k_a0 h hX86
    rw [wl_X7_comesBy_48] at h
    refine r_iload C dX7_comesBy_48 (pc' := 50) rfl (j := 4) rfl ?_
    refine r_bipush C dX7_comesBy_50 (pc' := 52) rfl (v := 24) rfl ?_
    refine r_icmp_gt C dX7_comesBy_52 (pc' := 55) rfl (tgt := 86) (by decide) (fun c_19 => ?_) (fun c_19 => ?_)
    · have h := it_t h c_19
      refine r_sub (lv' := [(0, .ref a0), (1, .int x1), (2, .int x2), (3, .int x3)]) [0, 1, 2, 3] rfl ?_
      exact hX86 M mMo.rf h
    · have h := it_f h c_19
      refine r_aload_n C dX7_comesBy_55 (pc' := 56) rfl (j := 0) rfl ?_
      refine r_getf C (Cn := RX7) (T := TX7) 41 k_a0 (by decide) vc_X7 in_X7 (by decide) q1265 dX7_comesBy_56 (pc' := 59) rfl (v := va_rf (mgR M a0 41)) rfl ?_
      obtain ⟨b_20, e_21, k_22, h⟩ := h
      refine r_ref [] e_21 ?_
      refine r_iload C dX7_comesBy_59 (pc' := 61) rfl (j := 4) rfl ?_
      refine r_aload_n C dX7_comesBy_61 (pc' := 62) rfl (j := 0) rfl ?_
      refine r_getf C (Cn := RX7) (T := TX7) 40 k_a0 (by decide) vc_X7 in_X7 (by decide) q1264 dX7_comesBy_62 (pc' := 65) rfl (v := va_rf (mgR M a0 40)) rfl ?_
      obtain ⟨b_23, e_24, k_25, h⟩ := h
      refine r_ref [] e_24 ?_
      refine r_iload C dX7_comesBy_65 (pc' := 67) rfl (j := 4) rfl ?_
      obtain ⟨c_26, h⟩ := h
      refine r_lald C (j := (ix_ x4)) k_25 c_26 rfl dX7_comesBy_67 (pc' := 68) rfl ?_
      refine r_bipush C dX7_comesBy_68 (pc' := 70) rfl (v := 10) rfl ?_
      refine r_aload_n C dX7_comesBy_70 (pc' := 71) rfl (j := 0) rfl ?_
      refine r_getf C (Cn := RX7) (T := TX7) 36 k_a0 (by decide) vc_X7 in_X7 (by decide) q1260 dX7_comesBy_71 (pc' := 74) rfl (v := va_rf (mgR M a0 36)) rfl ?_
      obtain ⟨b_27, e_28, k_29, h⟩ := h
      refine r_ref [] e_28 ?_
      refine r_iload_n C dX7_comesBy_74 (pc' := 75) rfl (j := 3) rfl ?_
      obtain ⟨c_30, h⟩ := h
      refine r_iald C (j := (ix_ x3)) k_29 c_30 rfl dX7_comesBy_75 (pc' := 76) rfl ?_
      refine r_isub C dX7_comesBy_76 (pc' := 77) rfl ?_
      refine r_i2l C dX7_comesBy_77 (pc' := 78) rfl ?_
      refine r_lmul C dX7_comesBy_78 (pc' := 79) rfl ?_
      obtain ⟨c_31, h⟩ := h
      obtain ⟨M_32, e_33, h⟩ := bn_ h
      refine r_last C (j := (ix_ x4)) k_22 c_31 rfl dX7_comesBy_79 (pc' := 80) rfl M_32 e_33 ?_
      obtain ⟨x4_34, e_35, h⟩ := bn_ h
      refine r_iinc C (lv' := [(4, .int x4_34), (0, .ref a0), (1, .int x1), (2, .int x2), (3, .int x3)]) dX7_comesBy_80 (pc' := 83) rfl (j := 4) rfl x4_34 (by rw [e_35]; rfl) (Nat.le_of_ble_eq_true rfl) rfl ?_
      refine r_goto C dX7_comesBy_83 (tgt := 48) (by decide) ?_
      refine r_sub (lv' := [(0, .ref a0), (1, .int x1), (2, .int x2), (3, .int x3), (4, .int x4_34)]) [1, 2, 3, 4, 0] rfl ?_
      exact ih M_32 x4_34 (mMo.kd (mo_L e_33) k_a0 (by decide)) h (fun M9 hm9 h9 => hX86 M9 (mMo.tr (mo_L e_33) hm9) h9)
set_option maxHeartbeats 4000000 in
theorem B_X7_comesBy_89 {E : mE} {a0 : Nat} {x1 : Int32} {x2 : Int32} {x3 : Int32} {X183 : MM → Prop} {Post : MM → Prop} (C : mC E yX7_comesBy cX7_comesBy 6 (none) { frames := 5, cells := 0, slots := 0, locals := 109 }) (hE : mEnd E { frames := 5, cells := 0, slots := 0, locals := 109 } (pV_ Post)) : ∀ (n_ : Nat) (M : MM) (x4 : Int32), mkd M a0 = 7 → wl_X7_comesBy_89 a0 x1 x2 x3 X183 n_ M x4 → (∀ (M' : MM), mMo M M' → X183 M' → mV E M' 0 0 183 [(0, .ref a0), (1, .int x1), (2, .int x2), (3, .int x3)] []) → mV E M 0 0 89 [(0, .ref a0), (1, .int x1), (2, .int x2), (3, .int x3), (4, .int x4)] [] := by
  intro n_
  induction n_ with
  | zero =>
    intro M x4 k_a0 h hX183
    exact absurd h (by rw [wl_X7_comesBy_89]; exact fun q => q)
  | succ n_ ih =>
    intro M x4 k_a0 h hX183
    rw [wl_X7_comesBy_89] at h
    refine r_iload C dX7_comesBy_89 (pc' := 91) rfl (j := 4) rfl ?_
    refine r_bipush C dX7_comesBy_91 (pc' := 93) rfl (v := 24) rfl ?_
    refine r_icmp_gt C dX7_comesBy_93 (pc' := 96) rfl (tgt := 183) (by decide) (fun c_39 => ?_) (fun c_39 => ?_)
    · have h := it_t h c_39
      refine r_sub (lv' := [(0, .ref a0), (1, .int x1), (2, .int x2), (3, .int x3)]) [0, 1, 2, 3] rfl ?_
      exact hX183 M mMo.rf h
    · have h := it_f h c_39
      refine r_aload_n C dX7_comesBy_96 (pc' := 97) rfl (j := 0) rfl ?_
      refine r_getf C (Cn := RX7) (T := TX7) 40 k_a0 (by decide) vc_X7 in_X7 (by decide) q1264 dX7_comesBy_97 (pc' := 100) rfl (v := va_rf (mgR M a0 40)) rfl ?_
      obtain ⟨b_40, e_41, k_42, h⟩ := h
      refine r_ref [] e_41 ?_
      refine r_iload C dX7_comesBy_100 (pc' := 102) rfl (j := 4) rfl ?_
      obtain ⟨c_43, h⟩ := h
      refine r_lald C (j := (ix_ x4)) k_42 c_43 rfl dX7_comesBy_102 (pc' := 103) rfl ?_
      refine r_lconst C dX7_comesBy_103 (pc' := 104) rfl (v := 0) rfl ?_
      refine r_lc_eq C dX7_comesBy_104 (pc1 := 105) (pc' := 108) rfl dX7_comesBy_105 rfl (tgt := 177) (by decide) (fun c_44 => ?_) (fun c_44 => ?_)
      · have h := it_t h c_44
        obtain ⟨x4_45, e_46, h⟩ := bn_ h
        refine r_iinc C (lv' := [(4, .int x4_45), (0, .ref a0), (1, .int x1), (2, .int x2), (3, .int x3)]) dX7_comesBy_177 (pc' := 180) rfl (j := 4) rfl x4_45 (by rw [e_46]; rfl) (Nat.le_of_ble_eq_true rfl) rfl ?_
        refine r_goto C dX7_comesBy_180 (tgt := 89) (by decide) ?_
        refine r_sub (lv' := [(0, .ref a0), (1, .int x1), (2, .int x2), (3, .int x3), (4, .int x4_45)]) [1, 2, 3, 4, 0] rfl ?_
        exact ih M x4_45 k_a0 h (fun M9 hm9 h9 => hX183 M9 hm9 h9)
      · have h := it_f h c_44
        refine r_aload_n C dX7_comesBy_108 (pc' := 109) rfl (j := 0) rfl ?_
        refine r_getf C (Cn := RX7) (T := TX7) 36 k_a0 (by decide) vc_X7 in_X7 (by decide) q1260 dX7_comesBy_109 (pc' := 112) rfl (v := va_rf (mgR M a0 36)) rfl ?_
        obtain ⟨b_47, e_48, k_49, h⟩ := h
        refine r_ref [] e_48 ?_
        refine r_iload_n C dX7_comesBy_112 (pc' := 113) rfl (j := 3) rfl ?_
        obtain ⟨c_50, h⟩ := h
        refine r_iald C (j := (ix_ x3)) k_49 c_50 rfl dX7_comesBy_113 (pc' := 114) rfl ?_
        refine r_if_ne C dX7_comesBy_114 (pc' := 117) rfl (tgt := 120) (by decide) (fun c_51 => ?_) (fun c_51 => ?_)
        · have h := it_f h c_51
          refine r_aload_n C dX7_comesBy_120 (pc' := 121) rfl (j := 0) rfl ?_
          refine r_getf C (Cn := RX7) (T := TX7) 0 k_a0 (by decide) vc_X7 in_X7 (by decide) q1224 dX7_comesBy_121 (pc' := 124) rfl (v := va_rf (mgR M a0 0)) rfl ?_
          obtain ⟨b_52, e_53, k_54, h⟩ := h
          refine r_ref [] e_53 ?_
          refine r_iconst C dX7_comesBy_124 (pc' := 125) rfl (v := 0) rfl ?_
          refine r_aload_n C dX7_comesBy_125 (pc' := 126) rfl (j := 0) rfl ?_
          refine r_getf C (Cn := RX7) (T := TX7) 33 k_a0 (by decide) vc_X7 in_X7 (by decide) q1257 dX7_comesBy_126 (pc' := 129) rfl (v := .int (mgI M a0 33)) rfl ?_
          refine r_iadd C dX7_comesBy_129 (pc' := 130) rfl ?_
          obtain ⟨c_55, h⟩ := h
          refine r_iald C (j := (ix_ ((0 : Int32) + (mgI M a0 33)))) k_54 c_55 rfl dX7_comesBy_130 (pc' := 131) rfl ?_
          refine r_iload C dX7_comesBy_131 (pc' := 133) rfl (j := 4) rfl ?_
          refine r_aload_n C dX7_comesBy_133 (pc' := 134) rfl (j := 0) rfl ?_
          refine r_iload_n C dX7_comesBy_134 (pc' := 135) rfl (j := 1) rfl ?_
          refine r_iload C dX7_comesBy_135 (pc' := 137) rfl (j := 4) rfl ?_
          refine r_iload_n C dX7_comesBy_137 (pc' := 138) rfl (j := 3) rfl ?_
          refine r_callVi (As := [.int x1, .int x4, .int x3]) (rest := [.int x4, .int (mgI M b_52 (ix_ ((0 : Int32) + (mgI M a0 33))))]) (Cn := RX7) (T := TX7) C k_a0 (by decide) vc_X7 (S_X7_cupsIn k_a0 h) (lw_V q1623 q1625 qs88 q112 q1626) rfl hd_X7_cupsIn rfl rfl (Nat.le_of_ble_eq_true rfl) (Nat.le_of_ble_eq_true rfl) (Nat.le_of_ble_eq_true rfl) rfl rfl (Nat.le_of_ble_eq_true rfl) (Nat.le_of_ble_eq_true rfl) dX7_comesBy_138 (pc' := 141) rfl (fun r_57 M_56 h m_58 => ?_)
          refine r_iadd C dX7_comesBy_141 (pc' := 142) rfl ?_
          refine r_callSi (As := [.int (mgI M b_52 (ix_ ((0 : Int32) + (mgI M a0 33)))), .int (x4 + r_57)]) (rest := []) C (S_X7_min h) (lw_S q1417 q1418 q112 q1419) hd_X7_min rfl rfl (Nat.le_of_ble_eq_true rfl) (Nat.le_of_ble_eq_true rfl) (Nat.le_of_ble_eq_true rfl) rfl rfl (Nat.le_of_ble_eq_true rfl) (Nat.le_of_ble_eq_true rfl) dX7_comesBy_142 (pc' := 145) rfl (fun r_60 M_59 h m_61 => ?_)
          refine r_istore C (lv' := [(5, .int r_60), (0, .ref a0), (1, .int x1), (2, .int x2), (3, .int x3), (4, .int x4)]) dX7_comesBy_145 (pc' := 147) rfl r_60 rfl (Nat.le_of_ble_eq_true rfl) rfl ?_
          refine r_aload_n C dX7_comesBy_147 (pc' := 148) rfl (j := 1) rfl ?_
          refine r_getf C (Cn := RX7) (T := TX7) 41 (mMo.kd m_61 (mMo.kd m_58 k_a0 (by decide)) (by decide)) (by decide) vc_X7 in_X7 (by decide) q1265 dX7_comesBy_148 (pc' := 151) rfl (v := va_rf (mgR M_59 a0 41)) rfl ?_
          obtain ⟨b_62, e_63, k_64, h⟩ := h
          refine r_ref [] e_63 ?_
          refine r_iload C dX7_comesBy_151 (pc' := 153) rfl (j := 0) rfl ?_
          refine r_aload_n C dX7_comesBy_153 (pc' := 154) rfl (j := 1) rfl ?_
          refine r_getf C (Cn := RX7) (T := TX7) 41 (mMo.kd m_61 (mMo.kd m_58 k_a0 (by decide)) (by decide)) (by decide) vc_X7 in_X7 (by decide) q1265 dX7_comesBy_154 (pc' := 157) rfl (v := va_rf (mgR M_59 a0 41)) rfl ?_
          obtain ⟨b_65, e_66, k_67, h⟩ := h
          refine r_ref [] e_66 ?_
          refine r_iload C dX7_comesBy_157 (pc' := 159) rfl (j := 0) rfl ?_
          obtain ⟨c_68, h⟩ := h
          refine r_lald C (j := (ix_ r_60)) k_67 c_68 rfl dX7_comesBy_159 (pc' := 160) rfl ?_
          refine r_aload_n C dX7_comesBy_160 (pc' := 161) rfl (j := 1) rfl ?_
          refine r_getf C (Cn := RX7) (T := TX7) 40 (mMo.kd m_61 (mMo.kd m_58 k_a0 (by decide)) (by decide)) (by decide) vc_X7 in_X7 (by decide) q1264 dX7_comesBy_161 (pc' := 164) rfl (v := va_rf (mgR M_59 a0 40)) rfl ?_
          obtain ⟨b_69, e_70, k_71, h⟩ := h
          refine r_ref [] e_70 ?_
          refine r_iload C dX7_comesBy_164 (pc' := 166) rfl (j := 5) rfl ?_
          obtain ⟨c_72, h⟩ := h
          refine r_lald C (j := (ix_ x4)) k_71 c_72 rfl dX7_comesBy_166 (pc' := 167) rfl ?_
          refine r_aload_n C dX7_comesBy_167 (pc' := 168) rfl (j := 1) rfl ?_
          refine r_getf C (Cn := RX7) (T := TX7) 36 (mMo.kd m_61 (mMo.kd m_58 k_a0 (by decide)) (by decide)) (by decide) vc_X7 in_X7 (by decide) q1260 dX7_comesBy_168 (pc' := 171) rfl (v := va_rf (mgR M_59 a0 36)) rfl ?_
          obtain ⟨b_73, e_74, k_75, h⟩ := h
          refine r_ref [] e_74 ?_
          refine r_iload_n C dX7_comesBy_171 (pc' := 172) rfl (j := 4) rfl ?_
          obtain ⟨c_76, h⟩ := h
          refine r_iald C (j := (ix_ x3)) k_75 c_76 rfl dX7_comesBy_172 (pc' := 173) rfl ?_
          refine r_i2l C dX7_comesBy_173 (pc' := 174) rfl ?_
          refine r_lmul C dX7_comesBy_174 (pc' := 175) rfl ?_
          refine r_ladd C dX7_comesBy_175 (pc' := 176) rfl ?_
          obtain ⟨c_77, h⟩ := h
          obtain ⟨M_78, e_79, h⟩ := bn_ h
          refine r_last C (j := (ix_ r_60)) k_64 c_77 rfl dX7_comesBy_176 (pc' := 177) rfl M_78 e_79 ?_
          obtain ⟨x4_80, e_81, h⟩ := bn_ h
          refine r_iinc C (lv' := [(4, .int x4_80), (5, .int r_60), (0, .ref a0), (1, .int x1), (2, .int x2), (3, .int x3)]) dX7_comesBy_177 (pc' := 180) rfl (j := 5) rfl x4_80 (by rw [e_81]; rfl) (Nat.le_of_ble_eq_true rfl) rfl ?_
          refine r_goto C dX7_comesBy_180 (tgt := 89) (by decide) ?_
          refine r_sub (lv' := [(0, .ref a0), (1, .int x1), (2, .int x2), (3, .int x3), (4, .int x4_80)]) [2, 3, 4, 5, 0] rfl ?_
          exact ih M_78 x4_80 (mMo.kd (mo_L e_79) (mMo.kd m_61 (mMo.kd m_58 k_a0 (by decide)) (by decide)) (by decide)) h (fun M9 hm9 h9 => hX183 M9 (mMo.tr (mMo.tr (mMo.tr m_58 m_61) (mo_L e_79)) hm9) h9)
        · have h := it_t h c_51
          refine r_goto C dX7_comesBy_117 (tgt := 177) (by decide) ?_
          obtain ⟨x4_82, e_83, h⟩ := bn_ h
          refine r_iinc C (lv' := [(4, .int x4_82), (0, .ref a0), (1, .int x1), (2, .int x2), (3, .int x3)]) dX7_comesBy_177 (pc' := 180) rfl (j := 4) rfl x4_82 (by rw [e_83]; rfl) (Nat.le_of_ble_eq_true rfl) rfl ?_
          refine r_goto C dX7_comesBy_180 (tgt := 89) (by decide) ?_
          refine r_sub (lv' := [(0, .ref a0), (1, .int x1), (2, .int x2), (3, .int x3), (4, .int x4_82)]) [1, 2, 3, 4, 0] rfl ?_
          exact ih M x4_82 k_a0 h (fun M9 hm9 h9 => hX183 M9 hm9 h9)
set_option maxHeartbeats 4000000 in
theorem B_X7_comesBy_186 {E : mE} {a0 : Nat} {x1 : Int32} {x2 : Int32} {x3 : Int32} {X213 : MM → Prop} {Post : MM → Prop} (C : mC E yX7_comesBy cX7_comesBy 6 (none) { frames := 5, cells := 0, slots := 0, locals := 109 }) (hE : mEnd E { frames := 5, cells := 0, slots := 0, locals := 109 } (pV_ Post)) : ∀ (n_ : Nat) (M : MM) (x4 : Int32), mkd M a0 = 7 → wl_X7_comesBy_186 a0 x1 x2 x3 X213 n_ M x4 → (∀ (M' : MM), mMo M M' → X213 M' → mV E M' 0 0 213 [(0, .ref a0), (1, .int x1), (2, .int x2), (3, .int x3)] []) → mV E M 0 0 186 [(0, .ref a0), (1, .int x1), (2, .int x2), (3, .int x3), (4, .int x4)] [] := by
  intro n_
  induction n_ with
  | zero =>
    intro M x4 k_a0 h hX213
    exact absurd h (by rw [wl_X7_comesBy_186]; exact fun q => q)
  | succ n_ ih =>
    intro M x4 k_a0 h hX213
    rw [wl_X7_comesBy_186] at h
    refine r_iload C dX7_comesBy_186 (pc' := 188) rfl (j := 4) rfl ?_
    refine r_bipush C dX7_comesBy_188 (pc' := 190) rfl (v := 24) rfl ?_
    refine r_icmp_gt C dX7_comesBy_190 (pc' := 193) rfl (tgt := 213) (by decide) (fun c_87 => ?_) (fun c_87 => ?_)
    · have h := it_t h c_87
      refine r_sub (lv' := [(0, .ref a0), (1, .int x1), (2, .int x2), (3, .int x3)]) [0, 1, 2, 3] rfl ?_
      exact hX213 M mMo.rf h
    · have h := it_f h c_87
      refine r_aload_n C dX7_comesBy_193 (pc' := 194) rfl (j := 0) rfl ?_
      refine r_getf C (Cn := RX7) (T := TX7) 40 k_a0 (by decide) vc_X7 in_X7 (by decide) q1264 dX7_comesBy_194 (pc' := 197) rfl (v := va_rf (mgR M a0 40)) rfl ?_
      obtain ⟨b_88, e_89, k_90, h⟩ := h
      refine r_ref [] e_89 ?_
      refine r_iload C dX7_comesBy_197 (pc' := 199) rfl (j := 4) rfl ?_
      refine r_aload_n C dX7_comesBy_199 (pc' := 200) rfl (j := 0) rfl ?_
      refine r_getf C (Cn := RX7) (T := TX7) 41 k_a0 (by decide) vc_X7 in_X7 (by decide) q1265 dX7_comesBy_200 (pc' := 203) rfl (v := va_rf (mgR M a0 41)) rfl ?_
      obtain ⟨b_91, e_92, k_93, h⟩ := h
      refine r_ref [] e_92 ?_
      refine r_iload C dX7_comesBy_203 (pc' := 205) rfl (j := 4) rfl ?_
      obtain ⟨c_94, h⟩ := h
      refine r_lald C (j := (ix_ x4)) k_93 c_94 rfl dX7_comesBy_205 (pc' := 206) rfl ?_
      obtain ⟨c_95, h⟩ := h
      obtain ⟨M_96, e_97, h⟩ := bn_ h
      refine r_last C (j := (ix_ x4)) k_90 c_95 rfl dX7_comesBy_206 (pc' := 207) rfl M_96 e_97 ?_
      obtain ⟨x4_98, e_99, h⟩ := bn_ h
      refine r_iinc C (lv' := [(4, .int x4_98), (0, .ref a0), (1, .int x1), (2, .int x2), (3, .int x3)]) dX7_comesBy_207 (pc' := 210) rfl (j := 4) rfl x4_98 (by rw [e_99]; rfl) (Nat.le_of_ble_eq_true rfl) rfl ?_
      refine r_goto C dX7_comesBy_210 (tgt := 186) (by decide) ?_
      refine r_sub (lv' := [(0, .ref a0), (1, .int x1), (2, .int x2), (3, .int x3), (4, .int x4_98)]) [1, 2, 3, 4, 0] rfl ?_
      exact ih M_96 x4_98 (mMo.kd (mo_L e_97) k_a0 (by decide)) h (fun M9 hm9 h9 => hX213 M9 (mMo.tr (mo_L e_97) hm9) h9)
set_option maxHeartbeats 4000000 in
theorem B_X7_comesBy_40 {E : mE} {a0 : Nat} {x1 : Int32} {x2 : Int32} {X219 : MM → Prop} {Post : MM → Prop} (C : mC E yX7_comesBy cX7_comesBy 6 (none) { frames := 5, cells := 0, slots := 0, locals := 109 }) (hE : mEnd E { frames := 5, cells := 0, slots := 0, locals := 109 } (pV_ Post)) : ∀ (n_ : Nat) (M : MM) (x3 : Int32), mkd M a0 = 7 → wl_X7_comesBy_40 a0 x1 x2 X219 n_ M x3 → (∀ (M' : MM), mMo M M' → X219 M' → mV E M' 0 0 219 [] []) → mV E M 0 0 40 [(0, .ref a0), (1, .int x1), (2, .int x2), (3, .int x3)] [] := by
  intro n_
  induction n_ with
  | zero =>
    intro M x3 k_a0 h hX219
    exact absurd h (by rw [wl_X7_comesBy_40]; exact fun q => q)
  | succ n_ ih =>
    intro M x3 k_a0 h hX219
    rw [wl_X7_comesBy_40] at h
    refine r_iload_n C dX7_comesBy_40 (pc' := 41) rfl (j := 3) rfl ?_
    refine r_iload_n C dX7_comesBy_41 (pc' := 42) rfl (j := 2) rfl ?_
    refine r_icmp_ge C dX7_comesBy_42 (pc' := 45) rfl (tgt := 219) (by decide) (fun c_18 => ?_) (fun c_18 => ?_)
    · have h := it_t h c_18
      refine r_sub (lv' := []) [] rfl ?_
      exact hX219 M mMo.rf h
    · have h := it_f h c_18
      refine r_iconst C dX7_comesBy_45 (pc' := 46) rfl (v := 0) rfl ?_
      refine r_istore C (lv' := [(4, .int (0 : Int32)), (0, .ref a0), (1, .int x1), (2, .int x2), (3, .int x3)]) dX7_comesBy_46 (pc' := 48) rfl (0 : Int32) rfl (Nat.le_of_ble_eq_true rfl) rfl ?_
      obtain ⟨n_36, h⟩ := h
      refine r_sub (lv' := [(0, .ref a0), (1, .int x1), (2, .int x2), (3, .int x3), (4, .int (0 : Int32))]) [1, 2, 3, 4, 0] rfl ?_
      refine B_X7_comesBy_48 C hE n_36 M (0 : Int32) k_a0 h (fun M_37 m_38 h => ?_)
      refine r_iconst C dX7_comesBy_86 (pc' := 87) rfl (v := 0) rfl ?_
      refine r_istore C (lv' := [(4, .int (0 : Int32)), (0, .ref a0), (1, .int x1), (2, .int x2), (3, .int x3)]) dX7_comesBy_87 (pc' := 89) rfl (0 : Int32) rfl (Nat.le_of_ble_eq_true rfl) rfl ?_
      obtain ⟨n_84, h⟩ := h
      refine r_sub (lv' := [(0, .ref a0), (1, .int x1), (2, .int x2), (3, .int x3), (4, .int (0 : Int32))]) [1, 2, 3, 4, 0] rfl ?_
      refine B_X7_comesBy_89 C hE n_84 M_37 (0 : Int32) (mMo.kd m_38 k_a0 (by decide)) h (fun M_85 m_86 h => ?_)
      refine r_iconst C dX7_comesBy_183 (pc' := 184) rfl (v := 0) rfl ?_
      refine r_istore C (lv' := [(4, .int (0 : Int32)), (0, .ref a0), (1, .int x1), (2, .int x2), (3, .int x3)]) dX7_comesBy_184 (pc' := 186) rfl (0 : Int32) rfl (Nat.le_of_ble_eq_true rfl) rfl ?_
      obtain ⟨n_100, h⟩ := h
      refine r_sub (lv' := [(0, .ref a0), (1, .int x1), (2, .int x2), (3, .int x3), (4, .int (0 : Int32))]) [1, 2, 3, 4, 0] rfl ?_
      refine B_X7_comesBy_186 C hE n_100 M_85 (0 : Int32) (mMo.kd m_86 (mMo.kd m_38 k_a0 (by decide)) (by decide)) h (fun M_101 m_102 h => ?_)
      obtain ⟨x3_103, e_104, h⟩ := bn_ h
      refine r_iinc C (lv' := [(3, .int x3_103), (0, .ref a0), (1, .int x1), (2, .int x2)]) dX7_comesBy_213 (pc' := 216) rfl (j := 3) rfl x3_103 (by rw [e_104]; rfl) (Nat.le_of_ble_eq_true rfl) rfl ?_
      refine r_goto C dX7_comesBy_216 (tgt := 40) (by decide) ?_
      refine r_sub (lv' := [(0, .ref a0), (1, .int x1), (2, .int x2), (3, .int x3_103)]) [1, 2, 3, 0] rfl ?_
      exact ih M_101 x3_103 (mMo.kd m_102 (mMo.kd m_86 (mMo.kd m_38 k_a0 (by decide)) (by decide)) (by decide)) h (fun M9 hm9 h9 => hX219 M9 (mMo.tr (mMo.tr (mMo.tr m_38 m_86) m_102) hm9) h9)
set_option maxHeartbeats 4000000 in
theorem S_X7_comesBy {D : DD} {l : Launch} {M : MM} {a0 : Nat} {x1 : Int32} {x2 : Int32} {Post : MM → Prop} (k_a0 : mkd M a0 = 7) (h : wp_X7_comesBy M a0 x1 x2 Post) : mMet D l yX7_comesBy cX7_comesBy 6 (none) { frames := 5, cells := 0, slots := 0, locals := 109 } M [.ref a0, .int x1, .int x2] (pV_ Post) := by
  refine m_of2 [(0, .ref a0), (1, .int x1), (2, .int x2)] (by decide +kernel) (Nat.le_of_ble_eq_true rfl) rfl (fun E hED hEl C hE => ?_)
  subst hED
  subst hEl
  unfold wp_X7_comesBy at h
  refine r_iconst C dX7_comesBy_0 (pc' := 1) rfl (v := 0) rfl ?_
  refine r_istore_n C (lv' := [(3, .int (0 : Int32)), (0, .ref a0), (1, .int x1), (2, .int x2)]) dX7_comesBy_1 (pc' := 2) rfl rfl (0 : Int32) rfl (Nat.le_of_ble_eq_true rfl) rfl ?_
  obtain ⟨n_15, h⟩ := h
  refine r_sub (lv' := [(0, .ref a0), (1, .int x1), (2, .int x2), (3, .int (0 : Int32))]) [1, 2, 3, 0] rfl ?_
  refine B_X7_comesBy_2 C hE n_15 M (0 : Int32) k_a0 h (fun M_16 m_17 h => ?_)
  refine r_iconst C dX7_comesBy_38 (pc' := 39) rfl (v := 0) rfl ?_
  refine r_istore_n C (lv' := [(3, .int (0 : Int32)), (0, .ref a0), (1, .int x1), (2, .int x2)]) dX7_comesBy_39 (pc' := 40) rfl rfl (0 : Int32) rfl (Nat.le_of_ble_eq_true rfl) rfl ?_
  obtain ⟨n_105, h⟩ := h
  refine r_sub (lv' := [(0, .ref a0), (1, .int x1), (2, .int x2), (3, .int (0 : Int32))]) [1, 2, 3, 0] rfl ?_
  refine B_X7_comesBy_40 C hE n_105 M_16 (0 : Int32) (mMo.kd m_17 k_a0 (by decide)) h (fun M_106 m_107 h => ?_)
  exact r_vret C hE (Nat.le_of_ble_eq_true rfl) (Nat.le_of_ble_eq_true rfl) dX7_comesBy_219 ⟨rfl, h⟩
set_option maxHeartbeats 4000000 in
theorem S_X7_stateOf {D : DD} {l : Launch} {M : MM} {x0 : Int32} {x1 : Int32} {x2 : Int32} {Post : Int32 → MM → Prop} (h : wp_X7_stateOf M x0 x1 x2 Post) : mMet D l yX7_stateOf cX7_stateOf 3 ((some .int)) { frames := 0, cells := 0, slots := 0, locals := 0 } M [.int x0, .int x1, .int x2] (pI_ Post) := by
  refine m_of2 [(0, .int x0), (1, .int x1), (2, .int x2)] (by decide +kernel) (Nat.le_of_ble_eq_true rfl) rfl (fun E hED hEl C hE => ?_)
  subst hED
  subst hEl
  unfold wp_X7_stateOf at h
  refine r_bipush C dX7_stateOf_0 (pc' := 2) rfl (v := 20) rfl ?_
  refine r_iload_n C dX7_stateOf_2 (pc' := 3) rfl (j := 0) rfl ?_
  refine r_imul C dX7_stateOf_3 (pc' := 4) rfl ?_
  refine r_iload_n C dX7_stateOf_4 (pc' := 5) rfl (j := 2) rfl ?_
  refine r_if_le C dX7_stateOf_5 (pc' := 8) rfl (tgt := 15) (by decide) (fun c_1 => ?_) (fun c_1 => ?_)
  · have h := it_t h c_1
    refine r_iload_n C dX7_stateOf_15 (pc' := 16) rfl (j := 1) rfl ?_
    refine r_iadd C dX7_stateOf_16 (pc' := 17) rfl ?_
    exact r_iret C hE (Nat.le_of_ble_eq_true rfl) (Nat.le_of_ble_eq_true rfl) dX7_stateOf_17 ⟨_, rfl, h⟩
  · have h := it_f h c_1
    refine r_bipush C dX7_stateOf_8 (pc' := 10) rfl (v := 10) rfl ?_
    refine r_iload_n C dX7_stateOf_10 (pc' := 11) rfl (j := 2) rfl ?_
    refine r_iadd C dX7_stateOf_11 (pc' := 12) rfl ?_
    refine r_goto C dX7_stateOf_12 (tgt := 16) (by decide) ?_
    refine r_iadd C dX7_stateOf_16 (pc' := 17) rfl ?_
    exact r_iret C hE (Nat.le_of_ble_eq_true rfl) (Nat.le_of_ble_eq_true rfl) dX7_stateOf_17 ⟨_, rfl, h⟩
set_option maxHeartbeats 4000000 in
theorem B_X7_sunBy_136 {E : mE} {M : MM} {a0 : Nat} {x8 : Int64} {Post : MM → Prop} (C : mC E yX7_sunBy cX7_sunBy 10 (none) { frames := 4, cells := 0, slots := 0, locals := 86 }) (hE : mEnd E { frames := 4, cells := 0, slots := 0, locals := 86 } (pV_ Post)) (k_a0 : mkd M a0 = 7) (h : wb_X7_sunBy_136 M a0 x8 Post) : mV E M 0 0 136 [(0, .ref a0), (8, .long x8)] [] := by
  unfold wb_X7_sunBy_136 at h
  refine r_aload_n C dX7_sunBy_136 (pc' := 137) rfl (j := 0) rfl ?_
  refine r_aload_n C dX7_sunBy_137 (pc' := 138) rfl (j := 0) rfl ?_
  refine r_getf C (Cn := RX7) (T := TX7) 39 k_a0 (by decide) vc_X7 in_X7 (by decide) q1263 dX7_sunBy_138 (pc' := 141) rfl (v := .long (mgL M a0 39)) rfl ?_
  refine r_lload C dX7_sunBy_141 (pc' := 143) rfl (j := 1) rfl ?_
  refine r_ladd C dX7_sunBy_143 (pc' := 144) rfl ?_
  obtain ⟨M_28, e_29, h⟩ := bn_ h
  refine r_putL C (Cn := RX7) (T := TX7) tyX7 39 k_a0 (by decide) vc_X7 in_X7 tyX7_ok nmX7 (by decide) q1263 rfl rfl dX7_sunBy_144 (pc' := 147) rfl rfl rfl M_28 e_29 ?_
  refine r_goto C dX7_sunBy_147 (tgt := 181) (by decide) ?_
  exact r_vret C hE (Nat.le_of_ble_eq_true rfl) (Nat.le_of_ble_eq_true rfl) dX7_sunBy_181 ⟨rfl, h⟩
set_option maxHeartbeats 4000000 in
theorem B_X7_sunBy_88 {E : mE} {M : MM} {a0 : Nat} {x2 : Int32} {x5 : Int32} {x6 : Int32} {xs0 : Int32} {Post : MM → Prop} (C : mC E yX7_sunBy cX7_sunBy 10 (none) { frames := 4, cells := 0, slots := 0, locals := 86 }) (hE : mEnd E { frames := 4, cells := 0, slots := 0, locals := 86 } (pV_ Post)) (k_a0 : mkd M a0 = 7) (h : wb_X7_sunBy_88 M a0 x2 x5 x6 xs0 Post) : mV E M 0 0 88 [(0, .ref a0), (2, .int x2), (5, .int x5), (6, .int x6)] [.int xs0] := by
  unfold wb_X7_sunBy_88 at h
  refine r_istore C (lv' := [(7, .int xs0), (0, .ref a0), (2, .int x2), (5, .int x5), (6, .int x6)]) dX7_sunBy_88 (pc' := 90) rfl xs0 rfl (Nat.le_of_ble_eq_true rfl) rfl ?_
  refine r_aload_n C dX7_sunBy_90 (pc' := 91) rfl (j := 1) rfl ?_
  refine r_getf C (Cn := RX7) (T := TX7) 40 k_a0 (by decide) vc_X7 in_X7 (by decide) q1264 dX7_sunBy_91 (pc' := 94) rfl (v := va_rf (mgR M a0 40)) rfl ?_
  obtain ⟨b_17, e_18, k_19, h⟩ := h
  refine r_ref [] e_18 ?_
  refine r_iload_n C dX7_sunBy_94 (pc' := 95) rfl (j := 2) rfl ?_
  obtain ⟨c_20, h⟩ := h
  refine r_lald C (j := (ix_ x2)) k_19 c_20 rfl dX7_sunBy_95 (pc' := 96) rfl ?_
  refine r_ldc2 C dX7_sunBy_96 (pc' := 99) rfl q1641 ?_
  refine r_lmul C dX7_sunBy_99 (pc' := 100) rfl ?_
  obtain ⟨x8_21, e_22, h⟩ := bn_ h
  refine r_lstore C (lv' := [(8, .long x8_21), (7, .int xs0), (0, .ref a0), (2, .int x2), (5, .int x5), (6, .int x6)]) dX7_sunBy_100 (pc' := 102) rfl x8_21 e_22 (Nat.le_of_ble_eq_true rfl) rfl ?_
  refine r_iload C dX7_sunBy_102 (pc' := 104) rfl (j := 5) rfl ?_
  refine r_aload_n C dX7_sunBy_104 (pc' := 105) rfl (j := 2) rfl ?_
  refine r_getf C (Cn := RX7) (T := TX7) 0 k_a0 (by decide) vc_X7 in_X7 (by decide) q1224 dX7_sunBy_105 (pc' := 108) rfl (v := va_rf (mgR M a0 0)) rfl ?_
  obtain ⟨b_23, e_24, k_25, h⟩ := h
  refine r_ref [] e_24 ?_
  refine r_bipush C dX7_sunBy_108 (pc' := 110) rfl (v := 8) rfl ?_
  refine r_aload_n C dX7_sunBy_110 (pc' := 111) rfl (j := 2) rfl ?_
  refine r_getf C (Cn := RX7) (T := TX7) 33 k_a0 (by decide) vc_X7 in_X7 (by decide) q1257 dX7_sunBy_111 (pc' := 114) rfl (v := .int (mgI M a0 33)) rfl ?_
  refine r_iadd C dX7_sunBy_114 (pc' := 115) rfl ?_
  obtain ⟨c_26, h⟩ := h
  refine r_iald C (j := (ix_ ((8 : Int32) + (mgI M a0 33)))) k_25 c_26 rfl dX7_sunBy_115 (pc' := 116) rfl ?_
  refine r_icmp_ge C dX7_sunBy_116 (pc' := 119) rfl (tgt := 136) (by decide) (fun c_27 => ?_) (fun c_27 => ?_)
  · have h := it_t h c_27
    refine r_sub (lv' := [(0, .ref a0), (8, .long x8_21)]) [2, 0] rfl ?_
    exact B_X7_sunBy_136 C hE k_a0 h
  · have h := it_f h c_27
    refine r_iload C dX7_sunBy_119 (pc' := 121) rfl (j := 1) rfl ?_
    refine r_aload_n C dX7_sunBy_121 (pc' := 122) rfl (j := 2) rfl ?_
    refine r_getf C (Cn := RX7) (T := TX7) 0 k_a0 (by decide) vc_X7 in_X7 (by decide) q1224 dX7_sunBy_122 (pc' := 125) rfl (v := va_rf (mgR M a0 0)) rfl ?_
    obtain ⟨b_30, e_31, k_32, h⟩ := h
    refine r_ref [] e_31 ?_
    refine r_bipush C dX7_sunBy_125 (pc' := 127) rfl (v := 8) rfl ?_
    refine r_aload_n C dX7_sunBy_127 (pc' := 128) rfl (j := 2) rfl ?_
    refine r_getf C (Cn := RX7) (T := TX7) 33 k_a0 (by decide) vc_X7 in_X7 (by decide) q1257 dX7_sunBy_128 (pc' := 131) rfl (v := .int (mgI M a0 33)) rfl ?_
    refine r_iadd C dX7_sunBy_131 (pc' := 132) rfl ?_
    obtain ⟨c_33, h⟩ := h
    refine r_iald C (j := (ix_ ((8 : Int32) + (mgI M a0 33)))) k_32 c_33 rfl dX7_sunBy_132 (pc' := 133) rfl ?_
    refine r_icmp_lt C dX7_sunBy_133 (pc' := 136) rfl (tgt := 150) (by decide) (fun c_34 => ?_) (fun c_34 => ?_)
    · have h := it_t h c_34
      refine r_aload_n C dX7_sunBy_150 (pc' := 151) rfl (j := 2) rfl ?_
      refine r_getf C (Cn := RX7) (T := TX7) 38 k_a0 (by decide) vc_X7 in_X7 (by decide) q1262 dX7_sunBy_151 (pc' := 154) rfl (v := va_rf (mgR M a0 38)) rfl ?_
      obtain ⟨b_35, e_36, k_37, h⟩ := h
      refine r_ref [] e_36 ?_
      refine r_iload C dX7_sunBy_154 (pc' := 156) rfl (j := 4) rfl ?_
      refine r_iload C dX7_sunBy_156 (pc' := 158) rfl (j := 5) rfl ?_
      refine r_iload C dX7_sunBy_158 (pc' := 160) rfl (j := 1) rfl ?_
      refine r_callSi (As := [.int x5, .int x6, .int xs0]) (rest := [.ref b_35]) C (S_X7_stateOf h) (lw_S q1612 q1613 q112 q1614) hd_X7_stateOf rfl rfl (Nat.le_of_ble_eq_true rfl) (Nat.le_of_ble_eq_true rfl) (Nat.le_of_ble_eq_true rfl) rfl rfl (Nat.le_of_ble_eq_true rfl) (Nat.le_of_ble_eq_true rfl) dX7_sunBy_160 (pc' := 163) rfl (fun r_39 M_38 h m_40 => ?_)
      refine r_aload_n C dX7_sunBy_163 (pc' := 164) rfl (j := 2) rfl ?_
      refine r_getf C (Cn := RX7) (T := TX7) 38 (mMo.kd m_40 k_a0 (by decide)) (by decide) vc_X7 in_X7 (by decide) q1262 dX7_sunBy_164 (pc' := 167) rfl (v := va_rf (mgR M_38 a0 38)) rfl ?_
      obtain ⟨b_41, e_42, k_43, h⟩ := h
      refine r_ref [] e_42 ?_
      refine r_iload C dX7_sunBy_167 (pc' := 169) rfl (j := 4) rfl ?_
      refine r_iload C dX7_sunBy_169 (pc' := 171) rfl (j := 5) rfl ?_
      refine r_iload C dX7_sunBy_171 (pc' := 173) rfl (j := 1) rfl ?_
      refine r_callSi (As := [.int x5, .int x6, .int xs0]) (rest := [.ref b_41, .int r_39, .ref b_35]) C (S_X7_stateOf h) (lw_S q1612 q1613 q112 q1614) hd_X7_stateOf rfl rfl (Nat.le_of_ble_eq_true rfl) (Nat.le_of_ble_eq_true rfl) (Nat.le_of_ble_eq_true rfl) rfl rfl (Nat.le_of_ble_eq_true rfl) (Nat.le_of_ble_eq_true rfl) dX7_sunBy_173 (pc' := 176) rfl (fun r_45 M_44 h m_46 => ?_)
      obtain ⟨c_47, h⟩ := h
      refine r_lald C (j := (ix_ r_45)) (mMo.kd m_46 k_43 (by decide)) c_47 rfl dX7_sunBy_176 (pc' := 177) rfl ?_
      refine r_lload C dX7_sunBy_177 (pc' := 179) rfl (j := 0) rfl ?_
      refine r_ladd C dX7_sunBy_179 (pc' := 180) rfl ?_
      obtain ⟨c_48, h⟩ := h
      obtain ⟨M_49, e_50, h⟩ := bn_ h
      refine r_last C (j := (ix_ r_39)) (mMo.kd m_46 (mMo.kd m_40 k_37 (by decide)) (by decide)) c_48 rfl dX7_sunBy_180 (pc' := 181) rfl M_49 e_50 ?_
      exact r_vret C hE (Nat.le_of_ble_eq_true rfl) (Nat.le_of_ble_eq_true rfl) dX7_sunBy_181 ⟨rfl, h⟩
    · have h := it_f h c_34
      refine r_sub (lv' := [(0, .ref a0), (8, .long x8_21)]) [2, 0] rfl ?_
      exact B_X7_sunBy_136 C hE k_a0 h
set_option maxHeartbeats 4000000 in
theorem B_X7_sunBy_60 {E : mE} {M : MM} {a0 : Nat} {x1 : Int32} {x2 : Int32} {x5 : Int32} {xs0 : Int32} {Post : MM → Prop} (C : mC E yX7_sunBy cX7_sunBy 10 (none) { frames := 4, cells := 0, slots := 0, locals := 86 }) (hE : mEnd E { frames := 4, cells := 0, slots := 0, locals := 86 } (pV_ Post)) (k_a0 : mkd M a0 = 7) (h : wb_X7_sunBy_60 M a0 x1 x2 x5 xs0 Post) : mV E M 0 0 60 [(0, .ref a0), (1, .int x1), (2, .int x2), (5, .int x5)] [.int xs0] := by
  unfold wb_X7_sunBy_60 at h
  refine r_istore C (lv' := [(6, .int xs0), (0, .ref a0), (1, .int x1), (2, .int x2), (5, .int x5)]) dX7_sunBy_60 (pc' := 62) rfl xs0 rfl (Nat.le_of_ble_eq_true rfl) rfl ?_
  refine r_iload C dX7_sunBy_62 (pc' := 64) rfl (j := 4) rfl ?_
  refine r_aload_n C dX7_sunBy_64 (pc' := 65) rfl (j := 1) rfl ?_
  refine r_getf C (Cn := RX7) (T := TX7) 0 k_a0 (by decide) vc_X7 in_X7 (by decide) q1224 dX7_sunBy_65 (pc' := 68) rfl (v := va_rf (mgR M a0 0)) rfl ?_
  obtain ⟨b_12, e_13, k_14, h⟩ := h
  refine r_ref [] e_13 ?_
  refine r_iconst C dX7_sunBy_68 (pc' := 69) rfl (v := 0) rfl ?_
  refine r_aload_n C dX7_sunBy_69 (pc' := 70) rfl (j := 1) rfl ?_
  refine r_getf C (Cn := RX7) (T := TX7) 33 k_a0 (by decide) vc_X7 in_X7 (by decide) q1257 dX7_sunBy_70 (pc' := 73) rfl (v := .int (mgI M a0 33)) rfl ?_
  refine r_iadd C dX7_sunBy_73 (pc' := 74) rfl ?_
  obtain ⟨c_15, h⟩ := h
  refine r_iald C (j := (ix_ ((0 : Int32) + (mgI M a0 33)))) k_14 c_15 rfl dX7_sunBy_74 (pc' := 75) rfl ?_
  refine r_icmp_ne C dX7_sunBy_75 (pc' := 78) rfl (tgt := 87) (by decide) (fun c_16 => ?_) (fun c_16 => ?_)
  · have h := it_f h c_16
    refine r_iconst C dX7_sunBy_87 (pc' := 88) rfl (v := 0) rfl ?_
    refine r_sub (lv' := [(0, .ref a0), (2, .int x2), (5, .int x5), (6, .int xs0)]) [1, 3, 4, 0] rfl ?_
    exact B_X7_sunBy_88 C hE k_a0 h
  · have h := it_t h c_16
    refine r_iload_n C dX7_sunBy_78 (pc' := 79) rfl (j := 2) rfl ?_
    refine r_callSi (As := [.int x1]) (rest := []) C (S_X7_drownedIn h) (lw_S q1634 q1635 q112 q1636) hd_X7_drownedIn rfl rfl (Nat.le_of_ble_eq_true rfl) (Nat.le_of_ble_eq_true rfl) (Nat.le_of_ble_eq_true rfl) rfl rfl (Nat.le_of_ble_eq_true rfl) (Nat.le_of_ble_eq_true rfl) dX7_sunBy_79 (pc' := 82) rfl (fun r_52 M_51 h m_53 => ?_)
    refine r_iconst C dX7_sunBy_82 (pc' := 83) rfl (v := 1) rfl ?_
    refine r_iadd C dX7_sunBy_83 (pc' := 84) rfl ?_
    refine r_goto C dX7_sunBy_84 (tgt := 88) (by decide) ?_
    refine r_sub (lv' := [(0, .ref a0), (2, .int x2), (5, .int x5), (6, .int xs0)]) [1, 3, 4, 0] rfl ?_
    exact B_X7_sunBy_88 C hE (mMo.kd m_53 k_a0 (by decide)) h
set_option maxHeartbeats 4000000 in
theorem B_X7_sunBy_35 {E : mE} {M : MM} {a0 : Nat} {x1 : Int32} {x2 : Int32} {x4 : Int32} {Post : MM → Prop} (C : mC E yX7_sunBy cX7_sunBy 10 (none) { frames := 4, cells := 0, slots := 0, locals := 86 }) (hE : mEnd E { frames := 4, cells := 0, slots := 0, locals := 86 } (pV_ Post)) (k_a0 : mkd M a0 = 7) (h : wb_X7_sunBy_35 M a0 x1 x2 x4 Post) : mV E M 0 0 35 [(0, .ref a0), (1, .int x1), (2, .int x2), (4, .int x4)] [] := by
  unfold wb_X7_sunBy_35 at h
  refine r_iconst C dX7_sunBy_35 (pc' := 36) rfl (v := 0) rfl ?_
  refine r_iload_n C dX7_sunBy_36 (pc' := 37) rfl (j := 2) rfl ?_
  refine r_iload C dX7_sunBy_37 (pc' := 39) rfl (j := 3) rfl ?_
  refine r_isub C dX7_sunBy_39 (pc' := 40) rfl ?_
  refine r_callSi (As := [.int (0 : Int32), .int (x2 - x4)]) (rest := []) C (S_X7_max h) (lw_S q1581 q1582 q112 q1583) hd_X7_max rfl rfl (Nat.le_of_ble_eq_true rfl) (Nat.le_of_ble_eq_true rfl) (Nat.le_of_ble_eq_true rfl) rfl rfl (Nat.le_of_ble_eq_true rfl) (Nat.le_of_ble_eq_true rfl) dX7_sunBy_40 (pc' := 43) rfl (fun r_9 M_8 h m_10 => ?_)
  refine r_istore C (lv' := [(5, .int r_9), (0, .ref a0), (1, .int x1), (2, .int x2), (4, .int x4)]) dX7_sunBy_43 (pc' := 45) rfl r_9 rfl (Nat.le_of_ble_eq_true rfl) rfl ?_
  refine r_iload C dX7_sunBy_45 (pc' := 47) rfl (j := 0) rfl ?_
  refine r_if_ne C dX7_sunBy_47 (pc' := 50) rfl (tgt := 59) (by decide) (fun c_11 => ?_) (fun c_11 => ?_)
  · have h := it_f h c_11
    refine r_iconst C dX7_sunBy_59 (pc' := 60) rfl (v := 0) rfl ?_
    refine r_sub (lv' := [(0, .ref a0), (1, .int x1), (2, .int x2), (5, .int r_9)]) [1, 2, 3, 0] rfl ?_
    exact B_X7_sunBy_60 C hE (mMo.kd m_10 k_a0 (by decide)) h
  · have h := it_t h c_11
    refine r_iload_n C dX7_sunBy_50 (pc' := 51) rfl (j := 2) rfl ?_
    refine r_callSi (As := [.int x1]) (rest := []) C (S_X7_dryIn h) (lw_S q1631 q1632 q112 q1633) hd_X7_dryIn rfl rfl (Nat.le_of_ble_eq_true rfl) (Nat.le_of_ble_eq_true rfl) (Nat.le_of_ble_eq_true rfl) rfl rfl (Nat.le_of_ble_eq_true rfl) (Nat.le_of_ble_eq_true rfl) dX7_sunBy_51 (pc' := 54) rfl (fun r_55 M_54 h m_56 => ?_)
    refine r_iconst C dX7_sunBy_54 (pc' := 55) rfl (v := 1) rfl ?_
    refine r_iadd C dX7_sunBy_55 (pc' := 56) rfl ?_
    refine r_goto C dX7_sunBy_56 (tgt := 60) (by decide) ?_
    refine r_sub (lv' := [(0, .ref a0), (1, .int x1), (2, .int x2), (5, .int r_9)]) [1, 2, 3, 0] rfl ?_
    exact B_X7_sunBy_60 C hE (mMo.kd m_56 (mMo.kd m_10 k_a0 (by decide)) (by decide)) h
set_option maxHeartbeats 4000000 in
theorem S_X7_sunBy {D : DD} {l : Launch} {M : MM} {a0 : Nat} {x1 : Int32} {x2 : Int32} {x3 : Int32} {Post : MM → Prop} (k_a0 : mkd M a0 = 7) (h : wp_X7_sunBy M a0 x1 x2 x3 Post) : mMet D l yX7_sunBy cX7_sunBy 10 (none) { frames := 4, cells := 0, slots := 0, locals := 86 } M [.ref a0, .int x1, .int x2, .int x3] (pV_ Post) := by
  refine m_of2 [(0, .ref a0), (1, .int x1), (2, .int x2), (3, .int x3)] (by decide +kernel) (Nat.le_of_ble_eq_true rfl) rfl (fun E hED hEl C hE => ?_)
  subst hED
  subst hEl
  unfold wp_X7_sunBy at h
  refine r_aload_n C dX7_sunBy_0 (pc' := 1) rfl (j := 0) rfl ?_
  refine r_iload_n C dX7_sunBy_1 (pc' := 2) rfl (j := 1) rfl ?_
  refine r_iload_n C dX7_sunBy_2 (pc' := 3) rfl (j := 2) rfl ?_
  refine r_callVv (As := [.int x1, .int x2]) (rest := []) (Cn := RX7) (T := TX7) C k_a0 (by decide) vc_X7 (S_X7_feelsState k_a0 h) (lw_V q1627 q1629 qs89 q112 q1630) rfl hd_X7_feelsState rfl rfl (Nat.le_of_ble_eq_true rfl) (Nat.le_of_ble_eq_true rfl) (Nat.le_of_ble_eq_true rfl) rfl rfl (Nat.le_of_ble_eq_true rfl) (Nat.le_of_ble_eq_true rfl) dX7_sunBy_3 (pc' := 6) rfl (fun M_1 h m_3 => ?_)
  refine r_aload_n C dX7_sunBy_6 (pc' := 7) rfl (j := 0) rfl ?_
  refine r_iconst C dX7_sunBy_7 (pc' := 8) rfl (v := 0) rfl ?_
  refine r_bipush C dX7_sunBy_8 (pc' := 10) rfl (v := 101) rfl ?_
  refine r_bipush C dX7_sunBy_10 (pc' := 12) rfl (v := 9) rfl ?_
  refine r_callVi (As := [.int (0 : Int32), .int (101 : Int32), .int (9 : Int32)]) (rest := []) (Cn := RX7) (T := TX7) C (mMo.kd m_3 k_a0 (by decide)) (by decide) vc_X7 (S_X7_byText (mMo.kd m_3 k_a0 (by decide)) h) (lw_V q1545 q1547 qs77 q112 q1548) rfl hd_X7_byText rfl rfl (Nat.le_of_ble_eq_true rfl) (Nat.le_of_ble_eq_true rfl) (Nat.le_of_ble_eq_true rfl) rfl rfl (Nat.le_of_ble_eq_true rfl) (Nat.le_of_ble_eq_true rfl) dX7_sunBy_12 (pc' := 15) rfl (fun r_5 M_4 h m_6 => ?_)
  refine r_istore C (lv' := [(4, .int r_5), (0, .ref a0), (1, .int x1), (2, .int x2), (3, .int x3)]) dX7_sunBy_15 (pc' := 17) rfl r_5 rfl (Nat.le_of_ble_eq_true rfl) rfl ?_
  refine r_iload_n C dX7_sunBy_17 (pc' := 18) rfl (j := 4) rfl ?_
  refine r_if_eq C dX7_sunBy_18 (pc' := 21) rfl (tgt := 35) (by decide) (fun c_7 => ?_) (fun c_7 => ?_)
  · have h := it_t h c_7
    refine r_sub (lv' := [(0, .ref a0), (1, .int x1), (2, .int x2), (4, .int r_5)]) [1, 2, 3, 0] rfl ?_
    exact B_X7_sunBy_35 C hE (mMo.kd m_6 (mMo.kd m_3 k_a0 (by decide)) (by decide)) h
  · have h := it_f h c_7
    refine r_iload C dX7_sunBy_21 (pc' := 23) rfl (j := 0) rfl ?_
    refine r_aload_n C dX7_sunBy_23 (pc' := 24) rfl (j := 1) rfl ?_
    refine r_iconst C dX7_sunBy_24 (pc' := 25) rfl (v := 0) rfl ?_
    refine r_bipush C dX7_sunBy_25 (pc' := 27) rfl (v := 104) rfl ?_
    refine r_bipush C dX7_sunBy_27 (pc' := 29) rfl (v := 9) rfl ?_
    refine r_callVi (As := [.int (0 : Int32), .int (104 : Int32), .int (9 : Int32)]) (rest := [.int r_5]) (Cn := RX7) (T := TX7) C (mMo.kd m_6 (mMo.kd m_3 k_a0 (by decide)) (by decide)) (by decide) vc_X7 (S_X7_byText (mMo.kd m_6 (mMo.kd m_3 k_a0 (by decide)) (by decide)) h) (lw_V q1545 q1547 qs77 q112 q1548) rfl hd_X7_byText rfl rfl (Nat.le_of_ble_eq_true rfl) (Nat.le_of_ble_eq_true rfl) (Nat.le_of_ble_eq_true rfl) rfl rfl (Nat.le_of_ble_eq_true rfl) (Nat.le_of_ble_eq_true rfl) dX7_sunBy_29 (pc' := 32) rfl (fun r_58 M_57 h m_59 => ?_)
    refine r_iadd C dX7_sunBy_32 (pc' := 33) rfl ?_
    obtain ⟨x4_60, e_61, h⟩ := bn_ h
    refine r_istore C (lv' := [(4, .int x4_60), (0, .ref a0), (1, .int x1), (2, .int x2), (3, .int x3)]) dX7_sunBy_33 (pc' := 35) rfl x4_60 e_61 (Nat.le_of_ble_eq_true rfl) rfl ?_
    refine r_sub (lv' := [(0, .ref a0), (1, .int x1), (2, .int x2), (4, .int x4_60)]) [1, 2, 3, 0] rfl ?_
    exact B_X7_sunBy_35 C hE (mMo.kd m_59 (mMo.kd m_6 (mMo.kd m_3 k_a0 (by decide)) (by decide)) (by decide)) h
set_option maxHeartbeats 4000000 in
theorem B_X7_tens_4 {E : mE} {x0 : Int32} {X21 : MM → Int64 → Prop} {Post : Int64 → MM → Prop} (C : mC E yX7_tens cX7_tens 4 ((some .long)) { frames := 0, cells := 0, slots := 0, locals := 0 }) (hE : mEnd E { frames := 0, cells := 0, slots := 0, locals := 0 } (pL_ Post)) : ∀ (n_ : Nat) (M : MM) (x1 : Int64) (x3 : Int32), wl_X7_tens_4 x0 X21 n_ M x1 x3 → (∀ (M' : MM) (x1' : Int64), mMo M M' → X21 M' x1' → mV E M' 0 0 21 [(1, .long x1')] []) → mV E M 0 0 4 [(0, .int x0), (1, .long x1), (3, .int x3)] [] := by
  intro n_
  induction n_ with
  | zero =>
    intro M x1 x3 h hX21
    exact absurd h (by rw [wl_X7_tens_4]; exact fun q => q)
  | succ n_ ih =>
    intro M x1 x3 h hX21
    rw [wl_X7_tens_4] at h
    refine r_iload_n C dX7_tens_4 (pc' := 5) rfl (j := 2) rfl ?_
    refine r_iload_n C dX7_tens_5 (pc' := 6) rfl (j := 0) rfl ?_
    refine r_icmp_ge C dX7_tens_6 (pc' := 9) rfl (tgt := 21) (by decide) (fun c_1 => ?_) (fun c_1 => ?_)
    · have h := it_t h c_1
      refine r_sub (lv' := [(1, .long x1)]) [1] rfl ?_
      exact hX21 M x1 mMo.rf h
    · have h := it_f h c_1
      refine r_lload_n C dX7_tens_9 (pc' := 10) rfl (j := 1) rfl ?_
      refine r_ldc2 C dX7_tens_10 (pc' := 13) rfl q1618 ?_
      refine r_lmul C dX7_tens_13 (pc' := 14) rfl ?_
      obtain ⟨x1_2, e_3, h⟩ := bn_ h
      refine r_lstore_n C (lv' := [(1, .long x1_2), (0, .int x0), (3, .int x3)]) dX7_tens_14 (pc' := 15) rfl rfl x1_2 e_3 (Nat.le_of_ble_eq_true rfl) rfl ?_
      obtain ⟨x3_4, e_5, h⟩ := bn_ h
      refine r_iinc C (lv' := [(3, .int x3_4), (1, .long x1_2), (0, .int x0)]) dX7_tens_15 (pc' := 18) rfl (j := 2) rfl x3_4 (by rw [e_5]; rfl) (Nat.le_of_ble_eq_true rfl) rfl ?_
      refine r_goto C dX7_tens_18 (tgt := 4) (by decide) ?_
      refine r_sub (lv' := [(0, .int x0), (1, .long x1_2), (3, .int x3_4)]) [2, 1, 0] rfl ?_
      exact ih M x1_2 x3_4 h (fun M9 w0 hm9 h9 => hX21 M9 w0 hm9 h9)
set_option maxHeartbeats 4000000 in
theorem S_X7_tens {D : DD} {l : Launch} {M : MM} {x0 : Int32} {Post : Int64 → MM → Prop} (h : wp_X7_tens M x0 Post) : mMet D l yX7_tens cX7_tens 4 ((some .long)) { frames := 0, cells := 0, slots := 0, locals := 0 } M [.int x0] (pL_ Post) := by
  refine m_of2 [(0, .int x0)] (by decide +kernel) (Nat.le_of_ble_eq_true rfl) rfl (fun E hED hEl C hE => ?_)
  subst hED
  subst hEl
  unfold wp_X7_tens at h
  refine r_lconst C dX7_tens_0 (pc' := 1) rfl (v := 1) rfl ?_
  refine r_lstore_n C (lv' := [(1, .long (1 : Int64)), (0, .int x0)]) dX7_tens_1 (pc' := 2) rfl rfl (1 : Int64) rfl (Nat.le_of_ble_eq_true rfl) rfl ?_
  refine r_iconst C dX7_tens_2 (pc' := 3) rfl (v := 0) rfl ?_
  refine r_istore_n C (lv' := [(3, .int (0 : Int32)), (1, .long (1 : Int64)), (0, .int x0)]) dX7_tens_3 (pc' := 4) rfl rfl (0 : Int32) rfl (Nat.le_of_ble_eq_true rfl) rfl ?_
  obtain ⟨n_6, h⟩ := h
  refine r_sub (lv' := [(0, .int x0), (1, .long (1 : Int64)), (3, .int (0 : Int32))]) [2, 1, 0] rfl ?_
  refine B_X7_tens_4 C hE n_6 M (1 : Int64) (0 : Int32) h (fun M_7 x1_9 m_8 h => ?_)
  refine r_lload_n C dX7_tens_21 (pc' := 22) rfl (j := 0) rfl ?_
  exact r_lret C hE (Nat.le_of_ble_eq_true rfl) (Nat.le_of_ble_eq_true rfl) dX7_tens_22 ⟨_, rfl, h⟩
set_option maxHeartbeats 4000000 in
theorem B_X7_goesThrough_16 {E : mE} {a0 : Nat} {x1 : Int32} {x2 : Int32} {x3 : Int32} {X38 : MM → Prop} {Post : Int64 → MM → Prop} (C : mC E yX7_goesThrough cX7_goesThrough 7 ((some .long)) { frames := 6, cells := 0, slots := 0, locals := 134 }) (hE : mEnd E { frames := 6, cells := 0, slots := 0, locals := 134 } (pL_ Post)) : ∀ (n_ : Nat) (M : MM) (x4 : Int32), mkd M a0 = 7 → wl_X7_goesThrough_16 a0 x1 x2 x3 X38 n_ M x4 → (∀ (M' : MM), mMo M M' → X38 M' → mV E M' 0 0 38 [(0, .ref a0), (1, .int x1), (2, .int x2), (3, .int x3)] []) → mV E M 0 0 16 [(0, .ref a0), (1, .int x1), (2, .int x2), (3, .int x3), (4, .int x4)] [] := by
  intro n_
  induction n_ with
  | zero =>
    intro M x4 k_a0 h hX38
    exact absurd h (by rw [wl_X7_goesThrough_16]; exact fun q => q)
  | succ n_ ih =>
    intro M x4 k_a0 h hX38
    rw [wl_X7_goesThrough_16] at h
    refine r_iload C dX7_goesThrough_16 (pc' := 18) rfl (j := 4) rfl ?_
    refine r_sipush C dX7_goesThrough_18 (pc' := 21) rfl (v := 500) rfl ?_
    refine r_icmp_ge C dX7_goesThrough_21 (pc' := 24) rfl (tgt := 38) (by decide) (fun c_9 => ?_) (fun c_9 => ?_)
    · have h := it_t h c_9
      refine r_sub (lv' := [(0, .ref a0), (1, .int x1), (2, .int x2), (3, .int x3)]) [0, 1, 2, 3] rfl ?_
      exact hX38 M mMo.rf h
    · have h := it_f h c_9
      refine r_aload_n C dX7_goesThrough_24 (pc' := 25) rfl (j := 0) rfl ?_
      refine r_getf C (Cn := RX7) (T := TX7) 37 k_a0 (by decide) vc_X7 in_X7 (by decide) q1261 dX7_goesThrough_25 (pc' := 28) rfl (v := va_rf (mgR M a0 37)) rfl ?_
      obtain ⟨b_10, e_11, k_12, h⟩ := h
      refine r_ref [] e_11 ?_
      refine r_iload C dX7_goesThrough_28 (pc' := 30) rfl (j := 4) rfl ?_
      refine r_lconst C dX7_goesThrough_30 (pc' := 31) rfl (v := 0) rfl ?_
      obtain ⟨c_13, h⟩ := h
      obtain ⟨M_14, e_15, h⟩ := bn_ h
      refine r_last C (j := (ix_ x4)) k_12 c_13 rfl dX7_goesThrough_31 (pc' := 32) rfl M_14 e_15 ?_
      obtain ⟨x4_16, e_17, h⟩ := bn_ h
      refine r_iinc C (lv' := [(4, .int x4_16), (0, .ref a0), (1, .int x1), (2, .int x2), (3, .int x3)]) dX7_goesThrough_32 (pc' := 35) rfl (j := 4) rfl x4_16 (by rw [e_17]; rfl) (Nat.le_of_ble_eq_true rfl) rfl ?_
      refine r_goto C dX7_goesThrough_35 (tgt := 16) (by decide) ?_
      refine r_sub (lv' := [(0, .ref a0), (1, .int x1), (2, .int x2), (3, .int x3), (4, .int x4_16)]) [1, 2, 3, 4, 0] rfl ?_
      exact ih M_14 x4_16 (mMo.kd (mo_L e_15) k_a0 (by decide)) h (fun M9 hm9 h9 => hX38 M9 (mMo.tr (mo_L e_15) hm9) h9)
set_option maxHeartbeats 4000000 in
theorem B_X7_goesThrough_109 {E : mE} {a0 : Nat} {x1 : Int32} {x2 : Int32} {x3 : Int32} {x4 : Int32} {X131 : MM → Prop} {Post : Int64 → MM → Prop} (C : mC E yX7_goesThrough cX7_goesThrough 7 ((some .long)) { frames := 6, cells := 0, slots := 0, locals := 134 }) (hE : mEnd E { frames := 6, cells := 0, slots := 0, locals := 134 } (pL_ Post)) : ∀ (n_ : Nat) (M : MM) (x5 : Int32), mkd M a0 = 7 → wl_X7_goesThrough_109 a0 x1 x2 x3 x4 X131 n_ M x5 → (∀ (M' : MM), mMo M M' → X131 M' → mV E M' 0 0 131 [(0, .ref a0), (1, .int x1), (2, .int x2), (3, .int x3), (4, .int x4)] []) → mV E M 0 0 109 [(0, .ref a0), (1, .int x1), (2, .int x2), (3, .int x3), (4, .int x4), (5, .int x5)] [] := by
  intro n_
  induction n_ with
  | zero =>
    intro M x5 k_a0 h hX131
    exact absurd h (by rw [wl_X7_goesThrough_109]; exact fun q => q)
  | succ n_ ih =>
    intro M x5 k_a0 h hX131
    rw [wl_X7_goesThrough_109] at h
    refine r_iload C dX7_goesThrough_109 (pc' := 111) rfl (j := 5) rfl ?_
    refine r_sipush C dX7_goesThrough_111 (pc' := 114) rfl (v := 500) rfl ?_
    refine r_icmp_ge C dX7_goesThrough_114 (pc' := 117) rfl (tgt := 131) (by decide) (fun c_48 => ?_) (fun c_48 => ?_)
    · have h := it_t h c_48
      refine r_sub (lv' := [(0, .ref a0), (1, .int x1), (2, .int x2), (3, .int x3), (4, .int x4)]) [0, 1, 2, 3, 4] rfl ?_
      exact hX131 M mMo.rf h
    · have h := it_f h c_48
      refine r_aload_n C dX7_goesThrough_117 (pc' := 118) rfl (j := 0) rfl ?_
      refine r_getf C (Cn := RX7) (T := TX7) 38 k_a0 (by decide) vc_X7 in_X7 (by decide) q1262 dX7_goesThrough_118 (pc' := 121) rfl (v := va_rf (mgR M a0 38)) rfl ?_
      obtain ⟨b_49, e_50, k_51, h⟩ := h
      refine r_ref [] e_50 ?_
      refine r_iload C dX7_goesThrough_121 (pc' := 123) rfl (j := 5) rfl ?_
      refine r_lconst C dX7_goesThrough_123 (pc' := 124) rfl (v := 0) rfl ?_
      obtain ⟨c_52, h⟩ := h
      obtain ⟨M_53, e_54, h⟩ := bn_ h
      refine r_last C (j := (ix_ x5)) k_51 c_52 rfl dX7_goesThrough_124 (pc' := 125) rfl M_53 e_54 ?_
      obtain ⟨x5_55, e_56, h⟩ := bn_ h
      refine r_iinc C (lv' := [(5, .int x5_55), (0, .ref a0), (1, .int x1), (2, .int x2), (3, .int x3), (4, .int x4)]) dX7_goesThrough_125 (pc' := 128) rfl (j := 5) rfl x5_55 (by rw [e_56]; rfl) (Nat.le_of_ble_eq_true rfl) rfl ?_
      refine r_goto C dX7_goesThrough_128 (tgt := 109) (by decide) ?_
      refine r_sub (lv' := [(0, .ref a0), (1, .int x1), (2, .int x2), (3, .int x3), (4, .int x4), (5, .int x5_55)]) [1, 2, 3, 4, 5, 0] rfl ?_
      exact ih M_53 x5_55 (mMo.kd (mo_L e_54) k_a0 (by decide)) h (fun M9 hm9 h9 => hX131 M9 (mMo.tr (mo_L e_54) hm9) h9)
set_option maxHeartbeats 4000000 in
theorem B_X7_goesThrough_167 {E : mE} {a0 : Nat} {x1 : Int32} {x2 : Int32} {x3 : Int32} {x4 : Int32} {x5 : Int32} {X213 : MM → Prop} {Post : Int64 → MM → Prop} (C : mC E yX7_goesThrough cX7_goesThrough 7 ((some .long)) { frames := 6, cells := 0, slots := 0, locals := 134 }) (hE : mEnd E { frames := 6, cells := 0, slots := 0, locals := 134 } (pL_ Post)) : ∀ (n_ : Nat) (M : MM) (x6 : Int32), mkd M a0 = 7 → wl_X7_goesThrough_167 a0 x1 x2 x3 x4 x5 X213 n_ M x6 → (∀ (M' : MM), mMo M M' → X213 M' → mV E M' 0 0 213 [(0, .ref a0), (1, .int x1), (2, .int x2), (3, .int x3), (4, .int x4), (5, .int x5)] []) → mV E M 0 0 167 [(0, .ref a0), (1, .int x1), (2, .int x2), (3, .int x3), (4, .int x4), (5, .int x5), (6, .int x6)] [] := by
  intro n_
  induction n_ with
  | zero =>
    intro M x6 k_a0 h hX213
    exact absurd h (by rw [wl_X7_goesThrough_167]; exact fun q => q)
  | succ n_ ih =>
    intro M x6 k_a0 h hX213
    rw [wl_X7_goesThrough_167] at h
    refine r_iload C dX7_goesThrough_167 (pc' := 169) rfl (j := 6) rfl ?_
    refine r_bipush C dX7_goesThrough_169 (pc' := 171) rfl (v := 24) rfl ?_
    refine r_icmp_gt C dX7_goesThrough_171 (pc' := 174) rfl (tgt := 213) (by decide) (fun c_69 => ?_) (fun c_69 => ?_)
    · have h := it_t h c_69
      refine r_sub (lv' := [(0, .ref a0), (1, .int x1), (2, .int x2), (3, .int x3), (4, .int x4), (5, .int x5)]) [0, 1, 2, 3, 4, 5] rfl ?_
      exact hX213 M mMo.rf h
    · have h := it_f h c_69
      refine r_aload_n C dX7_goesThrough_174 (pc' := 175) rfl (j := 0) rfl ?_
      refine r_getf C (Cn := RX7) (T := TX7) 40 k_a0 (by decide) vc_X7 in_X7 (by decide) q1264 dX7_goesThrough_175 (pc' := 178) rfl (v := va_rf (mgR M a0 40)) rfl ?_
      obtain ⟨b_70, e_71, k_72, h⟩ := h
      refine r_ref [] e_71 ?_
      refine r_iload C dX7_goesThrough_178 (pc' := 180) rfl (j := 6) rfl ?_
      obtain ⟨c_73, h⟩ := h
      refine r_lald C (j := (ix_ x6)) k_72 c_73 rfl dX7_goesThrough_180 (pc' := 181) rfl ?_
      refine r_lconst C dX7_goesThrough_181 (pc' := 182) rfl (v := 0) rfl ?_
      refine r_lc_ne C dX7_goesThrough_182 (pc1 := 183) (pc' := 186) rfl dX7_goesThrough_183 rfl (tgt := 189) (by decide) (fun c_74 => ?_) (fun c_74 => ?_)
      · have h := it_f h c_74
        refine r_aload_n C dX7_goesThrough_189 (pc' := 190) rfl (j := 0) rfl ?_
        refine r_iload C dX7_goesThrough_190 (pc' := 192) rfl (j := 5) rfl ?_
        refine r_iload C dX7_goesThrough_192 (pc' := 194) rfl (j := 6) rfl ?_
        refine r_iconst C dX7_goesThrough_194 (pc' := 195) rfl (v := 1) rfl ?_
        refine r_callVv (As := [.int x5, .int x6, .int (1 : Int32)]) (rest := []) (Cn := RX7) (T := TX7) C k_a0 (by decide) vc_X7 (S_X7_sunBy k_a0 h) (lw_V q1637 q1639 qs90 q112 q1640) rfl hd_X7_sunBy rfl rfl (Nat.le_of_ble_eq_true rfl) (Nat.le_of_ble_eq_true rfl) (Nat.le_of_ble_eq_true rfl) rfl rfl (Nat.le_of_ble_eq_true rfl) (Nat.le_of_ble_eq_true rfl) dX7_goesThrough_195 (pc' := 198) rfl (fun M_75 h m_77 => ?_)
        refine r_aload_n C dX7_goesThrough_198 (pc' := 199) rfl (j := 0) rfl ?_
        refine r_iload C dX7_goesThrough_199 (pc' := 201) rfl (j := 5) rfl ?_
        refine r_iload C dX7_goesThrough_201 (pc' := 203) rfl (j := 6) rfl ?_
        refine r_iconst C dX7_goesThrough_203 (pc' := 204) rfl (v := 0) rfl ?_
        refine r_callVv (As := [.int x5, .int x6, .int (0 : Int32)]) (rest := []) (Cn := RX7) (T := TX7) C (mMo.kd m_77 k_a0 (by decide)) (by decide) vc_X7 (S_X7_sunBy (mMo.kd m_77 k_a0 (by decide)) h) (lw_V q1637 q1639 qs90 q112 q1640) rfl hd_X7_sunBy rfl rfl (Nat.le_of_ble_eq_true rfl) (Nat.le_of_ble_eq_true rfl) (Nat.le_of_ble_eq_true rfl) rfl rfl (Nat.le_of_ble_eq_true rfl) (Nat.le_of_ble_eq_true rfl) dX7_goesThrough_204 (pc' := 207) rfl (fun M_78 h m_80 => ?_)
        obtain ⟨x6_81, e_82, h⟩ := bn_ h
        refine r_iinc C (lv' := [(6, .int x6_81), (0, .ref a0), (1, .int x1), (2, .int x2), (3, .int x3), (4, .int x4), (5, .int x5)]) dX7_goesThrough_207 (pc' := 210) rfl (j := 6) rfl x6_81 (by rw [e_82]; rfl) (Nat.le_of_ble_eq_true rfl) rfl ?_
        refine r_goto C dX7_goesThrough_210 (tgt := 167) (by decide) ?_
        refine r_sub (lv' := [(0, .ref a0), (1, .int x1), (2, .int x2), (3, .int x3), (4, .int x4), (5, .int x5), (6, .int x6_81)]) [1, 2, 3, 4, 5, 6, 0] rfl ?_
        exact ih M_78 x6_81 (mMo.kd m_80 (mMo.kd m_77 k_a0 (by decide)) (by decide)) h (fun M9 hm9 h9 => hX213 M9 (mMo.tr (mMo.tr m_77 m_80) hm9) h9)
      · have h := it_t h c_74
        refine r_goto C dX7_goesThrough_186 (tgt := 207) (by decide) ?_
        obtain ⟨x6_83, e_84, h⟩ := bn_ h
        refine r_iinc C (lv' := [(6, .int x6_83), (0, .ref a0), (1, .int x1), (2, .int x2), (3, .int x3), (4, .int x4), (5, .int x5)]) dX7_goesThrough_207 (pc' := 210) rfl (j := 6) rfl x6_83 (by rw [e_84]; rfl) (Nat.le_of_ble_eq_true rfl) rfl ?_
        refine r_goto C dX7_goesThrough_210 (tgt := 167) (by decide) ?_
        refine r_sub (lv' := [(0, .ref a0), (1, .int x1), (2, .int x2), (3, .int x3), (4, .int x4), (5, .int x5), (6, .int x6_83)]) [1, 2, 3, 4, 5, 6, 0] rfl ?_
        exact ih M x6_83 k_a0 h (fun M9 hm9 h9 => hX213 M9 hm9 h9)
set_option maxHeartbeats 4000000 in
theorem B_X7_goesThrough_134 {E : mE} {a0 : Nat} {x1 : Int32} {x2 : Int32} {x3 : Int32} {x4 : Int32} {X219 : MM → Prop} {Post : Int64 → MM → Prop} (C : mC E yX7_goesThrough cX7_goesThrough 7 ((some .long)) { frames := 6, cells := 0, slots := 0, locals := 134 }) (hE : mEnd E { frames := 6, cells := 0, slots := 0, locals := 134 } (pL_ Post)) : ∀ (n_ : Nat) (M : MM) (x5 : Int32), mkd M a0 = 7 → wl_X7_goesThrough_134 a0 x1 x2 x3 x4 X219 n_ M x5 → (∀ (M' : MM), mMo M M' → X219 M' → mV E M' 0 0 219 [(0, .ref a0), (1, .int x1), (2, .int x2), (3, .int x3), (4, .int x4)] []) → mV E M 0 0 134 [(0, .ref a0), (1, .int x1), (2, .int x2), (3, .int x3), (4, .int x4), (5, .int x5)] [] := by
  intro n_
  induction n_ with
  | zero =>
    intro M x5 k_a0 h hX219
    exact absurd h (by rw [wl_X7_goesThrough_134]; exact fun q => q)
  | succ n_ ih =>
    intro M x5 k_a0 h hX219
    rw [wl_X7_goesThrough_134] at h
    refine r_iload C dX7_goesThrough_134 (pc' := 136) rfl (j := 5) rfl ?_
    refine r_sipush C dX7_goesThrough_136 (pc' := 139) rfl (v := 500) rfl ?_
    refine r_icmp_ge C dX7_goesThrough_139 (pc' := 142) rfl (tgt := 219) (by decide) (fun c_60 => ?_) (fun c_60 => ?_)
    · have h := it_t h c_60
      refine r_sub (lv' := [(0, .ref a0), (1, .int x1), (2, .int x2), (3, .int x3), (4, .int x4)]) [0, 1, 2, 3, 4] rfl ?_
      exact hX219 M mMo.rf h
    · have h := it_f h c_60
      refine r_aload_n C dX7_goesThrough_142 (pc' := 143) rfl (j := 0) rfl ?_
      refine r_getf C (Cn := RX7) (T := TX7) 37 k_a0 (by decide) vc_X7 in_X7 (by decide) q1261 dX7_goesThrough_143 (pc' := 146) rfl (v := va_rf (mgR M a0 37)) rfl ?_
      obtain ⟨b_61, e_62, k_63, h⟩ := h
      refine r_ref [] e_62 ?_
      refine r_iload C dX7_goesThrough_146 (pc' := 148) rfl (j := 5) rfl ?_
      obtain ⟨c_64, h⟩ := h
      refine r_lald C (j := (ix_ x5)) k_63 c_64 rfl dX7_goesThrough_148 (pc' := 149) rfl ?_
      refine r_lconst C dX7_goesThrough_149 (pc' := 150) rfl (v := 0) rfl ?_
      refine r_lc_ne C dX7_goesThrough_150 (pc1 := 151) (pc' := 154) rfl dX7_goesThrough_151 rfl (tgt := 157) (by decide) (fun c_65 => ?_) (fun c_65 => ?_)
      · have h := it_f h c_65
        refine r_aload_n C dX7_goesThrough_157 (pc' := 158) rfl (j := 0) rfl ?_
        refine r_iload C dX7_goesThrough_158 (pc' := 160) rfl (j := 5) rfl ?_
        refine r_iload_n C dX7_goesThrough_160 (pc' := 161) rfl (j := 2) rfl ?_
        refine r_callVv (As := [.int x5, .int x2]) (rest := []) (Cn := RX7) (T := TX7) C k_a0 (by decide) vc_X7 (S_X7_comesBy k_a0 h) (lw_V q1619 q1621 qs87 q112 q1622) rfl hd_X7_comesBy rfl rfl (Nat.le_of_ble_eq_true rfl) (Nat.le_of_ble_eq_true rfl) (Nat.le_of_ble_eq_true rfl) rfl rfl (Nat.le_of_ble_eq_true rfl) (Nat.le_of_ble_eq_true rfl) dX7_goesThrough_161 (pc' := 164) rfl (fun M_66 h m_68 => ?_)
        refine r_iconst C dX7_goesThrough_164 (pc' := 165) rfl (v := 0) rfl ?_
        refine r_istore C (lv' := [(6, .int (0 : Int32)), (0, .ref a0), (1, .int x1), (2, .int x2), (3, .int x3), (4, .int x4), (5, .int x5)]) dX7_goesThrough_165 (pc' := 167) rfl (0 : Int32) rfl (Nat.le_of_ble_eq_true rfl) rfl ?_
        obtain ⟨n_85, h⟩ := h
        refine r_sub (lv' := [(0, .ref a0), (1, .int x1), (2, .int x2), (3, .int x3), (4, .int x4), (5, .int x5), (6, .int (0 : Int32))]) [1, 2, 3, 4, 5, 6, 0] rfl ?_
        refine B_X7_goesThrough_167 C hE n_85 M_66 (0 : Int32) (mMo.kd m_68 k_a0 (by decide)) h (fun M_86 m_87 h => ?_)
        obtain ⟨x5_88, e_89, h⟩ := bn_ h
        refine r_iinc C (lv' := [(5, .int x5_88), (0, .ref a0), (1, .int x1), (2, .int x2), (3, .int x3), (4, .int x4)]) dX7_goesThrough_213 (pc' := 216) rfl (j := 5) rfl x5_88 (by rw [e_89]; rfl) (Nat.le_of_ble_eq_true rfl) rfl ?_
        refine r_goto C dX7_goesThrough_216 (tgt := 134) (by decide) ?_
        refine r_sub (lv' := [(0, .ref a0), (1, .int x1), (2, .int x2), (3, .int x3), (4, .int x4), (5, .int x5_88)]) [1, 2, 3, 4, 5, 0] rfl ?_
        exact ih M_86 x5_88 (mMo.kd m_87 (mMo.kd m_68 k_a0 (by decide)) (by decide)) h (fun M9 hm9 h9 => hX219 M9 (mMo.tr (mMo.tr m_68 m_87) hm9) h9)
      · have h := it_t h c_65
        refine r_goto C dX7_goesThrough_154 (tgt := 213) (by decide) ?_
        obtain ⟨x5_90, e_91, h⟩ := bn_ h
        refine r_iinc C (lv' := [(5, .int x5_90), (0, .ref a0), (1, .int x1), (2, .int x2), (3, .int x3), (4, .int x4)]) dX7_goesThrough_213 (pc' := 216) rfl (j := 5) rfl x5_90 (by rw [e_91]; rfl) (Nat.le_of_ble_eq_true rfl) rfl ?_
        refine r_goto C dX7_goesThrough_216 (tgt := 134) (by decide) ?_
        refine r_sub (lv' := [(0, .ref a0), (1, .int x1), (2, .int x2), (3, .int x3), (4, .int x4), (5, .int x5_90)]) [1, 2, 3, 4, 5, 0] rfl ?_
        exact ih M x5_90 k_a0 h (fun M9 hm9 h9 => hX219 M9 hm9 h9)
set_option maxHeartbeats 4000000 in
theorem B_X7_goesThrough_222 {E : mE} {a0 : Nat} {x1 : Int32} {x2 : Int32} {x3 : Int32} {x4 : Int32} {X250 : MM → Prop} {Post : Int64 → MM → Prop} (C : mC E yX7_goesThrough cX7_goesThrough 7 ((some .long)) { frames := 6, cells := 0, slots := 0, locals := 134 }) (hE : mEnd E { frames := 6, cells := 0, slots := 0, locals := 134 } (pL_ Post)) : ∀ (n_ : Nat) (M : MM) (x5 : Int32), mkd M a0 = 7 → wl_X7_goesThrough_222 a0 x1 x2 x3 x4 X250 n_ M x5 → (∀ (M' : MM), mMo M M' → X250 M' → mV E M' 0 0 250 [(0, .ref a0), (1, .int x1), (2, .int x2), (3, .int x3), (4, .int x4)] []) → mV E M 0 0 222 [(0, .ref a0), (1, .int x1), (2, .int x2), (3, .int x3), (4, .int x4), (5, .int x5)] [] := by
  intro n_
  induction n_ with
  | zero =>
    intro M x5 k_a0 h hX250
    exact absurd h (by rw [wl_X7_goesThrough_222]; exact fun q => q)
  | succ n_ ih =>
    intro M x5 k_a0 h hX250
    rw [wl_X7_goesThrough_222] at h
    refine r_iload C dX7_goesThrough_222 (pc' := 224) rfl (j := 5) rfl ?_
    refine r_sipush C dX7_goesThrough_224 (pc' := 227) rfl (v := 500) rfl ?_
    refine r_icmp_ge C dX7_goesThrough_227 (pc' := 230) rfl (tgt := 250) (by decide) (fun c_95 => ?_) (fun c_95 => ?_)
    · have h := it_t h c_95
      refine r_sub (lv' := [(0, .ref a0), (1, .int x1), (2, .int x2), (3, .int x3), (4, .int x4)]) [0, 1, 2, 3, 4] rfl ?_
      exact hX250 M mMo.rf h
    · have h := it_f h c_95
      refine r_aload_n C dX7_goesThrough_230 (pc' := 231) rfl (j := 0) rfl ?_
      refine r_getf C (Cn := RX7) (T := TX7) 37 k_a0 (by decide) vc_X7 in_X7 (by decide) q1261 dX7_goesThrough_231 (pc' := 234) rfl (v := va_rf (mgR M a0 37)) rfl ?_
      obtain ⟨b_96, e_97, k_98, h⟩ := h
      refine r_ref [] e_97 ?_
      refine r_iload C dX7_goesThrough_234 (pc' := 236) rfl (j := 5) rfl ?_
      refine r_aload_n C dX7_goesThrough_236 (pc' := 237) rfl (j := 0) rfl ?_
      refine r_getf C (Cn := RX7) (T := TX7) 38 k_a0 (by decide) vc_X7 in_X7 (by decide) q1262 dX7_goesThrough_237 (pc' := 240) rfl (v := va_rf (mgR M a0 38)) rfl ?_
      obtain ⟨b_99, e_100, k_101, h⟩ := h
      refine r_ref [] e_100 ?_
      refine r_iload C dX7_goesThrough_240 (pc' := 242) rfl (j := 5) rfl ?_
      obtain ⟨c_102, h⟩ := h
      refine r_lald C (j := (ix_ x5)) k_101 c_102 rfl dX7_goesThrough_242 (pc' := 243) rfl ?_
      obtain ⟨c_103, h⟩ := h
      obtain ⟨M_104, e_105, h⟩ := bn_ h
      refine r_last C (j := (ix_ x5)) k_98 c_103 rfl dX7_goesThrough_243 (pc' := 244) rfl M_104 e_105 ?_
      obtain ⟨x5_106, e_107, h⟩ := bn_ h
      refine r_iinc C (lv' := [(5, .int x5_106), (0, .ref a0), (1, .int x1), (2, .int x2), (3, .int x3), (4, .int x4)]) dX7_goesThrough_244 (pc' := 247) rfl (j := 5) rfl x5_106 (by rw [e_107]; rfl) (Nat.le_of_ble_eq_true rfl) rfl ?_
      refine r_goto C dX7_goesThrough_247 (tgt := 222) (by decide) ?_
      refine r_sub (lv' := [(0, .ref a0), (1, .int x1), (2, .int x2), (3, .int x3), (4, .int x4), (5, .int x5_106)]) [1, 2, 3, 4, 5, 0] rfl ?_
      exact ih M_104 x5_106 (mMo.kd (mo_L e_105) k_a0 (by decide)) h (fun M9 hm9 h9 => hX250 M9 (mMo.tr (mo_L e_105) hm9) h9)
set_option maxHeartbeats 4000000 in
theorem B_X7_goesThrough_85 {E : mE} {a0 : Nat} {x1 : Int32} {x2 : Int32} {x3 : Int32} {X272 : MM → Prop} {Post : Int64 → MM → Prop} (C : mC E yX7_goesThrough cX7_goesThrough 7 ((some .long)) { frames := 6, cells := 0, slots := 0, locals := 134 }) (hE : mEnd E { frames := 6, cells := 0, slots := 0, locals := 134 } (pL_ Post)) : ∀ (n_ : Nat) (M : MM) (x4 : Int32), mkd M a0 = 7 → wl_X7_goesThrough_85 a0 x1 x2 x3 X272 n_ M x4 → (∀ (M' : MM), mMo M M' → X272 M' → mV E M' 0 0 272 [(0, .ref a0), (1, .int x1), (2, .int x2), (3, .int x3)] []) → mV E M 0 0 85 [(0, .ref a0), (1, .int x1), (2, .int x2), (3, .int x3), (4, .int x4)] [] := by
  intro n_
  induction n_ with
  | zero =>
    intro M x4 k_a0 h hX272
    exact absurd h (by rw [wl_X7_goesThrough_85]; exact fun q => q)
  | succ n_ ih =>
    intro M x4 k_a0 h hX272
    rw [wl_X7_goesThrough_85] at h
    refine r_iload C dX7_goesThrough_85 (pc' := 87) rfl (j := 4) rfl ?_
    refine r_iload_n C dX7_goesThrough_87 (pc' := 88) rfl (j := 1) rfl ?_
    refine r_icmp_ge C dX7_goesThrough_88 (pc' := 91) rfl (tgt := 272) (by decide) (fun c_42 => ?_) (fun c_42 => ?_)
    · have h := it_t h c_42
      refine r_sub (lv' := [(0, .ref a0), (1, .int x1), (2, .int x2), (3, .int x3)]) [0, 1, 2, 3] rfl ?_
      exact hX272 M mMo.rf h
    · have h := it_f h c_42
      refine r_aload_n C dX7_goesThrough_91 (pc' := 92) rfl (j := 0) rfl ?_
      refine r_aload_n C dX7_goesThrough_92 (pc' := 93) rfl (j := 0) rfl ?_
      refine r_getf C (Cn := RX7) (T := TX7) 39 k_a0 (by decide) vc_X7 in_X7 (by decide) q1263 dX7_goesThrough_93 (pc' := 96) rfl (v := .long (mgL M a0 39)) rfl ?_
      refine r_iload_n C dX7_goesThrough_96 (pc' := 97) rfl (j := 2) rfl ?_
      refine r_iconst C dX7_goesThrough_97 (pc' := 98) rfl (v := 1) rfl ?_
      refine r_iadd C dX7_goesThrough_98 (pc' := 99) rfl ?_
      refine r_callSl (As := [.int (x2 + (1 : Int32))]) (rest := [.long (mgL M a0 39), .ref a0]) C (S_X7_tens h) (lw_S q1615 q1616 q112 q1617) hd_X7_tens rfl rfl (Nat.le_of_ble_eq_true rfl) (Nat.le_of_ble_eq_true rfl) (Nat.le_of_ble_eq_true rfl) rfl rfl (Nat.le_of_ble_eq_true rfl) (Nat.le_of_ble_eq_true rfl) dX7_goesThrough_99 (pc' := 102) rfl (fun r_44 M_43 h m_45 => ?_)
      refine r_lmul C dX7_goesThrough_102 (pc' := 103) rfl ?_
      obtain ⟨M_46, e_47, h⟩ := bn_ h
      refine r_putL C (Cn := RX7) (T := TX7) tyX7 39 (mMo.kd m_45 k_a0 (by decide)) (by decide) vc_X7 in_X7 tyX7_ok nmX7 (by decide) q1263 rfl rfl dX7_goesThrough_103 (pc' := 106) rfl rfl rfl M_46 e_47 ?_
      refine r_iconst C dX7_goesThrough_106 (pc' := 107) rfl (v := 0) rfl ?_
      refine r_istore C (lv' := [(5, .int (0 : Int32)), (0, .ref a0), (1, .int x1), (2, .int x2), (3, .int x3), (4, .int x4)]) dX7_goesThrough_107 (pc' := 109) rfl (0 : Int32) rfl (Nat.le_of_ble_eq_true rfl) rfl ?_
      obtain ⟨n_57, h⟩ := h
      refine r_sub (lv' := [(0, .ref a0), (1, .int x1), (2, .int x2), (3, .int x3), (4, .int x4), (5, .int (0 : Int32))]) [1, 2, 3, 4, 5, 0] rfl ?_
      refine B_X7_goesThrough_109 C hE n_57 M_46 (0 : Int32) (mMo.kd (mo_L e_47) (mMo.kd m_45 k_a0 (by decide)) (by decide)) h (fun M_58 m_59 h => ?_)
      refine r_iconst C dX7_goesThrough_131 (pc' := 132) rfl (v := 0) rfl ?_
      refine r_istore C (lv' := [(5, .int (0 : Int32)), (0, .ref a0), (1, .int x1), (2, .int x2), (3, .int x3), (4, .int x4)]) dX7_goesThrough_132 (pc' := 134) rfl (0 : Int32) rfl (Nat.le_of_ble_eq_true rfl) rfl ?_
      obtain ⟨n_92, h⟩ := h
      refine r_sub (lv' := [(0, .ref a0), (1, .int x1), (2, .int x2), (3, .int x3), (4, .int x4), (5, .int (0 : Int32))]) [1, 2, 3, 4, 5, 0] rfl ?_
      refine B_X7_goesThrough_134 C hE n_92 M_58 (0 : Int32) (mMo.kd m_59 (mMo.kd (mo_L e_47) (mMo.kd m_45 k_a0 (by decide)) (by decide)) (by decide)) h (fun M_93 m_94 h => ?_)
      refine r_iconst C dX7_goesThrough_219 (pc' := 220) rfl (v := 0) rfl ?_
      refine r_istore C (lv' := [(5, .int (0 : Int32)), (0, .ref a0), (1, .int x1), (2, .int x2), (3, .int x3), (4, .int x4)]) dX7_goesThrough_220 (pc' := 222) rfl (0 : Int32) rfl (Nat.le_of_ble_eq_true rfl) rfl ?_
      obtain ⟨n_108, h⟩ := h
      refine r_sub (lv' := [(0, .ref a0), (1, .int x1), (2, .int x2), (3, .int x3), (4, .int x4), (5, .int (0 : Int32))]) [1, 2, 3, 4, 5, 0] rfl ?_
      refine B_X7_goesThrough_222 C hE n_108 M_93 (0 : Int32) (mMo.kd m_94 (mMo.kd m_59 (mMo.kd (mo_L e_47) (mMo.kd m_45 k_a0 (by decide)) (by decide)) (by decide)) (by decide)) h (fun M_109 m_110 h => ?_)
      refine r_aload_n C dX7_goesThrough_250 (pc' := 251) rfl (j := 0) rfl ?_
      refine r_getf C (Cn := RX7) (T := TX7) 0 (mMo.kd m_110 (mMo.kd m_94 (mMo.kd m_59 (mMo.kd (mo_L e_47) (mMo.kd m_45 k_a0 (by decide)) (by decide)) (by decide)) (by decide)) (by decide)) (by decide) vc_X7 in_X7 (by decide) q1224 dX7_goesThrough_251 (pc' := 254) rfl (v := va_rf (mgR M_109 a0 0)) rfl ?_
      obtain ⟨b_111, e_112, k_113, h⟩ := h
      refine r_ref [] e_112 ?_
      refine r_bipush C dX7_goesThrough_254 (pc' := 256) rfl (v := 79) rfl ?_
      refine r_aload_n C dX7_goesThrough_256 (pc' := 257) rfl (j := 0) rfl ?_
      refine r_getf C (Cn := RX7) (T := TX7) 0 (mMo.kd m_110 (mMo.kd m_94 (mMo.kd m_59 (mMo.kd (mo_L e_47) (mMo.kd m_45 k_a0 (by decide)) (by decide)) (by decide)) (by decide)) (by decide)) (by decide) vc_X7 in_X7 (by decide) q1224 dX7_goesThrough_257 (pc' := 260) rfl (v := va_rf (mgR M_109 a0 0)) rfl ?_
      obtain ⟨b_114, e_115, k_116, h⟩ := h
      refine r_ref [] e_115 ?_
      refine r_bipush C dX7_goesThrough_260 (pc' := 262) rfl (v := 79) rfl ?_
      obtain ⟨c_117, h⟩ := h
      refine r_iald C (j := 79) k_116 (vp_l (by decide) (by decide) c_117) (by decide) dX7_goesThrough_262 (pc' := 263) rfl ?_
      refine r_iconst C dX7_goesThrough_263 (pc' := 264) rfl (v := 1) rfl ?_
      refine r_iadd C dX7_goesThrough_264 (pc' := 265) rfl ?_
      obtain ⟨c_118, h⟩ := h
      obtain ⟨M_119, e_120, h⟩ := bn_ h
      refine r_iast C (j := 79) k_113 (vp_l (by decide) (by decide) c_118) (by decide) dX7_goesThrough_265 (pc' := 266) rfl M_119 e_120 ?_
      obtain ⟨x4_121, e_122, h⟩ := bn_ h
      refine r_iinc C (lv' := [(4, .int x4_121), (0, .ref a0), (1, .int x1), (2, .int x2), (3, .int x3)]) dX7_goesThrough_266 (pc' := 269) rfl (j := 4) rfl x4_121 (by rw [e_122]; rfl) (Nat.le_of_ble_eq_true rfl) rfl ?_
      refine r_goto C dX7_goesThrough_269 (tgt := 85) (by decide) ?_
      refine r_sub (lv' := [(0, .ref a0), (1, .int x1), (2, .int x2), (3, .int x3), (4, .int x4_121)]) [1, 2, 3, 4, 0] rfl ?_
      exact ih M_119 x4_121 (mMo.kd (mo_I e_120) (mMo.kd m_110 (mMo.kd m_94 (mMo.kd m_59 (mMo.kd (mo_L e_47) (mMo.kd m_45 k_a0 (by decide)) (by decide)) (by decide)) (by decide)) (by decide)) (by decide)) h (fun M9 hm9 h9 => hX272 M9 (mMo.tr (mMo.tr (mMo.tr (mMo.tr (mMo.tr (mMo.tr m_45 (mo_L e_47)) m_59) m_94) m_110) (mo_I e_120)) hm9) h9)
set_option maxHeartbeats 4000000 in
theorem S_X7_goesThrough {D : DD} {l : Launch} {M : MM} {a0 : Nat} {x1 : Int32} {x2 : Int32} {Post : Int64 → MM → Prop} (k_a0 : mkd M a0 = 7) (h : wp_X7_goesThrough M a0 x1 x2 Post) : mMet D l yX7_goesThrough cX7_goesThrough 7 ((some .long)) { frames := 6, cells := 0, slots := 0, locals := 134 } M [.ref a0, .int x1, .int x2] (pL_ Post) := by
  refine m_of2 [(0, .ref a0), (1, .int x1), (2, .int x2)] (by decide +kernel) (Nat.le_of_ble_eq_true rfl) rfl (fun E hED hEl C hE => ?_)
  subst hED
  subst hEl
  unfold wp_X7_goesThrough at h
  refine r_aload_n C dX7_goesThrough_0 (pc' := 1) rfl (j := 0) rfl ?_
  refine r_getf C (Cn := RX7) (T := TX7) 0 k_a0 (by decide) vc_X7 in_X7 (by decide) q1224 dX7_goesThrough_1 (pc' := 4) rfl (v := va_rf (mgR M a0 0)) rfl ?_
  obtain ⟨b_1, e_2, k_3, h⟩ := h
  refine r_ref [] e_2 ?_
  refine r_bipush C dX7_goesThrough_4 (pc' := 6) rfl (v := 79) rfl ?_
  obtain ⟨c_4, h⟩ := h
  refine r_iald C (j := 79) k_3 (vp_l (by decide) (by decide) c_4) (by decide) dX7_goesThrough_6 (pc' := 7) rfl ?_
  obtain ⟨x3_5, e_6, h⟩ := bn_ h
  refine r_istore_n C (lv' := [(3, .int x3_5), (0, .ref a0), (1, .int x1), (2, .int x2)]) dX7_goesThrough_7 (pc' := 8) rfl rfl x3_5 e_6 (Nat.le_of_ble_eq_true rfl) rfl ?_
  refine r_aload_n C dX7_goesThrough_8 (pc' := 9) rfl (j := 1) rfl ?_
  refine r_lconst C dX7_goesThrough_9 (pc' := 10) rfl (v := 0) rfl ?_
  obtain ⟨M_7, e_8, h⟩ := bn_ h
  refine r_putL C (Cn := RX7) (T := TX7) tyX7 39 k_a0 (by decide) vc_X7 in_X7 tyX7_ok nmX7 (by decide) q1263 rfl rfl dX7_goesThrough_10 (pc' := 13) rfl rfl rfl M_7 e_8 ?_
  refine r_iconst C dX7_goesThrough_13 (pc' := 14) rfl (v := 0) rfl ?_
  refine r_istore C (lv' := [(4, .int (0 : Int32)), (3, .int x3_5), (0, .ref a0), (1, .int x1), (2, .int x2)]) dX7_goesThrough_14 (pc' := 16) rfl (0 : Int32) rfl (Nat.le_of_ble_eq_true rfl) rfl ?_
  obtain ⟨n_18, h⟩ := h
  refine r_sub (lv' := [(0, .ref a0), (1, .int x1), (2, .int x2), (3, .int x3_5), (4, .int (0 : Int32))]) [2, 3, 4, 1, 0] rfl ?_
  refine B_X7_goesThrough_16 C hE n_18 M_7 (0 : Int32) (mMo.kd (mo_L e_8) k_a0 (by decide)) h (fun M_19 m_20 h => ?_)
  refine r_aload_n C dX7_goesThrough_38 (pc' := 39) rfl (j := 0) rfl ?_
  refine r_getf C (Cn := RX7) (T := TX7) 37 (mMo.kd m_20 (mMo.kd (mo_L e_8) k_a0 (by decide)) (by decide)) (by decide) vc_X7 in_X7 (by decide) q1261 dX7_goesThrough_39 (pc' := 42) rfl (v := va_rf (mgR M_19 a0 37)) rfl ?_
  obtain ⟨b_21, e_22, k_23, h⟩ := h
  refine r_ref [] e_22 ?_
  refine r_aload_n C dX7_goesThrough_42 (pc' := 43) rfl (j := 0) rfl ?_
  refine r_getf C (Cn := RX7) (T := TX7) 0 (mMo.kd m_20 (mMo.kd (mo_L e_8) k_a0 (by decide)) (by decide)) (by decide) vc_X7 in_X7 (by decide) q1224 dX7_goesThrough_43 (pc' := 46) rfl (v := va_rf (mgR M_19 a0 0)) rfl ?_
  obtain ⟨b_24, e_25, k_26, h⟩ := h
  refine r_ref [] e_25 ?_
  refine r_iconst C dX7_goesThrough_46 (pc' := 47) rfl (v := 4) rfl ?_
  refine r_aload_n C dX7_goesThrough_47 (pc' := 48) rfl (j := 0) rfl ?_
  refine r_getf C (Cn := RX7) (T := TX7) 33 (mMo.kd m_20 (mMo.kd (mo_L e_8) k_a0 (by decide)) (by decide)) (by decide) vc_X7 in_X7 (by decide) q1257 dX7_goesThrough_48 (pc' := 51) rfl (v := .int (mgI M_19 a0 33)) rfl ?_
  refine r_iadd C dX7_goesThrough_51 (pc' := 52) rfl ?_
  obtain ⟨c_27, h⟩ := h
  refine r_iald C (j := (ix_ ((4 : Int32) + (mgI M_19 a0 33)))) k_26 c_27 rfl dX7_goesThrough_52 (pc' := 53) rfl ?_
  refine r_aload_n C dX7_goesThrough_53 (pc' := 54) rfl (j := 0) rfl ?_
  refine r_getf C (Cn := RX7) (T := TX7) 0 (mMo.kd m_20 (mMo.kd (mo_L e_8) k_a0 (by decide)) (by decide)) (by decide) vc_X7 in_X7 (by decide) q1224 dX7_goesThrough_54 (pc' := 57) rfl (v := va_rf (mgR M_19 a0 0)) rfl ?_
  obtain ⟨b_28, e_29, k_30, h⟩ := h
  refine r_ref [] e_29 ?_
  refine r_bipush C dX7_goesThrough_57 (pc' := 59) rfl (v := 12) rfl ?_
  refine r_aload_n C dX7_goesThrough_59 (pc' := 60) rfl (j := 0) rfl ?_
  refine r_getf C (Cn := RX7) (T := TX7) 33 (mMo.kd m_20 (mMo.kd (mo_L e_8) k_a0 (by decide)) (by decide)) (by decide) vc_X7 in_X7 (by decide) q1257 dX7_goesThrough_60 (pc' := 63) rfl (v := .int (mgI M_19 a0 33)) rfl ?_
  refine r_iadd C dX7_goesThrough_63 (pc' := 64) rfl ?_
  obtain ⟨c_31, h⟩ := h
  refine r_iald C (j := (ix_ ((12 : Int32) + (mgI M_19 a0 33)))) k_30 c_31 rfl dX7_goesThrough_64 (pc' := 65) rfl ?_
  refine r_aload_n C dX7_goesThrough_65 (pc' := 66) rfl (j := 0) rfl ?_
  refine r_getf C (Cn := RX7) (T := TX7) 0 (mMo.kd m_20 (mMo.kd (mo_L e_8) k_a0 (by decide)) (by decide)) (by decide) vc_X7 in_X7 (by decide) q1224 dX7_goesThrough_66 (pc' := 69) rfl (v := va_rf (mgR M_19 a0 0)) rfl ?_
  obtain ⟨b_32, e_33, k_34, h⟩ := h
  refine r_ref [] e_33 ?_
  refine r_bipush C dX7_goesThrough_69 (pc' := 71) rfl (v := 16) rfl ?_
  refine r_aload_n C dX7_goesThrough_71 (pc' := 72) rfl (j := 0) rfl ?_
  refine r_getf C (Cn := RX7) (T := TX7) 33 (mMo.kd m_20 (mMo.kd (mo_L e_8) k_a0 (by decide)) (by decide)) (by decide) vc_X7 in_X7 (by decide) q1257 dX7_goesThrough_72 (pc' := 75) rfl (v := .int (mgI M_19 a0 33)) rfl ?_
  refine r_iadd C dX7_goesThrough_75 (pc' := 76) rfl ?_
  obtain ⟨c_35, h⟩ := h
  refine r_iald C (j := (ix_ ((16 : Int32) + (mgI M_19 a0 33)))) k_34 c_35 rfl dX7_goesThrough_76 (pc' := 77) rfl ?_
  refine r_callSi (As := [.int (mgI M_19 b_24 (ix_ ((4 : Int32) + (mgI M_19 a0 33)))), .int (mgI M_19 b_28 (ix_ ((12 : Int32) + (mgI M_19 a0 33)))), .int (mgI M_19 b_32 (ix_ ((16 : Int32) + (mgI M_19 a0 33))))]) (rest := [.ref b_21]) C (S_X7_stateOf h) (lw_S q1612 q1613 q112 q1614) hd_X7_stateOf rfl rfl (Nat.le_of_ble_eq_true rfl) (Nat.le_of_ble_eq_true rfl) (Nat.le_of_ble_eq_true rfl) rfl rfl (Nat.le_of_ble_eq_true rfl) (Nat.le_of_ble_eq_true rfl) dX7_goesThrough_77 (pc' := 80) rfl (fun r_37 M_36 h m_38 => ?_)
  refine r_lconst C dX7_goesThrough_80 (pc' := 81) rfl (v := 1) rfl ?_
  obtain ⟨c_39, h⟩ := h
  obtain ⟨M_40, e_41, h⟩ := bn_ h
  refine r_last C (j := (ix_ r_37)) (mMo.kd m_38 k_23 (by decide)) c_39 rfl dX7_goesThrough_81 (pc' := 82) rfl M_40 e_41 ?_
  refine r_iconst C dX7_goesThrough_82 (pc' := 83) rfl (v := 0) rfl ?_
  refine r_istore C (lv' := [(4, .int (0 : Int32)), (0, .ref a0), (1, .int x1), (2, .int x2), (3, .int x3_5)]) dX7_goesThrough_83 (pc' := 85) rfl (0 : Int32) rfl (Nat.le_of_ble_eq_true rfl) rfl ?_
  obtain ⟨n_123, h⟩ := h
  refine r_sub (lv' := [(0, .ref a0), (1, .int x1), (2, .int x2), (3, .int x3_5), (4, .int (0 : Int32))]) [1, 2, 3, 4, 0] rfl ?_
  refine B_X7_goesThrough_85 C hE n_123 M_40 (0 : Int32) (mMo.kd (mo_L e_41) (mMo.kd m_38 (mMo.kd m_20 (mMo.kd (mo_L e_8) k_a0 (by decide)) (by decide)) (by decide)) (by decide)) h (fun M_124 m_125 h => ?_)
  refine r_aload_n C dX7_goesThrough_272 (pc' := 273) rfl (j := 0) rfl ?_
  refine r_getf C (Cn := RX7) (T := TX7) 0 (mMo.kd m_125 (mMo.kd (mo_L e_41) (mMo.kd m_38 (mMo.kd m_20 (mMo.kd (mo_L e_8) k_a0 (by decide)) (by decide)) (by decide)) (by decide)) (by decide)) (by decide) vc_X7 in_X7 (by decide) q1224 dX7_goesThrough_273 (pc' := 276) rfl (v := va_rf (mgR M_124 a0 0)) rfl ?_
  obtain ⟨b_126, e_127, k_128, h⟩ := h
  refine r_ref [] e_127 ?_
  refine r_bipush C dX7_goesThrough_276 (pc' := 278) rfl (v := 79) rfl ?_
  refine r_iload_n C dX7_goesThrough_278 (pc' := 279) rfl (j := 3) rfl ?_
  obtain ⟨c_129, h⟩ := h
  obtain ⟨M_130, e_131, h⟩ := bn_ h
  refine r_iast C (j := 79) k_128 (vp_l (by decide) (by decide) c_129) (by decide) dX7_goesThrough_279 (pc' := 280) rfl M_130 e_131 ?_
  refine r_iload_n C dX7_goesThrough_280 (pc' := 281) rfl (j := 1) rfl ?_
  refine r_iload_n C dX7_goesThrough_281 (pc' := 282) rfl (j := 2) rfl ?_
  refine r_iconst C dX7_goesThrough_282 (pc' := 283) rfl (v := 1) rfl ?_
  refine r_iadd C dX7_goesThrough_283 (pc' := 284) rfl ?_
  refine r_imul C dX7_goesThrough_284 (pc' := 285) rfl ?_
  refine r_callSl (As := [.int (x1 * (x2 + (1 : Int32)))]) (rest := []) C (S_X7_tens h) (lw_S q1615 q1616 q112 q1617) hd_X7_tens rfl rfl (Nat.le_of_ble_eq_true rfl) (Nat.le_of_ble_eq_true rfl) (Nat.le_of_ble_eq_true rfl) rfl rfl (Nat.le_of_ble_eq_true rfl) (Nat.le_of_ble_eq_true rfl) dX7_goesThrough_285 (pc' := 288) rfl (fun r_133 M_132 h m_134 => ?_)
  refine r_aload_n C dX7_goesThrough_288 (pc' := 289) rfl (j := 0) rfl ?_
  refine r_getf C (Cn := RX7) (T := TX7) 39 (mMo.kd m_134 (mMo.kd (mo_I e_131) (mMo.kd m_125 (mMo.kd (mo_L e_41) (mMo.kd m_38 (mMo.kd m_20 (mMo.kd (mo_L e_8) k_a0 (by decide)) (by decide)) (by decide)) (by decide)) (by decide)) (by decide)) (by decide)) (by decide) vc_X7 in_X7 (by decide) q1263 dX7_goesThrough_289 (pc' := 292) rfl (v := .long (mgL M_132 a0 39)) rfl ?_
  refine r_lsub C dX7_goesThrough_292 (pc' := 293) rfl ?_
  exact r_lret C hE (Nat.le_of_ble_eq_true rfl) (Nat.le_of_ble_eq_true rfl) dX7_goesThrough_293 ⟨_, rfl, h⟩
set_option maxHeartbeats 4000000 in
theorem B_X7_exactly_49 {E : mE} {a0 : Nat} {x4 : Int32} {X80 : MM → Int64 → Prop} {Post : Int64 → MM → Prop} (C : mC E yX7_exactly cX7_exactly 8 ((some .long)) { frames := 7, cells := 0, slots := 0, locals := 160 }) (hE : mEnd E { frames := 7, cells := 0, slots := 0, locals := 160 } (pL_ Post)) : ∀ (n_ : Nat) (M : MM) (x5 : Int64) (x7 : Int32), mkd M a0 = 7 → wl_X7_exactly_49 a0 x4 X80 n_ M x5 x7 → (∀ (M' : MM) (x5' : Int64), mMo M M' → X80 M' x5' → mV E M' 0 0 80 [(5, .long x5')] []) → mV E M 0 0 49 [(0, .ref a0), (4, .int x4), (5, .long x5), (7, .int x7)] [] := by
  intro n_
  induction n_ with
  | zero =>
    intro M x5 x7 k_a0 h hX80
    exact absurd h (by rw [wl_X7_exactly_49]; exact fun q => q)
  | succ n_ ih =>
    intro M x5 x7 k_a0 h hX80
    rw [wl_X7_exactly_49] at h
    refine r_iload C dX7_exactly_49 (pc' := 51) rfl (j := 3) rfl ?_
    refine r_bipush C dX7_exactly_51 (pc' := 53) rfl (v := 20) rfl ?_
    refine r_icmp_ge C dX7_exactly_53 (pc' := 56) rfl (tgt := 80) (by decide) (fun c_13 => ?_) (fun c_13 => ?_)
    · have h := it_t h c_13
      refine r_sub (lv' := [(5, .long x5)]) [2] rfl ?_
      exact hX80 M x5 mMo.rf h
    · have h := it_f h c_13
      refine r_lload C dX7_exactly_56 (pc' := 58) rfl (j := 2) rfl ?_
      refine r_aload_n C dX7_exactly_58 (pc' := 59) rfl (j := 0) rfl ?_
      refine r_getf C (Cn := RX7) (T := TX7) 37 k_a0 (by decide) vc_X7 in_X7 (by decide) q1261 dX7_exactly_59 (pc' := 62) rfl (v := va_rf (mgR M a0 37)) rfl ?_
      obtain ⟨b_14, e_15, k_16, h⟩ := h
      refine r_ref [] e_15 ?_
      refine r_bipush C dX7_exactly_62 (pc' := 64) rfl (v := 20) rfl ?_
      refine r_iload C dX7_exactly_64 (pc' := 66) rfl (j := 1) rfl ?_
      refine r_imul C dX7_exactly_66 (pc' := 67) rfl ?_
      refine r_iload C dX7_exactly_67 (pc' := 69) rfl (j := 3) rfl ?_
      refine r_iadd C dX7_exactly_69 (pc' := 70) rfl ?_
      obtain ⟨c_17, h⟩ := h
      refine r_lald C (j := (ix_ (((20 : Int32) * x4) + x7))) k_16 c_17 rfl dX7_exactly_70 (pc' := 71) rfl ?_
      refine r_ladd C dX7_exactly_71 (pc' := 72) rfl ?_
      obtain ⟨x5_18, e_19, h⟩ := bn_ h
      refine r_lstore C (lv' := [(5, .long x5_18), (0, .ref a0), (4, .int x4), (7, .int x7)]) dX7_exactly_72 (pc' := 74) rfl x5_18 e_19 (Nat.le_of_ble_eq_true rfl) rfl ?_
      obtain ⟨x7_20, e_21, h⟩ := bn_ h
      refine r_iinc C (lv' := [(7, .int x7_20), (5, .long x5_18), (0, .ref a0), (4, .int x4)]) dX7_exactly_74 (pc' := 77) rfl (j := 3) rfl x7_20 (by rw [e_21]; rfl) (Nat.le_of_ble_eq_true rfl) rfl ?_
      refine r_goto C dX7_exactly_77 (tgt := 49) (by decide) ?_
      refine r_sub (lv' := [(0, .ref a0), (4, .int x4), (5, .long x5_18), (7, .int x7_20)]) [2, 3, 1, 0] rfl ?_
      exact ih M x5_18 x7_20 k_a0 h (fun M9 w0 hm9 h9 => hX80 M9 w0 hm9 h9)
set_option maxHeartbeats 4000000 in
theorem S_X7_exactly {D : DD} {l : Launch} {M : MM} {a0 : Nat} {x1 : Int32} {x2 : Int32} {x3 : Int32} {x4 : Int32} {Post : Int64 → MM → Prop} (k_a0 : mkd M a0 = 7) (h : wp_X7_exactly M a0 x1 x2 x3 x4 Post) : mMet D l yX7_exactly cX7_exactly 8 ((some .long)) { frames := 7, cells := 0, slots := 0, locals := 160 } M [.ref a0, .int x1, .int x2, .int x3, .int x4] (pL_ Post) := by
  refine m_of2 [(0, .ref a0), (1, .int x1), (2, .int x2), (3, .int x3), (4, .int x4)] (by decide +kernel) (Nat.le_of_ble_eq_true rfl) rfl (fun E hED hEl C hE => ?_)
  subst hED
  subst hEl
  unfold wp_X7_exactly at h
  refine r_aload_n C dX7_exactly_0 (pc' := 1) rfl (j := 0) rfl ?_
  refine r_iload_n C dX7_exactly_1 (pc' := 2) rfl (j := 1) rfl ?_
  refine r_iload_n C dX7_exactly_2 (pc' := 3) rfl (j := 2) rfl ?_
  refine r_iload_n C dX7_exactly_3 (pc' := 4) rfl (j := 3) rfl ?_
  refine r_callVi (As := [.int x1, .int x2, .int x3]) (rest := []) (Cn := RX7) (T := TX7) C k_a0 (by decide) vc_X7 (S_X7_canGo k_a0 h) (lw_V q1599 q1601 qs84 q112 q1602) rfl hd_X7_canGo rfl rfl (Nat.le_of_ble_eq_true rfl) (Nat.le_of_ble_eq_true rfl) (Nat.le_of_ble_eq_true rfl) rfl rfl (Nat.le_of_ble_eq_true rfl) (Nat.le_of_ble_eq_true rfl) dX7_exactly_4 (pc' := 7) rfl (fun r_2 M_1 h m_3 => ?_)
  refine r_if_eq C dX7_exactly_7 (pc' := 10) rfl (tgt := 21) (by decide) (fun c_4 => ?_) (fun c_4 => ?_)
  · have h := it_t h c_4
    refine r_ldc2 C dX7_exactly_21 (pc' := 24) rfl q1607 ?_
    exact r_lret C hE (Nat.le_of_ble_eq_true rfl) (Nat.le_of_ble_eq_true rfl) dX7_exactly_24 ⟨_, rfl, h⟩
  · have h := it_f h c_4
    refine r_iload C dX7_exactly_10 (pc' := 12) rfl (j := 4) rfl ?_
    refine r_iconst C dX7_exactly_12 (pc' := 13) rfl (v := -1) rfl ?_
    refine r_bipush C dX7_exactly_13 (pc' := 15) rfl (v := 24) rfl ?_
    refine r_callSi (As := [.int x4, .int (-1 : Int32), .int (24 : Int32)]) (rest := []) C (S_X7_in h) (lw_S q1391 q1392 q112 q1393) hd_X7_in rfl rfl (Nat.le_of_ble_eq_true rfl) (Nat.le_of_ble_eq_true rfl) (Nat.le_of_ble_eq_true rfl) rfl rfl (Nat.le_of_ble_eq_true rfl) (Nat.le_of_ble_eq_true rfl) dX7_exactly_15 (pc' := 18) rfl (fun r_6 M_5 h m_7 => ?_)
    refine r_if_ne C dX7_exactly_18 (pc' := 21) rfl (tgt := 25) (by decide) (fun c_8 => ?_) (fun c_8 => ?_)
    · have h := it_f h c_8
      refine r_aload_n C dX7_exactly_25 (pc' := 26) rfl (j := 0) rfl ?_
      refine r_iload_n C dX7_exactly_26 (pc' := 27) rfl (j := 2) rfl ?_
      refine r_iload_n C dX7_exactly_27 (pc' := 28) rfl (j := 3) rfl ?_
      refine r_callVl (As := [.int x2, .int x3]) (rest := []) (Cn := RX7) (T := TX7) C (mMo.kd m_7 (mMo.kd m_3 k_a0 (by decide)) (by decide)) (by decide) vc_X7 (S_X7_goesThrough (mMo.kd m_7 (mMo.kd m_3 k_a0 (by decide)) (by decide)) h) (lw_V q1608 q1610 qs86 q112 q1611) rfl hd_X7_goesThrough rfl rfl (Nat.le_of_ble_eq_true rfl) (Nat.le_of_ble_eq_true rfl) (Nat.le_of_ble_eq_true rfl) rfl rfl (Nat.le_of_ble_eq_true rfl) (Nat.le_of_ble_eq_true rfl) dX7_exactly_28 (pc' := 31) rfl (fun r_10 M_9 h m_11 => ?_)
      refine r_pop2_2 C dX7_exactly_31 (pc' := 32) rfl rfl ?_
      refine r_iload C dX7_exactly_32 (pc' := 34) rfl (j := 4) rfl ?_
      refine r_iconst C dX7_exactly_34 (pc' := 35) rfl (v := -1) rfl ?_
      refine r_icmp_ne C dX7_exactly_35 (pc' := 38) rfl (tgt := 43) (by decide) (fun c_12 => ?_) (fun c_12 => ?_)
      · have h := it_f h c_12
        refine r_lconst C dX7_exactly_43 (pc' := 44) rfl (v := 0) rfl ?_
        refine r_lstore C (lv' := [(5, .long (0 : Int64)), (0, .ref a0), (1, .int x1), (2, .int x2), (3, .int x3), (4, .int x4)]) dX7_exactly_44 (pc' := 46) rfl (0 : Int64) rfl (Nat.le_of_ble_eq_true rfl) rfl ?_
        refine r_iconst C dX7_exactly_46 (pc' := 47) rfl (v := 0) rfl ?_
        refine r_istore C (lv' := [(7, .int (0 : Int32)), (5, .long (0 : Int64)), (0, .ref a0), (1, .int x1), (2, .int x2), (3, .int x3), (4, .int x4)]) dX7_exactly_47 (pc' := 49) rfl (0 : Int32) rfl (Nat.le_of_ble_eq_true rfl) rfl ?_
        obtain ⟨n_22, h⟩ := h
        refine r_sub (lv' := [(0, .ref a0), (4, .int x4), (5, .long (0 : Int64)), (7, .int (0 : Int32))]) [2, 6, 1, 0] rfl ?_
        refine B_X7_exactly_49 C hE n_22 M_9 (0 : Int64) (0 : Int32) (mMo.kd m_11 (mMo.kd m_7 (mMo.kd m_3 k_a0 (by decide)) (by decide)) (by decide)) h (fun M_23 x5_25 m_24 h => ?_)
        refine r_lload C dX7_exactly_80 (pc' := 82) rfl (j := 0) rfl ?_
        exact r_lret C hE (Nat.le_of_ble_eq_true rfl) (Nat.le_of_ble_eq_true rfl) dX7_exactly_82 ⟨_, rfl, h⟩
      · have h := it_t h c_12
        refine r_aload_n C dX7_exactly_38 (pc' := 39) rfl (j := 0) rfl ?_
        refine r_getf C (Cn := RX7) (T := TX7) 39 (mMo.kd m_11 (mMo.kd m_7 (mMo.kd m_3 k_a0 (by decide)) (by decide)) (by decide)) (by decide) vc_X7 in_X7 (by decide) q1263 dX7_exactly_39 (pc' := 42) rfl (v := .long (mgL M_9 a0 39)) rfl ?_
        exact r_lret C hE (Nat.le_of_ble_eq_true rfl) (Nat.le_of_ble_eq_true rfl) dX7_exactly_42 ⟨_, rfl, h⟩
    · have h := it_t h c_8
      refine r_ldc2 C dX7_exactly_21 (pc' := 24) rfl q1607 ?_
      exact r_lret C hE (Nat.le_of_ble_eq_true rfl) (Nat.le_of_ble_eq_true rfl) dX7_exactly_24 ⟨_, rfl, h⟩
set_option maxHeartbeats 4000000 in
theorem B_X7_chance_45 {E : mE} {a0 : Nat} {x2 : Int32} {x3 : Int32} {x4 : Int32} {x5 : Int32} {x6 : Int64} {x8 : Int32} {X66 : MM → Prop} {Post : Int64 → MM → Prop} (C : mC E yX7_chance cX7_chance 11 ((some .long)) { frames := 7, cells := 0, slots := 0, locals := 160 }) (hE : mEnd E { frames := 7, cells := 0, slots := 0, locals := 160 } (pL_ Post)) : ∀ (n_ : Nat) (M : MM) (x9 : Int32), mkd M a0 = 7 → wl_X7_chance_45 a0 x2 x3 x4 x5 x6 x8 X66 n_ M x9 → (∀ (M' : MM), mMo M M' → X66 M' → mV E M' 0 0 66 [(0, .ref a0), (2, .int x2), (3, .int x3), (4, .int x4), (5, .int x5), (6, .long x6), (8, .int x8)] []) → mV E M 0 0 45 [(0, .ref a0), (2, .int x2), (3, .int x3), (4, .int x4), (5, .int x5), (6, .long x6), (8, .int x8), (9, .int x9)] [] := by
  intro n_
  induction n_ with
  | zero =>
    intro M x9 k_a0 h hX66
    exact absurd h (by rw [wl_X7_chance_45]; exact fun q => q)
  | succ n_ ih =>
    intro M x9 k_a0 h hX66
    rw [wl_X7_chance_45] at h
    refine r_iload C dX7_chance_45 (pc' := 47) rfl (j := 7) rfl ?_
    refine r_iload_n C dX7_chance_47 (pc' := 48) rfl (j := 2) rfl ?_
    refine r_icmp_ge C dX7_chance_48 (pc' := 51) rfl (tgt := 66) (by decide) (fun c_10 => ?_) (fun c_10 => ?_)
    · have h := it_t h c_10
      refine r_sub (lv' := [(0, .ref a0), (2, .int x2), (3, .int x3), (4, .int x4), (5, .int x5), (6, .long x6), (8, .int x8)]) [0, 1, 2, 3, 4, 5, 6] rfl ?_
      exact hX66 M mMo.rf h
    · have h := it_f h c_10
      refine r_aload_n C dX7_chance_51 (pc' := 52) rfl (j := 0) rfl ?_
      refine r_getf C (Cn := RX7) (T := TX7) 36 k_a0 (by decide) vc_X7 in_X7 (by decide) q1260 dX7_chance_52 (pc' := 55) rfl (v := va_rf (mgR M a0 36)) rfl ?_
      obtain ⟨b_11, e_12, k_13, h⟩ := h
      refine r_ref [] e_12 ?_
      refine r_iload C dX7_chance_55 (pc' := 57) rfl (j := 7) rfl ?_
      refine r_iload C dX7_chance_57 (pc' := 59) rfl (j := 6) rfl ?_
      obtain ⟨c_14, h⟩ := h
      obtain ⟨M_15, e_16, h⟩ := bn_ h
      refine r_iast C (j := (ix_ x9)) k_13 c_14 rfl dX7_chance_59 (pc' := 60) rfl M_15 e_16 ?_
      obtain ⟨x9_17, e_18, h⟩ := bn_ h
      refine r_iinc C (lv' := [(9, .int x9_17), (0, .ref a0), (2, .int x2), (3, .int x3), (4, .int x4), (5, .int x5), (6, .long x6), (8, .int x8)]) dX7_chance_60 (pc' := 63) rfl (j := 7) rfl x9_17 (by rw [e_18]; rfl) (Nat.le_of_ble_eq_true rfl) rfl ?_
      refine r_goto C dX7_chance_63 (tgt := 45) (by decide) ?_
      refine r_sub (lv' := [(0, .ref a0), (2, .int x2), (3, .int x3), (4, .int x4), (5, .int x5), (6, .long x6), (8, .int x8), (9, .int x9_17)]) [1, 2, 3, 4, 5, 6, 7, 0] rfl ?_
      exact ih M_15 x9_17 (mMo.kd (mo_I e_16) k_a0 (by decide)) h (fun M9 hm9 h9 => hX66 M9 (mMo.tr (mo_I e_16) hm9) h9)
set_option maxHeartbeats 4000000 in
theorem B_X7_chance_35 {E : mE} {a0 : Nat} {x2 : Int32} {x3 : Int32} {x4 : Int32} {X99 : MM → Int32 → Int64 → Prop} {Post : Int64 → MM → Prop} (C : mC E yX7_chance cX7_chance 11 ((some .long)) { frames := 7, cells := 0, slots := 0, locals := 160 }) (hE : mEnd E { frames := 7, cells := 0, slots := 0, locals := 160 } (pL_ Post)) : ∀ (n_ : Nat) (M : MM) (x5 : Int32) (x6 : Int64) (x8 : Int32), mkd M a0 = 7 → wl_X7_chance_35 a0 x2 x3 x4 X99 n_ M x5 x6 x8 → (∀ (M' : MM) (x5' : Int32) (x6' : Int64), mMo M M' → X99 M' x5' x6' → mV E M' 0 0 99 [(4, .int x4), (5, .int x5'), (6, .long x6')] []) → mV E M 0 0 35 [(0, .ref a0), (2, .int x2), (3, .int x3), (4, .int x4), (5, .int x5), (6, .long x6), (8, .int x8)] [] := by
  intro n_
  induction n_ with
  | zero =>
    intro M x5 x6 x8 k_a0 h hX99
    exact absurd h (by rw [wl_X7_chance_35]; exact fun q => q)
  | succ n_ ih =>
    intro M x5 x6 x8 k_a0 h hX99
    rw [wl_X7_chance_35] at h
    refine r_iload C dX7_chance_35 (pc' := 37) rfl (j := 6) rfl ?_
    refine r_bipush C dX7_chance_37 (pc' := 39) rfl (v := 10) rfl ?_
    refine r_icmp_gt C dX7_chance_39 (pc' := 42) rfl (tgt := 99) (by decide) (fun c_9 => ?_) (fun c_9 => ?_)
    · have h := it_t h c_9
      refine r_sub (lv' := [(4, .int x4), (5, .int x5), (6, .long x6)]) [3, 4, 5] rfl ?_
      exact hX99 M x5 x6 mMo.rf h
    · have h := it_f h c_9
      refine r_iconst C dX7_chance_42 (pc' := 43) rfl (v := 0) rfl ?_
      refine r_istore C (lv' := [(9, .int (0 : Int32)), (0, .ref a0), (2, .int x2), (3, .int x3), (4, .int x4), (5, .int x5), (6, .long x6), (8, .int x8)]) dX7_chance_43 (pc' := 45) rfl (0 : Int32) rfl (Nat.le_of_ble_eq_true rfl) rfl ?_
      obtain ⟨n_19, h⟩ := h
      refine r_sub (lv' := [(0, .ref a0), (2, .int x2), (3, .int x3), (4, .int x4), (5, .int x5), (6, .long x6), (8, .int x8), (9, .int (0 : Int32))]) [1, 2, 3, 4, 5, 6, 7, 0] rfl ?_
      refine B_X7_chance_45 C hE n_19 M (0 : Int32) k_a0 h (fun M_20 m_21 h => ?_)
      refine r_aload_n C dX7_chance_66 (pc' := 67) rfl (j := 0) rfl ?_
      refine r_iload_n C dX7_chance_67 (pc' := 68) rfl (j := 1) rfl ?_
      refine r_iload_n C dX7_chance_68 (pc' := 69) rfl (j := 2) rfl ?_
      refine r_callVl (As := [.int x2, .int x3]) (rest := []) (Cn := RX7) (T := TX7) C (mMo.kd m_21 k_a0 (by decide)) (by decide) vc_X7 (S_X7_goesThrough (mMo.kd m_21 k_a0 (by decide)) h) (lw_V q1608 q1610 qs86 q112 q1611) rfl hd_X7_goesThrough rfl rfl (Nat.le_of_ble_eq_true rfl) (Nat.le_of_ble_eq_true rfl) (Nat.le_of_ble_eq_true rfl) rfl rfl (Nat.le_of_ble_eq_true rfl) (Nat.le_of_ble_eq_true rfl) dX7_chance_69 (pc' := 72) rfl (fun r_23 M_22 h m_24 => ?_)
      refine r_lstore C (lv' := [(9, .long r_23), (0, .ref a0), (2, .int x2), (3, .int x3), (4, .int x4), (5, .int x5), (6, .long x6), (8, .int x8)]) dX7_chance_72 (pc' := 74) rfl r_23 rfl (Nat.le_of_ble_eq_true rfl) rfl ?_
      refine r_lload C dX7_chance_74 (pc' := 76) rfl (j := 0) rfl ?_
      refine r_lload C dX7_chance_76 (pc' := 78) rfl (j := 6) rfl ?_
      refine r_lc_gt C dX7_chance_78 (pc1 := 79) (pc' := 82) rfl dX7_chance_79 rfl (tgt := 85) (by decide) (fun c_25 => ?_) (fun c_25 => ?_)
      · have h := it_t h c_25
        refine r_lload C dX7_chance_85 (pc' := 87) rfl (j := 0) rfl ?_
        refine r_lstore C (lv' := [(6, .long r_23), (9, .long r_23), (0, .ref a0), (2, .int x2), (3, .int x3), (4, .int x4), (5, .int x5), (8, .int x8)]) dX7_chance_87 (pc' := 89) rfl r_23 rfl (Nat.le_of_ble_eq_true rfl) rfl ?_
        refine r_iload C dX7_chance_89 (pc' := 91) rfl (j := 7) rfl ?_
        refine r_istore C (lv' := [(5, .int x8), (6, .long r_23), (9, .long r_23), (0, .ref a0), (2, .int x2), (3, .int x3), (4, .int x4), (8, .int x8)]) dX7_chance_91 (pc' := 93) rfl x8 rfl (Nat.le_of_ble_eq_true rfl) rfl ?_
        obtain ⟨x8_26, e_27, h⟩ := bn_ h
        refine r_iinc C (lv' := [(8, .int x8_26), (5, .int x8), (6, .long r_23), (9, .long r_23), (0, .ref a0), (2, .int x2), (3, .int x3), (4, .int x4)]) dX7_chance_93 (pc' := 96) rfl (j := 7) rfl x8_26 (by rw [e_27]; rfl) (Nat.le_of_ble_eq_true rfl) rfl ?_
        refine r_goto C dX7_chance_96 (tgt := 35) (by decide) ?_
        refine r_sub (lv' := [(0, .ref a0), (2, .int x2), (3, .int x3), (4, .int x4), (5, .int x8), (6, .long r_23), (8, .int x8_26)]) [4, 5, 6, 7, 1, 2, 0] rfl ?_
        exact ih M_22 x8 r_23 x8_26 (mMo.kd m_24 (mMo.kd m_21 k_a0 (by decide)) (by decide)) h (fun M9 w0 w1 hm9 h9 => hX99 M9 w0 w1 (mMo.tr (mMo.tr m_21 m_24) hm9) h9)
      · have h := it_f h c_25
        refine r_goto C dX7_chance_82 (tgt := 93) (by decide) ?_
        obtain ⟨x8_28, e_29, h⟩ := bn_ h
        refine r_iinc C (lv' := [(8, .int x8_28), (9, .long r_23), (0, .ref a0), (2, .int x2), (3, .int x3), (4, .int x4), (5, .int x5), (6, .long x6)]) dX7_chance_93 (pc' := 96) rfl (j := 7) rfl x8_28 (by rw [e_29]; rfl) (Nat.le_of_ble_eq_true rfl) rfl ?_
        refine r_goto C dX7_chance_96 (tgt := 35) (by decide) ?_
        refine r_sub (lv' := [(0, .ref a0), (2, .int x2), (3, .int x3), (4, .int x4), (5, .int x5), (6, .long x6), (8, .int x8_28)]) [2, 3, 4, 5, 6, 7, 0] rfl ?_
        exact ih M_22 x5 x6 x8_28 (mMo.kd m_24 (mMo.kd m_21 k_a0 (by decide)) (by decide)) h (fun M9 w0 w1 hm9 h9 => hX99 M9 w0 w1 (mMo.tr (mMo.tr m_21 m_24) hm9) h9)
set_option maxHeartbeats 4000000 in
theorem S_X7_chance {D : DD} {l : Launch} {M : MM} {a0 : Nat} {x1 : Int32} {x2 : Int32} {x3 : Int32} {x4 : Int32} {Post : Int64 → MM → Prop} (k_a0 : mkd M a0 = 7) (h : wp_X7_chance M a0 x1 x2 x3 x4 Post) : mMet D l yX7_chance cX7_chance 11 ((some .long)) { frames := 7, cells := 0, slots := 0, locals := 160 } M [.ref a0, .int x1, .int x2, .int x3, .int x4] (pL_ Post) := by
  refine m_of2 [(0, .ref a0), (1, .int x1), (2, .int x2), (3, .int x3), (4, .int x4)] (by decide +kernel) (Nat.le_of_ble_eq_true rfl) rfl (fun E hED hEl C hE => ?_)
  subst hED
  subst hEl
  unfold wp_X7_chance at h
  refine r_aload_n C dX7_chance_0 (pc' := 1) rfl (j := 0) rfl ?_
  refine r_iload_n C dX7_chance_1 (pc' := 2) rfl (j := 1) rfl ?_
  refine r_iload_n C dX7_chance_2 (pc' := 3) rfl (j := 2) rfl ?_
  refine r_iload_n C dX7_chance_3 (pc' := 4) rfl (j := 3) rfl ?_
  refine r_callVi (As := [.int x1, .int x2, .int x3]) (rest := []) (Cn := RX7) (T := TX7) C k_a0 (by decide) vc_X7 (S_X7_canGo k_a0 h) (lw_V q1599 q1601 qs84 q112 q1602) rfl hd_X7_canGo rfl rfl (Nat.le_of_ble_eq_true rfl) (Nat.le_of_ble_eq_true rfl) (Nat.le_of_ble_eq_true rfl) rfl rfl (Nat.le_of_ble_eq_true rfl) (Nat.le_of_ble_eq_true rfl) dX7_chance_4 (pc' := 7) rfl (fun r_2 M_1 h m_3 => ?_)
  refine r_if_eq C dX7_chance_7 (pc' := 10) rfl (tgt := 20) (by decide) (fun c_4 => ?_) (fun c_4 => ?_)
  · have h := it_t h c_4
    refine r_ldc2 C dX7_chance_20 (pc' := 23) rfl q1607 ?_
    exact r_lret C hE (Nat.le_of_ble_eq_true rfl) (Nat.le_of_ble_eq_true rfl) dX7_chance_23 ⟨_, rfl, h⟩
  · have h := it_f h c_4
    refine r_iload C dX7_chance_10 (pc' := 12) rfl (j := 4) rfl ?_
    refine r_iconst C dX7_chance_12 (pc' := 13) rfl (v := 0) rfl ?_
    refine r_iconst C dX7_chance_13 (pc' := 14) rfl (v := 1) rfl ?_
    refine r_callSi (As := [.int x4, .int (0 : Int32), .int (1 : Int32)]) (rest := []) C (S_X7_in h) (lw_S q1391 q1392 q112 q1393) hd_X7_in rfl rfl (Nat.le_of_ble_eq_true rfl) (Nat.le_of_ble_eq_true rfl) (Nat.le_of_ble_eq_true rfl) rfl rfl (Nat.le_of_ble_eq_true rfl) (Nat.le_of_ble_eq_true rfl) dX7_chance_14 (pc' := 17) rfl (fun r_6 M_5 h m_7 => ?_)
    refine r_if_ne C dX7_chance_17 (pc' := 20) rfl (tgt := 24) (by decide) (fun c_8 => ?_) (fun c_8 => ?_)
    · have h := it_f h c_8
      refine r_iconst C dX7_chance_24 (pc' := 25) rfl (v := 0) rfl ?_
      refine r_istore C (lv' := [(5, .int (0 : Int32)), (0, .ref a0), (1, .int x1), (2, .int x2), (3, .int x3), (4, .int x4)]) dX7_chance_25 (pc' := 27) rfl (0 : Int32) rfl (Nat.le_of_ble_eq_true rfl) rfl ?_
      refine r_ldc2 C dX7_chance_27 (pc' := 30) rfl q1607 ?_
      refine r_lstore C (lv' := [(6, .long (-1 : Int64)), (5, .int (0 : Int32)), (0, .ref a0), (1, .int x1), (2, .int x2), (3, .int x3), (4, .int x4)]) dX7_chance_30 (pc' := 32) rfl (-1 : Int64) rfl (Nat.le_of_ble_eq_true rfl) rfl ?_
      refine r_iconst C dX7_chance_32 (pc' := 33) rfl (v := 0) rfl ?_
      refine r_istore C (lv' := [(8, .int (0 : Int32)), (6, .long (-1 : Int64)), (5, .int (0 : Int32)), (0, .ref a0), (1, .int x1), (2, .int x2), (3, .int x3), (4, .int x4)]) dX7_chance_33 (pc' := 35) rfl (0 : Int32) rfl (Nat.le_of_ble_eq_true rfl) rfl ?_
      obtain ⟨n_30, h⟩ := h
      refine r_sub (lv' := [(0, .ref a0), (2, .int x2), (3, .int x3), (4, .int x4), (5, .int (0 : Int32)), (6, .long (-1 : Int64)), (8, .int (0 : Int32))]) [3, 5, 6, 7, 2, 1, 0] rfl ?_
      refine B_X7_chance_35 C hE n_30 M_5 (0 : Int32) (-1 : Int64) (0 : Int32) (mMo.kd m_7 (mMo.kd m_3 k_a0 (by decide)) (by decide)) h (fun M_31 x5_33 x6_34 m_32 h => ?_)
      refine r_iload C dX7_chance_99 (pc' := 101) rfl (j := 0) rfl ?_
      refine r_if_ne C dX7_chance_101 (pc' := 104) rfl (tgt := 110) (by decide) (fun c_35 => ?_) (fun c_35 => ?_)
      · have h := it_f h c_35
        refine r_lload C dX7_chance_110 (pc' := 112) rfl (j := 2) rfl ?_
        exact r_lret C hE (Nat.le_of_ble_eq_true rfl) (Nat.le_of_ble_eq_true rfl) dX7_chance_112 ⟨_, rfl, h⟩
      · have h := it_t h c_35
        refine r_iload C dX7_chance_104 (pc' := 106) rfl (j := 1) rfl ?_
        refine r_i2l C dX7_chance_106 (pc' := 107) rfl ?_
        refine r_goto C dX7_chance_107 (tgt := 112) (by decide) ?_
        exact r_lret C hE (Nat.le_of_ble_eq_true rfl) (Nat.le_of_ble_eq_true rfl) dX7_chance_112 ⟨_, rfl, h⟩
    · have h := it_t h c_8
      refine r_ldc2 C dX7_chance_20 (pc' := 23) rfl q1607 ?_
      exact r_lret C hE (Nat.le_of_ble_eq_true rfl) (Nat.le_of_ble_eq_true rfl) dX7_chance_23 ⟨_, rfl, h⟩
set_option maxHeartbeats 4000000 in
theorem B_X7_toAsk_93 {E : mE} {M : MM} {a0 : Nat} {x2 : Int32} {x3 : Int32} {x4 : Int32} {x5 : Int32} {x6 : Int64} {x8 : Int32} {x9 : Int32} {as0 : Nat} {xs1 : Int32} {xs2 : Int32} {R : MM → Int32 → Prop} {X100 : MM → Prop} {Post : Int64 → MM → Prop} (C : mC E yX7_toAsk cX7_toAsk 11 ((some .long)) { frames := 7, cells := 0, slots := 0, locals := 160 }) (hE : mEnd E { frames := 7, cells := 0, slots := 0, locals := 160 } (pL_ Post)) (k_a0 : mkd M a0 = 7) (k_as0 : mkd M as0 = 100) (h : wb_X7_toAsk_93 M a0 x2 x3 x4 x5 x6 x8 x9 as0 xs1 xs2 R X100) (hR : ∀ (M' : MM) (x9' : Int32), mMo M M' → mkd M' a0 = 7 → R M' x9' → mV E M' 0 0 48 [(0, .ref a0), (2, .int x2), (3, .int x3), (4, .int x4), (5, .int x5), (6, .long x6), (8, .int x8), (9, .int x9')] []) (hX100 : ∀ (M' : MM), mMo M M' → X100 M' → mV E M' 0 0 100 [(0, .ref a0), (2, .int x2), (3, .int x3), (4, .int x4), (5, .int x5), (6, .long x6), (8, .int x8)] []) : mV E M 0 0 93 [(0, .ref a0), (2, .int x2), (3, .int x3), (4, .int x4), (5, .int x5), (6, .long x6), (8, .int x8), (9, .int x9)] [.int xs2, .int xs1, .ref as0] := by
  unfold wb_X7_toAsk_93 at h
  obtain ⟨c_29, h⟩ := h
  obtain ⟨M_30, e_31, h⟩ := bn_ h
  refine r_iast C (j := (ix_ xs1)) k_as0 c_29 rfl dX7_toAsk_93 (pc' := 94) rfl M_30 e_31 ?_
  obtain ⟨x9_32, e_33, h⟩ := bn_ h
  refine r_iinc C (lv' := [(9, .int x9_32), (0, .ref a0), (2, .int x2), (3, .int x3), (4, .int x4), (5, .int x5), (6, .long x6), (8, .int x8)]) dX7_toAsk_94 (pc' := 97) rfl (j := 7) rfl x9_32 (by rw [e_33]; rfl) (Nat.le_of_ble_eq_true rfl) rfl ?_
  refine r_goto C dX7_toAsk_97 (tgt := 48) (by decide) ?_
  refine r_sub (lv' := [(0, .ref a0), (2, .int x2), (3, .int x3), (4, .int x4), (5, .int x5), (6, .long x6), (8, .int x8), (9, .int x9_32)]) [1, 2, 3, 4, 5, 6, 7, 0] rfl ?_
  exact hR M_30 x9_32 (mo_I e_31) (mMo.kd (mo_I e_31) k_a0 (by decide)) h
set_option maxHeartbeats 4000000 in
theorem B_X7_toAsk_48 {E : mE} {a0 : Nat} {x2 : Int32} {x3 : Int32} {x4 : Int32} {x5 : Int32} {x6 : Int64} {x8 : Int32} {X100 : MM → Prop} {Post : Int64 → MM → Prop} (C : mC E yX7_toAsk cX7_toAsk 11 ((some .long)) { frames := 7, cells := 0, slots := 0, locals := 160 }) (hE : mEnd E { frames := 7, cells := 0, slots := 0, locals := 160 } (pL_ Post)) : ∀ (n_ : Nat) (M : MM) (x9 : Int32), mkd M a0 = 7 → wl_X7_toAsk_48 a0 x2 x3 x4 x5 x6 x8 X100 n_ M x9 → (∀ (M' : MM), mMo M M' → X100 M' → mV E M' 0 0 100 [(0, .ref a0), (2, .int x2), (3, .int x3), (4, .int x4), (5, .int x5), (6, .long x6), (8, .int x8)] []) → mV E M 0 0 48 [(0, .ref a0), (2, .int x2), (3, .int x3), (4, .int x4), (5, .int x5), (6, .long x6), (8, .int x8), (9, .int x9)] [] := by
  intro n_
  induction n_ with
  | zero =>
    intro M x9 k_a0 h hX100
    exact absurd h (by rw [wl_X7_toAsk_48]; exact fun q => q)
  | succ n_ ih =>
    intro M x9 k_a0 h hX100
    rw [wl_X7_toAsk_48] at h
    refine r_iload C dX7_toAsk_48 (pc' := 50) rfl (j := 7) rfl ?_
    refine r_iload_n C dX7_toAsk_50 (pc' := 51) rfl (j := 2) rfl ?_
    refine r_icmp_ge C dX7_toAsk_51 (pc' := 54) rfl (tgt := 100) (by decide) (fun c_13 => ?_) (fun c_13 => ?_)
    · have h := it_t h c_13
      refine r_sub (lv' := [(0, .ref a0), (2, .int x2), (3, .int x3), (4, .int x4), (5, .int x5), (6, .long x6), (8, .int x8)]) [0, 1, 2, 3, 4, 5, 6] rfl ?_
      exact hX100 M mMo.rf h
    · have h := it_f h c_13
      refine r_aload_n C dX7_toAsk_54 (pc' := 55) rfl (j := 0) rfl ?_
      refine r_getf C (Cn := RX7) (T := TX7) 36 k_a0 (by decide) vc_X7 in_X7 (by decide) q1260 dX7_toAsk_55 (pc' := 58) rfl (v := va_rf (mgR M a0 36)) rfl ?_
      obtain ⟨b_14, e_15, k_16, h⟩ := h
      refine r_ref [] e_15 ?_
      refine r_iload C dX7_toAsk_58 (pc' := 60) rfl (j := 7) rfl ?_
      refine r_iload C dX7_toAsk_60 (pc' := 62) rfl (j := 7) rfl ?_
      refine r_iload C dX7_toAsk_62 (pc' := 64) rfl (j := 6) rfl ?_
      refine r_icmp_ne C dX7_toAsk_64 (pc' := 67) rfl (tgt := 72) (by decide) (fun c_17 => ?_) (fun c_17 => ?_)
      · have h := it_f h c_17
        refine r_iconst C dX7_toAsk_72 (pc' := 73) rfl (v := 0) rfl ?_
        refine r_aload_n C dX7_toAsk_73 (pc' := 74) rfl (j := 0) rfl ?_
        refine r_getf C (Cn := RX7) (T := TX7) 0 k_a0 (by decide) vc_X7 in_X7 (by decide) q1224 dX7_toAsk_74 (pc' := 77) rfl (v := va_rf (mgR M a0 0)) rfl ?_
        obtain ⟨b_18, e_19, k_20, h⟩ := h
        refine r_ref [] e_19 ?_
        refine r_bipush C dX7_toAsk_77 (pc' := 79) rfl (v := 52) rfl ?_
        refine r_aload_n C dX7_toAsk_79 (pc' := 80) rfl (j := 0) rfl ?_
        refine r_getf C (Cn := RX7) (T := TX7) 35 k_a0 (by decide) vc_X7 in_X7 (by decide) q1259 dX7_toAsk_80 (pc' := 83) rfl (v := va_rf (mgR M a0 35)) rfl ?_
        obtain ⟨b_21, e_22, k_23, h⟩ := h
        refine r_ref [] e_22 ?_
        refine r_iload C dX7_toAsk_83 (pc' := 85) rfl (j := 7) rfl ?_
        obtain ⟨c_24, h⟩ := h
        refine r_iald C (j := (ix_ x9)) k_23 c_24 rfl dX7_toAsk_85 (pc' := 86) rfl ?_
        refine r_iadd C dX7_toAsk_86 (pc' := 87) rfl ?_
        obtain ⟨c_25, h⟩ := h
        refine r_iald C (j := (ix_ ((52 : Int32) + (mgI M b_21 (ix_ x9))))) k_20 c_25 rfl dX7_toAsk_87 (pc' := 88) rfl ?_
        refine r_iconst C dX7_toAsk_88 (pc' := 89) rfl (v := 2) rfl ?_
        refine r_isub C dX7_toAsk_89 (pc' := 90) rfl ?_
        refine r_callSi (As := [.int (0 : Int32), .int ((mgI M b_18 (ix_ ((52 : Int32) + (mgI M b_21 (ix_ x9))))) - (2 : Int32))]) (rest := [.int x9, .ref b_14]) C (S_X7_max h) (lw_S q1581 q1582 q112 q1583) hd_X7_max rfl rfl (Nat.le_of_ble_eq_true rfl) (Nat.le_of_ble_eq_true rfl) (Nat.le_of_ble_eq_true rfl) rfl rfl (Nat.le_of_ble_eq_true rfl) (Nat.le_of_ble_eq_true rfl) dX7_toAsk_90 (pc' := 93) rfl (fun r_27 M_26 h m_28 => ?_)
        refine r_sub (lv' := [(0, .ref a0), (2, .int x2), (3, .int x3), (4, .int x4), (5, .int x5), (6, .long x6), (8, .int x8), (9, .int x9)]) [0, 1, 2, 3, 4, 5, 6, 7] rfl ?_
        exact B_X7_toAsk_93 C hE (mMo.kd m_28 k_a0 (by decide)) (mMo.kd m_28 k_16 (by decide)) h (fun M8 v0 hm8 g0 h8 => ih M8 v0 g0 h8 (fun M9 hm9 h9 => hX100 M9 (mMo.tr (mMo.tr m_28 hm8) hm9) h9)) (fun M9 hm9 h9 => hX100 M9 (mMo.tr m_28 hm9) h9)
      · have h := it_t h c_17
        refine r_bipush C dX7_toAsk_67 (pc' := 69) rfl (v := 10) rfl ?_
        refine r_goto C dX7_toAsk_69 (tgt := 93) (by decide) ?_
        refine r_sub (lv' := [(0, .ref a0), (2, .int x2), (3, .int x3), (4, .int x4), (5, .int x5), (6, .long x6), (8, .int x8), (9, .int x9)]) [0, 1, 2, 3, 4, 5, 6, 7] rfl ?_
        exact B_X7_toAsk_93 C hE k_a0 k_16 h (fun M8 v0 hm8 g0 h8 => ih M8 v0 g0 h8 (fun M9 hm9 h9 => hX100 M9 (mMo.tr hm8 hm9) h9)) (fun M9 hm9 h9 => hX100 M9 hm9 h9)
set_option maxHeartbeats 4000000 in
theorem B_X7_toAsk_39 {E : mE} {a0 : Nat} {x2 : Int32} {x3 : Int32} {x4 : Int32} {X138 : MM → Int32 → Int64 → Prop} {Post : Int64 → MM → Prop} (C : mC E yX7_toAsk cX7_toAsk 11 ((some .long)) { frames := 7, cells := 0, slots := 0, locals := 160 }) (hE : mEnd E { frames := 7, cells := 0, slots := 0, locals := 160 } (pL_ Post)) : ∀ (n_ : Nat) (M : MM) (x5 : Int32) (x6 : Int64) (x8 : Int32), mkd M a0 = 7 → wl_X7_toAsk_39 a0 x2 x3 x4 X138 n_ M x5 x6 x8 → (∀ (M' : MM) (x5' : Int32) (x6' : Int64), mMo M M' → X138 M' x5' x6' → mV E M' 0 0 138 [(4, .int x4), (5, .int x5'), (6, .long x6')] []) → mV E M 0 0 39 [(0, .ref a0), (2, .int x2), (3, .int x3), (4, .int x4), (5, .int x5), (6, .long x6), (8, .int x8)] [] := by
  intro n_
  induction n_ with
  | zero =>
    intro M x5 x6 x8 k_a0 h hX138
    exact absurd h (by rw [wl_X7_toAsk_39]; exact fun q => q)
  | succ n_ ih =>
    intro M x5 x6 x8 k_a0 h hX138
    rw [wl_X7_toAsk_39] at h
    refine r_iload C dX7_toAsk_39 (pc' := 41) rfl (j := 6) rfl ?_
    refine r_iload_n C dX7_toAsk_41 (pc' := 42) rfl (j := 2) rfl ?_
    refine r_icmp_ge C dX7_toAsk_42 (pc' := 45) rfl (tgt := 138) (by decide) (fun c_12 => ?_) (fun c_12 => ?_)
    · have h := it_t h c_12
      refine r_sub (lv' := [(4, .int x4), (5, .int x5), (6, .long x6)]) [3, 4, 5] rfl ?_
      exact hX138 M x5 x6 mMo.rf h
    · have h := it_f h c_12
      refine r_iconst C dX7_toAsk_45 (pc' := 46) rfl (v := 0) rfl ?_
      refine r_istore C (lv' := [(9, .int (0 : Int32)), (0, .ref a0), (2, .int x2), (3, .int x3), (4, .int x4), (5, .int x5), (6, .long x6), (8, .int x8)]) dX7_toAsk_46 (pc' := 48) rfl (0 : Int32) rfl (Nat.le_of_ble_eq_true rfl) rfl ?_
      obtain ⟨n_34, h⟩ := h
      refine r_sub (lv' := [(0, .ref a0), (2, .int x2), (3, .int x3), (4, .int x4), (5, .int x5), (6, .long x6), (8, .int x8), (9, .int (0 : Int32))]) [1, 2, 3, 4, 5, 6, 7, 0] rfl ?_
      refine B_X7_toAsk_48 C hE n_34 M (0 : Int32) k_a0 h (fun M_35 m_36 h => ?_)
      refine r_aload_n C dX7_toAsk_100 (pc' := 101) rfl (j := 0) rfl ?_
      refine r_iload_n C dX7_toAsk_101 (pc' := 102) rfl (j := 1) rfl ?_
      refine r_iload_n C dX7_toAsk_102 (pc' := 103) rfl (j := 2) rfl ?_
      refine r_callVl (As := [.int x2, .int x3]) (rest := []) (Cn := RX7) (T := TX7) C (mMo.kd m_36 k_a0 (by decide)) (by decide) vc_X7 (S_X7_goesThrough (mMo.kd m_36 k_a0 (by decide)) h) (lw_V q1608 q1610 qs86 q112 q1611) rfl hd_X7_goesThrough rfl rfl (Nat.le_of_ble_eq_true rfl) (Nat.le_of_ble_eq_true rfl) (Nat.le_of_ble_eq_true rfl) rfl rfl (Nat.le_of_ble_eq_true rfl) (Nat.le_of_ble_eq_true rfl) dX7_toAsk_103 (pc' := 106) rfl (fun r_38 M_37 h m_39 => ?_)
      refine r_lstore C (lv' := [(9, .long r_38), (0, .ref a0), (2, .int x2), (3, .int x3), (4, .int x4), (5, .int x5), (6, .long x6), (8, .int x8)]) dX7_toAsk_106 (pc' := 108) rfl r_38 rfl (Nat.le_of_ble_eq_true rfl) rfl ?_
      refine r_lload C dX7_toAsk_108 (pc' := 110) rfl (j := 0) rfl ?_
      refine r_lload C dX7_toAsk_110 (pc' := 112) rfl (j := 6) rfl ?_
      refine r_lc_gt C dX7_toAsk_112 (pc1 := 113) (pc' := 116) rfl dX7_toAsk_113 rfl (tgt := 119) (by decide) (fun c_40 => ?_) (fun c_40 => ?_)
      · have h := it_t h c_40
        refine r_lload C dX7_toAsk_119 (pc' := 121) rfl (j := 0) rfl ?_
        refine r_lstore C (lv' := [(6, .long r_38), (9, .long r_38), (0, .ref a0), (2, .int x2), (3, .int x3), (4, .int x4), (5, .int x5), (8, .int x8)]) dX7_toAsk_121 (pc' := 123) rfl r_38 rfl (Nat.le_of_ble_eq_true rfl) rfl ?_
        refine r_aload_n C dX7_toAsk_123 (pc' := 124) rfl (j := 2) rfl ?_
        refine r_getf C (Cn := RX7) (T := TX7) 35 (mMo.kd m_39 (mMo.kd m_36 k_a0 (by decide)) (by decide)) (by decide) vc_X7 in_X7 (by decide) q1259 dX7_toAsk_124 (pc' := 127) rfl (v := va_rf (mgR M_37 a0 35)) rfl ?_
        obtain ⟨b_41, e_42, k_43, h⟩ := h
        refine r_ref [] e_42 ?_
        refine r_iload C dX7_toAsk_127 (pc' := 129) rfl (j := 7) rfl ?_
        obtain ⟨c_44, h⟩ := h
        refine r_iald C (j := (ix_ x8)) k_43 c_44 rfl dX7_toAsk_129 (pc' := 130) rfl ?_
        obtain ⟨x5_45, e_46, h⟩ := bn_ h
        refine r_istore C (lv' := [(5, .int x5_45), (6, .long r_38), (9, .long r_38), (0, .ref a0), (2, .int x2), (3, .int x3), (4, .int x4), (8, .int x8)]) dX7_toAsk_130 (pc' := 132) rfl x5_45 e_46 (Nat.le_of_ble_eq_true rfl) rfl ?_
        obtain ⟨x8_47, e_48, h⟩ := bn_ h
        refine r_iinc C (lv' := [(8, .int x8_47), (5, .int x5_45), (6, .long r_38), (9, .long r_38), (0, .ref a0), (2, .int x2), (3, .int x3), (4, .int x4)]) dX7_toAsk_132 (pc' := 135) rfl (j := 7) rfl x8_47 (by rw [e_48]; rfl) (Nat.le_of_ble_eq_true rfl) rfl ?_
        refine r_goto C dX7_toAsk_135 (tgt := 39) (by decide) ?_
        refine r_sub (lv' := [(0, .ref a0), (2, .int x2), (3, .int x3), (4, .int x4), (5, .int x5_45), (6, .long r_38), (8, .int x8_47)]) [4, 5, 6, 7, 1, 2, 0] rfl ?_
        exact ih M_37 x5_45 r_38 x8_47 (mMo.kd m_39 (mMo.kd m_36 k_a0 (by decide)) (by decide)) h (fun M9 w0 w1 hm9 h9 => hX138 M9 w0 w1 (mMo.tr (mMo.tr m_36 m_39) hm9) h9)
      · have h := it_f h c_40
        refine r_goto C dX7_toAsk_116 (tgt := 132) (by decide) ?_
        obtain ⟨x8_49, e_50, h⟩ := bn_ h
        refine r_iinc C (lv' := [(8, .int x8_49), (9, .long r_38), (0, .ref a0), (2, .int x2), (3, .int x3), (4, .int x4), (5, .int x5), (6, .long x6)]) dX7_toAsk_132 (pc' := 135) rfl (j := 7) rfl x8_49 (by rw [e_50]; rfl) (Nat.le_of_ble_eq_true rfl) rfl ?_
        refine r_goto C dX7_toAsk_135 (tgt := 39) (by decide) ?_
        refine r_sub (lv' := [(0, .ref a0), (2, .int x2), (3, .int x3), (4, .int x4), (5, .int x5), (6, .long x6), (8, .int x8_49)]) [2, 3, 4, 5, 6, 7, 0] rfl ?_
        exact ih M_37 x5 x6 x8_49 (mMo.kd m_39 (mMo.kd m_36 k_a0 (by decide)) (by decide)) h (fun M9 w0 w1 hm9 h9 => hX138 M9 w0 w1 (mMo.tr (mMo.tr m_36 m_39) hm9) h9)
set_option maxHeartbeats 4000000 in
theorem S_X7_toAsk {D : DD} {l : Launch} {M : MM} {a0 : Nat} {x1 : Int32} {x2 : Int32} {x3 : Int32} {x4 : Int32} {Post : Int64 → MM → Prop} (k_a0 : mkd M a0 = 7) (h : wp_X7_toAsk M a0 x1 x2 x3 x4 Post) : mMet D l yX7_toAsk cX7_toAsk 11 ((some .long)) { frames := 7, cells := 0, slots := 0, locals := 160 } M [.ref a0, .int x1, .int x2, .int x3, .int x4] (pL_ Post) := by
  refine m_of2 [(0, .ref a0), (1, .int x1), (2, .int x2), (3, .int x3), (4, .int x4)] (by decide +kernel) (Nat.le_of_ble_eq_true rfl) rfl (fun E hED hEl C hE => ?_)
  subst hED
  subst hEl
  unfold wp_X7_toAsk at h
  refine r_aload_n C dX7_toAsk_0 (pc' := 1) rfl (j := 0) rfl ?_
  refine r_iload_n C dX7_toAsk_1 (pc' := 2) rfl (j := 1) rfl ?_
  refine r_iload_n C dX7_toAsk_2 (pc' := 3) rfl (j := 2) rfl ?_
  refine r_iload_n C dX7_toAsk_3 (pc' := 4) rfl (j := 3) rfl ?_
  refine r_callVi (As := [.int x1, .int x2, .int x3]) (rest := []) (Cn := RX7) (T := TX7) C k_a0 (by decide) vc_X7 (S_X7_canGo k_a0 h) (lw_V q1599 q1601 qs84 q112 q1602) rfl hd_X7_canGo rfl rfl (Nat.le_of_ble_eq_true rfl) (Nat.le_of_ble_eq_true rfl) (Nat.le_of_ble_eq_true rfl) rfl rfl (Nat.le_of_ble_eq_true rfl) (Nat.le_of_ble_eq_true rfl) dX7_toAsk_4 (pc' := 7) rfl (fun r_2 M_1 h m_3 => ?_)
  refine r_if_eq C dX7_toAsk_7 (pc' := 10) rfl (tgt := 20) (by decide) (fun c_4 => ?_) (fun c_4 => ?_)
  · have h := it_t h c_4
    refine r_ldc2 C dX7_toAsk_20 (pc' := 23) rfl q1607 ?_
    exact r_lret C hE (Nat.le_of_ble_eq_true rfl) (Nat.le_of_ble_eq_true rfl) dX7_toAsk_23 ⟨_, rfl, h⟩
  · have h := it_f h c_4
    refine r_iload C dX7_toAsk_10 (pc' := 12) rfl (j := 4) rfl ?_
    refine r_iconst C dX7_toAsk_12 (pc' := 13) rfl (v := 0) rfl ?_
    refine r_iconst C dX7_toAsk_13 (pc' := 14) rfl (v := 1) rfl ?_
    refine r_callSi (As := [.int x4, .int (0 : Int32), .int (1 : Int32)]) (rest := []) C (S_X7_in h) (lw_S q1391 q1392 q112 q1393) hd_X7_in rfl rfl (Nat.le_of_ble_eq_true rfl) (Nat.le_of_ble_eq_true rfl) (Nat.le_of_ble_eq_true rfl) rfl rfl (Nat.le_of_ble_eq_true rfl) (Nat.le_of_ble_eq_true rfl) dX7_toAsk_14 (pc' := 17) rfl (fun r_6 M_5 h m_7 => ?_)
    refine r_if_ne C dX7_toAsk_17 (pc' := 20) rfl (tgt := 24) (by decide) (fun c_8 => ?_) (fun c_8 => ?_)
    · have h := it_f h c_8
      refine r_bipush C dX7_toAsk_24 (pc' := 26) rfl (v := -2) rfl ?_
      refine r_istore C (lv' := [(5, .int (-2 : Int32)), (0, .ref a0), (1, .int x1), (2, .int x2), (3, .int x3), (4, .int x4)]) dX7_toAsk_26 (pc' := 28) rfl (-2 : Int32) rfl (Nat.le_of_ble_eq_true rfl) rfl ?_
      refine r_aload_n C dX7_toAsk_28 (pc' := 29) rfl (j := 1) rfl ?_
      refine r_iload_n C dX7_toAsk_29 (pc' := 30) rfl (j := 3) rfl ?_
      refine r_iload_n C dX7_toAsk_30 (pc' := 31) rfl (j := 4) rfl ?_
      refine r_callVl (As := [.int x2, .int x3]) (rest := []) (Cn := RX7) (T := TX7) C (mMo.kd m_7 (mMo.kd m_3 k_a0 (by decide)) (by decide)) (by decide) vc_X7 (S_X7_goesThrough (mMo.kd m_7 (mMo.kd m_3 k_a0 (by decide)) (by decide)) h) (lw_V q1608 q1610 qs86 q112 q1611) rfl hd_X7_goesThrough rfl rfl (Nat.le_of_ble_eq_true rfl) (Nat.le_of_ble_eq_true rfl) (Nat.le_of_ble_eq_true rfl) rfl rfl (Nat.le_of_ble_eq_true rfl) (Nat.le_of_ble_eq_true rfl) dX7_toAsk_31 (pc' := 34) rfl (fun r_10 M_9 h m_11 => ?_)
      refine r_lstore C (lv' := [(6, .long r_10), (5, .int (-2 : Int32)), (0, .ref a0), (1, .int x1), (2, .int x2), (3, .int x3), (4, .int x4)]) dX7_toAsk_34 (pc' := 36) rfl r_10 rfl (Nat.le_of_ble_eq_true rfl) rfl ?_
      refine r_iconst C dX7_toAsk_36 (pc' := 37) rfl (v := 0) rfl ?_
      refine r_istore C (lv' := [(8, .int (0 : Int32)), (6, .long r_10), (5, .int (-2 : Int32)), (0, .ref a0), (1, .int x1), (2, .int x2), (3, .int x3), (4, .int x4)]) dX7_toAsk_37 (pc' := 39) rfl (0 : Int32) rfl (Nat.le_of_ble_eq_true rfl) rfl ?_
      obtain ⟨n_51, h⟩ := h
      refine r_sub (lv' := [(0, .ref a0), (2, .int x2), (3, .int x3), (4, .int x4), (5, .int (-2 : Int32)), (6, .long r_10), (8, .int (0 : Int32))]) [3, 5, 6, 7, 2, 1, 0] rfl ?_
      refine B_X7_toAsk_39 C hE n_51 M_9 (-2 : Int32) r_10 (0 : Int32) (mMo.kd m_11 (mMo.kd m_7 (mMo.kd m_3 k_a0 (by decide)) (by decide)) (by decide)) h (fun M_52 x5_54 x6_55 m_53 h => ?_)
      refine r_iload C dX7_toAsk_138 (pc' := 140) rfl (j := 0) rfl ?_
      refine r_if_ne C dX7_toAsk_140 (pc' := 143) rfl (tgt := 149) (by decide) (fun c_56 => ?_) (fun c_56 => ?_)
      · have h := it_f h c_56
        refine r_lload C dX7_toAsk_149 (pc' := 151) rfl (j := 2) rfl ?_
        exact r_lret C hE (Nat.le_of_ble_eq_true rfl) (Nat.le_of_ble_eq_true rfl) dX7_toAsk_151 ⟨_, rfl, h⟩
      · have h := it_t h c_56
        refine r_iload C dX7_toAsk_143 (pc' := 145) rfl (j := 1) rfl ?_
        refine r_i2l C dX7_toAsk_145 (pc' := 146) rfl ?_
        refine r_goto C dX7_toAsk_146 (tgt := 151) (by decide) ?_
        exact r_lret C hE (Nat.le_of_ble_eq_true rfl) (Nat.le_of_ble_eq_true rfl) dX7_toAsk_151 ⟨_, rfl, h⟩
    · have h := it_t h c_8
      refine r_ldc2 C dX7_toAsk_20 (pc' := 23) rfl q1607 ?_
      exact r_lret C hE (Nat.le_of_ble_eq_true rfl) (Nat.le_of_ble_eq_true rfl) dX7_toAsk_23 ⟨_, rfl, h⟩
set_option maxHeartbeats 4000000 in
theorem B_X7_few_26 {E : mE} {a0 : Nat} {x2 : Int32} {x3 : Int32} {x4 : Int32} {X62 : MM → Int32 → Prop} {X71 : MM → Prop} {Post : Int32 → MM → Prop} (C : mC E yX7_few cX7_few 8 ((some .int)) { frames := 7, cells := 0, slots := 0, locals := 160 }) (hE : mEnd E { frames := 7, cells := 0, slots := 0, locals := 160 } (pI_ Post)) : ∀ (n_ : Nat) (M : MM) (x5 : Int32), mkd M a0 = 7 → wl_X7_few_26 a0 x2 x3 x4 X62 X71 n_ M x5 → (∀ (M' : MM) (x5' : Int32), mMo M M' → X62 M' x5' → mV E M' 0 0 62 [(5, .int x5')] []) → (∀ (M' : MM), mMo M M' → X71 M' → mV E M' 0 0 71 [] []) → mV E M 0 0 26 [(0, .ref a0), (2, .int x2), (3, .int x3), (4, .int x4), (5, .int x5)] [] := by
  intro n_
  induction n_ with
  | zero =>
    intro M x5 k_a0 h hX62 hX71
    exact absurd h (by rw [wl_X7_few_26]; exact fun q => q)
  | succ n_ ih =>
    intro M x5 k_a0 h hX62 hX71
    rw [wl_X7_few_26] at h
    refine r_iload C dX7_few_26 (pc' := 28) rfl (j := 4) rfl ?_
    refine r_iload_n C dX7_few_28 (pc' := 29) rfl (j := 2) rfl ?_
    refine r_icmp_gt C dX7_few_29 (pc' := 32) rfl (tgt := 71) (by decide) (fun c_9 => ?_) (fun c_9 => ?_)
    · have h := it_t h c_9
      refine r_sub (lv' := []) [] rfl ?_
      exact hX71 M mMo.rf h
    · have h := it_f h c_9
      refine r_iload_n C dX7_few_32 (pc' := 33) rfl (j := 1) rfl ?_
      refine r_iload C dX7_few_33 (pc' := 35) rfl (j := 4) rfl ?_
      refine r_iconst C dX7_few_35 (pc' := 36) rfl (v := 1) rfl ?_
      refine r_iadd C dX7_few_36 (pc' := 37) rfl ?_
      refine r_imul C dX7_few_37 (pc' := 38) rfl ?_
      refine r_iconst C dX7_few_38 (pc' := 39) rfl (v := 1) rfl ?_
      refine r_isub C dX7_few_39 (pc' := 40) rfl ?_
      refine r_callSl (As := [.int ((x2 * (x5 + (1 : Int32))) - (1 : Int32))]) (rest := []) C (S_X7_tens h) (lw_S q1615 q1616 q112 q1617) hd_X7_tens rfl rfl (Nat.le_of_ble_eq_true rfl) (Nat.le_of_ble_eq_true rfl) (Nat.le_of_ble_eq_true rfl) rfl rfl (Nat.le_of_ble_eq_true rfl) (Nat.le_of_ble_eq_true rfl) dX7_few_40 (pc' := 43) rfl (fun r_11 M_10 h m_12 => ?_)
      refine r_lstore C (lv' := [(6, .long r_11), (0, .ref a0), (2, .int x2), (3, .int x3), (4, .int x4), (5, .int x5)]) dX7_few_43 (pc' := 45) rfl r_11 rfl (Nat.le_of_ble_eq_true rfl) rfl ?_
      refine r_aload_n C dX7_few_45 (pc' := 46) rfl (j := 1) rfl ?_
      refine r_iload_n C dX7_few_46 (pc' := 47) rfl (j := 2) rfl ?_
      refine r_iload C dX7_few_47 (pc' := 49) rfl (j := 5) rfl ?_
      refine r_callVl (As := [.int x2, .int x5]) (rest := []) (Cn := RX7) (T := TX7) C (mMo.kd m_12 k_a0 (by decide)) (by decide) vc_X7 (S_X7_goesThrough (mMo.kd m_12 k_a0 (by decide)) h) (lw_V q1608 q1610 qs86 q112 q1611) rfl hd_X7_goesThrough rfl rfl (Nat.le_of_ble_eq_true rfl) (Nat.le_of_ble_eq_true rfl) (Nat.le_of_ble_eq_true rfl) rfl rfl (Nat.le_of_ble_eq_true rfl) (Nat.le_of_ble_eq_true rfl) dX7_few_49 (pc' := 52) rfl (fun r_14 M_13 h m_15 => ?_)
      refine r_iload C dX7_few_52 (pc' := 54) rfl (j := 4) rfl ?_
      refine r_i2l C dX7_few_54 (pc' := 55) rfl ?_
      refine r_lload C dX7_few_55 (pc' := 57) rfl (j := 0) rfl ?_
      refine r_lmul C dX7_few_57 (pc' := 58) rfl ?_
      refine r_lc_lt C dX7_few_58 (pc1 := 59) (pc' := 62) rfl dX7_few_59 rfl (tgt := 65) (by decide) (fun c_16 => ?_) (fun c_16 => ?_)
      · have h := it_t h c_16
        obtain ⟨x5_17, e_18, h⟩ := bn_ h
        refine r_iinc C (lv' := [(5, .int x5_17), (6, .long r_11), (0, .ref a0), (2, .int x2), (3, .int x3), (4, .int x4)]) dX7_few_65 (pc' := 68) rfl (j := 5) rfl x5_17 (by rw [e_18]; rfl) (Nat.le_of_ble_eq_true rfl) rfl ?_
        refine r_goto C dX7_few_68 (tgt := 26) (by decide) ?_
        refine r_sub (lv' := [(0, .ref a0), (2, .int x2), (3, .int x3), (4, .int x4), (5, .int x5_17)]) [2, 3, 4, 5, 0] rfl ?_
        exact ih M_13 x5_17 (mMo.kd m_15 (mMo.kd m_12 k_a0 (by decide)) (by decide)) h (fun M9 w0 hm9 h9 => hX62 M9 w0 (mMo.tr (mMo.tr m_12 m_15) hm9) h9) (fun M9 hm9 h9 => hX71 M9 (mMo.tr (mMo.tr m_12 m_15) hm9) h9)
      · have h := it_f h c_16
        refine r_sub (lv' := [(5, .int x5)]) [5] rfl ?_
        exact hX62 M_13 x5 (mMo.tr m_12 m_15) h
set_option maxHeartbeats 4000000 in
theorem S_X7_few {D : DD} {l : Launch} {M : MM} {a0 : Nat} {x1 : Int32} {x2 : Int32} {x3 : Int32} {x4 : Int32} {Post : Int32 → MM → Prop} (k_a0 : mkd M a0 = 7) (h : wp_X7_few M a0 x1 x2 x3 x4 Post) : mMet D l yX7_few cX7_few 8 ((some .int)) { frames := 7, cells := 0, slots := 0, locals := 160 } M [.ref a0, .int x1, .int x2, .int x3, .int x4] (pI_ Post) := by
  refine m_of2 [(0, .ref a0), (1, .int x1), (2, .int x2), (3, .int x3), (4, .int x4)] (by decide +kernel) (Nat.le_of_ble_eq_true rfl) rfl (fun E hED hEl C hE => ?_)
  subst hED
  subst hEl
  unfold wp_X7_few at h
  refine r_aload_n C dX7_few_0 (pc' := 1) rfl (j := 0) rfl ?_
  refine r_iload_n C dX7_few_1 (pc' := 2) rfl (j := 1) rfl ?_
  refine r_iload_n C dX7_few_2 (pc' := 3) rfl (j := 2) rfl ?_
  refine r_iload_n C dX7_few_3 (pc' := 4) rfl (j := 3) rfl ?_
  refine r_callVi (As := [.int x1, .int x2, .int x3]) (rest := []) (Cn := RX7) (T := TX7) C k_a0 (by decide) vc_X7 (S_X7_canGo k_a0 h) (lw_V q1599 q1601 qs84 q112 q1602) rfl hd_X7_canGo rfl rfl (Nat.le_of_ble_eq_true rfl) (Nat.le_of_ble_eq_true rfl) (Nat.le_of_ble_eq_true rfl) rfl rfl (Nat.le_of_ble_eq_true rfl) (Nat.le_of_ble_eq_true rfl) dX7_few_4 (pc' := 7) rfl (fun r_2 M_1 h m_3 => ?_)
  refine r_if_eq C dX7_few_7 (pc' := 10) rfl (tgt := 21) (by decide) (fun c_4 => ?_) (fun c_4 => ?_)
  · have h := it_t h c_4
    refine r_iconst C dX7_few_21 (pc' := 22) rfl (v := -1) rfl ?_
    exact r_iret C hE (Nat.le_of_ble_eq_true rfl) (Nat.le_of_ble_eq_true rfl) dX7_few_22 ⟨_, rfl, h⟩
  · have h := it_f h c_4
    refine r_iload C dX7_few_10 (pc' := 12) rfl (j := 4) rfl ?_
    refine r_iconst C dX7_few_12 (pc' := 13) rfl (v := 0) rfl ?_
    refine r_bipush C dX7_few_13 (pc' := 15) rfl (v := 10) rfl ?_
    refine r_callSi (As := [.int x4, .int (0 : Int32), .int (10 : Int32)]) (rest := []) C (S_X7_in h) (lw_S q1391 q1392 q112 q1393) hd_X7_in rfl rfl (Nat.le_of_ble_eq_true rfl) (Nat.le_of_ble_eq_true rfl) (Nat.le_of_ble_eq_true rfl) rfl rfl (Nat.le_of_ble_eq_true rfl) (Nat.le_of_ble_eq_true rfl) dX7_few_15 (pc' := 18) rfl (fun r_6 M_5 h m_7 => ?_)
    refine r_if_ne C dX7_few_18 (pc' := 21) rfl (tgt := 23) (by decide) (fun c_8 => ?_) (fun c_8 => ?_)
    · have h := it_f h c_8
      refine r_iconst C dX7_few_23 (pc' := 24) rfl (v := 0) rfl ?_
      refine r_istore C (lv' := [(5, .int (0 : Int32)), (0, .ref a0), (1, .int x1), (2, .int x2), (3, .int x3), (4, .int x4)]) dX7_few_24 (pc' := 26) rfl (0 : Int32) rfl (Nat.le_of_ble_eq_true rfl) rfl ?_
      obtain ⟨n_19, h⟩ := h
      refine r_sub (lv' := [(0, .ref a0), (2, .int x2), (3, .int x3), (4, .int x4), (5, .int (0 : Int32))]) [1, 3, 4, 5, 0] rfl ?_
      refine B_X7_few_26 C hE n_19 M_5 (0 : Int32) (mMo.kd m_7 (mMo.kd m_3 k_a0 (by decide)) (by decide)) h (fun M_20 x5_22 m_21 h => ?_) (fun M_23 m_24 h => ?_)
      · refine r_iload C dX7_few_62 (pc' := 64) rfl (j := 0) rfl ?_
        exact r_iret C hE (Nat.le_of_ble_eq_true rfl) (Nat.le_of_ble_eq_true rfl) dX7_few_64 ⟨_, rfl, h⟩
      · refine r_bipush C dX7_few_71 (pc' := 73) rfl (v := -2) rfl ?_
        exact r_iret C hE (Nat.le_of_ble_eq_true rfl) (Nat.le_of_ble_eq_true rfl) dX7_few_73 ⟨_, rfl, h⟩
    · have h := it_t h c_8
      refine r_iconst C dX7_few_21 (pc' := 22) rfl (v := -1) rfl ?_
      exact r_iret C hE (Nat.le_of_ble_eq_true rfl) (Nat.le_of_ble_eq_true rfl) dX7_few_22 ⟨_, rfl, h⟩
set_option maxHeartbeats 4000000 in
theorem S_X7_pot {D : DD} {l : Launch} {M : MM} {a0 : Nat} {x1 : Int32} {x2 : Int32} {x3 : Int32} {x4 : Int32} {Post : Int64 → MM → Prop} (k_a0 : mkd M a0 = 7) (h : wp_X7_pot M a0 x1 x2 x3 x4 Post) : mMet D l yX7_pot cX7_pot 11 ((some .long)) { frames := 7, cells := 0, slots := 0, locals := 160 } M [.ref a0, .int x1, .int x2, .int x3, .int x4] (pL_ Post) := by
  refine m_of2 [(0, .ref a0), (1, .int x1), (2, .int x2), (3, .int x3), (4, .int x4)] (by decide +kernel) (Nat.le_of_ble_eq_true rfl) rfl (fun E hED hEl C hE => ?_)
  subst hED
  subst hEl
  unfold wp_X7_pot at h
  refine r_aload_n C dX7_pot_0 (pc' := 1) rfl (j := 0) rfl ?_
  refine r_iload_n C dX7_pot_1 (pc' := 2) rfl (j := 1) rfl ?_
  refine r_iload_n C dX7_pot_2 (pc' := 3) rfl (j := 2) rfl ?_
  refine r_iload_n C dX7_pot_3 (pc' := 4) rfl (j := 3) rfl ?_
  refine r_callVi (As := [.int x1, .int x2, .int x3]) (rest := []) (Cn := RX7) (T := TX7) C k_a0 (by decide) vc_X7 (S_X7_canGo k_a0 h) (lw_V q1599 q1601 qs84 q112 q1602) rfl hd_X7_canGo rfl rfl (Nat.le_of_ble_eq_true rfl) (Nat.le_of_ble_eq_true rfl) (Nat.le_of_ble_eq_true rfl) rfl rfl (Nat.le_of_ble_eq_true rfl) (Nat.le_of_ble_eq_true rfl) dX7_pot_4 (pc' := 7) rfl (fun r_2 M_1 h m_3 => ?_)
  refine r_if_eq C dX7_pot_7 (pc' := 10) rfl (tgt := 21) (by decide) (fun c_4 => ?_) (fun c_4 => ?_)
  · have h := it_t h c_4
    refine r_ldc2 C dX7_pot_21 (pc' := 24) rfl q1658 ?_
    exact r_lret C hE (Nat.le_of_ble_eq_true rfl) (Nat.le_of_ble_eq_true rfl) dX7_pot_24 ⟨_, rfl, h⟩
  · have h := it_f h c_4
    refine r_iload C dX7_pot_10 (pc' := 12) rfl (j := 4) rfl ?_
    refine r_iconst C dX7_pot_12 (pc' := 13) rfl (v := 4) rfl ?_
    refine r_bipush C dX7_pot_13 (pc' := 15) rfl (v := 24) rfl ?_
    refine r_callSi (As := [.int x4, .int (4 : Int32), .int (24 : Int32)]) (rest := []) C (S_X7_in h) (lw_S q1391 q1392 q112 q1393) hd_X7_in rfl rfl (Nat.le_of_ble_eq_true rfl) (Nat.le_of_ble_eq_true rfl) (Nat.le_of_ble_eq_true rfl) rfl rfl (Nat.le_of_ble_eq_true rfl) (Nat.le_of_ble_eq_true rfl) dX7_pot_15 (pc' := 18) rfl (fun r_6 M_5 h m_7 => ?_)
    refine r_if_ne C dX7_pot_18 (pc' := 21) rfl (tgt := 25) (by decide) (fun c_8 => ?_) (fun c_8 => ?_)
    · have h := it_f h c_8
      refine r_aload_n C dX7_pot_25 (pc' := 26) rfl (j := 0) rfl ?_
      refine r_iload_n C dX7_pot_26 (pc' := 27) rfl (j := 2) rfl ?_
      refine r_iload_n C dX7_pot_27 (pc' := 28) rfl (j := 3) rfl ?_
      refine r_callVl (As := [.int x2, .int x3]) (rest := []) (Cn := RX7) (T := TX7) C (mMo.kd m_7 (mMo.kd m_3 k_a0 (by decide)) (by decide)) (by decide) vc_X7 (S_X7_goesThrough (mMo.kd m_7 (mMo.kd m_3 k_a0 (by decide)) (by decide)) h) (lw_V q1608 q1610 qs86 q112 q1611) rfl hd_X7_goesThrough rfl rfl (Nat.le_of_ble_eq_true rfl) (Nat.le_of_ble_eq_true rfl) (Nat.le_of_ble_eq_true rfl) rfl rfl (Nat.le_of_ble_eq_true rfl) (Nat.le_of_ble_eq_true rfl) dX7_pot_28 (pc' := 31) rfl (fun r_10 M_9 h m_11 => ?_)
      refine r_lstore C (lv' := [(5, .long r_10), (0, .ref a0), (1, .int x1), (2, .int x2), (3, .int x3), (4, .int x4)]) dX7_pot_31 (pc' := 33) rfl r_10 rfl (Nat.le_of_ble_eq_true rfl) rfl ?_
      refine r_aload_n C dX7_pot_33 (pc' := 34) rfl (j := 1) rfl ?_
      refine r_getf C (Cn := RX7) (T := TX7) 0 (mMo.kd m_11 (mMo.kd m_7 (mMo.kd m_3 k_a0 (by decide)) (by decide)) (by decide)) (by decide) vc_X7 in_X7 (by decide) q1224 dX7_pot_34 (pc' := 37) rfl (v := va_rf (mgR M_9 a0 0)) rfl ?_
      obtain ⟨b_12, e_13, k_14, h⟩ := h
      refine r_ref [] e_13 ?_
      refine r_iconst C dX7_pot_37 (pc' := 38) rfl (v := 0) rfl ?_
      refine r_iload_n C dX7_pot_38 (pc' := 39) rfl (j := 2) rfl ?_
      refine r_iadd C dX7_pot_39 (pc' := 40) rfl ?_
      obtain ⟨c_15, h⟩ := h
      refine r_iald C (j := (ix_ ((0 : Int32) + x1))) k_14 c_15 rfl dX7_pot_40 (pc' := 41) rfl ?_
      obtain ⟨x7_16, e_17, h⟩ := bn_ h
      refine r_istore C (lv' := [(7, .int x7_16), (5, .long r_10), (0, .ref a0), (1, .int x1), (2, .int x2), (3, .int x3), (4, .int x4)]) dX7_pot_41 (pc' := 43) rfl x7_16 e_17 (Nat.le_of_ble_eq_true rfl) rfl ?_
      refine r_aload_n C dX7_pot_43 (pc' := 44) rfl (j := 2) rfl ?_
      refine r_getf C (Cn := RX7) (T := TX7) 0 (mMo.kd m_11 (mMo.kd m_7 (mMo.kd m_3 k_a0 (by decide)) (by decide)) (by decide)) (by decide) vc_X7 in_X7 (by decide) q1224 dX7_pot_44 (pc' := 47) rfl (v := va_rf (mgR M_9 a0 0)) rfl ?_
      obtain ⟨b_18, e_19, k_20, h⟩ := h
      refine r_ref [] e_19 ?_
      refine r_iconst C dX7_pot_47 (pc' := 48) rfl (v := 4) rfl ?_
      refine r_iload_n C dX7_pot_48 (pc' := 49) rfl (j := 3) rfl ?_
      refine r_iadd C dX7_pot_49 (pc' := 50) rfl ?_
      obtain ⟨c_21, h⟩ := h
      refine r_iald C (j := (ix_ ((4 : Int32) + x1))) k_20 c_21 rfl dX7_pot_50 (pc' := 51) rfl ?_
      obtain ⟨x8_22, e_23, h⟩ := bn_ h
      refine r_istore C (lv' := [(8, .int x8_22), (7, .int x7_16), (5, .long r_10), (0, .ref a0), (1, .int x1), (2, .int x2), (3, .int x3), (4, .int x4)]) dX7_pot_51 (pc' := 53) rfl x8_22 e_23 (Nat.le_of_ble_eq_true rfl) rfl ?_
      refine r_aload_n C dX7_pot_53 (pc' := 54) rfl (j := 3) rfl ?_
      refine r_getf C (Cn := RX7) (T := TX7) 0 (mMo.kd m_11 (mMo.kd m_7 (mMo.kd m_3 k_a0 (by decide)) (by decide)) (by decide)) (by decide) vc_X7 in_X7 (by decide) q1224 dX7_pot_54 (pc' := 57) rfl (v := va_rf (mgR M_9 a0 0)) rfl ?_
      obtain ⟨b_24, e_25, k_26, h⟩ := h
      refine r_ref [] e_25 ?_
      refine r_iconst C dX7_pot_57 (pc' := 58) rfl (v := 0) rfl ?_
      refine r_iload_n C dX7_pot_58 (pc' := 59) rfl (j := 4) rfl ?_
      refine r_iadd C dX7_pot_59 (pc' := 60) rfl ?_
      refine r_iload C dX7_pot_60 (pc' := 62) rfl (j := 7) rfl ?_
      obtain ⟨c_27, h⟩ := h
      obtain ⟨M_28, e_29, h⟩ := bn_ h
      refine r_iast C (j := (ix_ ((0 : Int32) + x1))) k_26 c_27 rfl dX7_pot_62 (pc' := 63) rfl M_28 e_29 ?_
      refine r_aload_n C dX7_pot_63 (pc' := 64) rfl (j := 3) rfl ?_
      refine r_getf C (Cn := RX7) (T := TX7) 0 (mMo.kd (mo_I e_29) (mMo.kd m_11 (mMo.kd m_7 (mMo.kd m_3 k_a0 (by decide)) (by decide)) (by decide)) (by decide)) (by decide) vc_X7 in_X7 (by decide) q1224 dX7_pot_64 (pc' := 67) rfl (v := va_rf (mgR M_28 a0 0)) rfl ?_
      obtain ⟨b_30, e_31, k_32, h⟩ := h
      refine r_ref [] e_31 ?_
      refine r_iconst C dX7_pot_67 (pc' := 68) rfl (v := 4) rfl ?_
      refine r_iload_n C dX7_pot_68 (pc' := 69) rfl (j := 4) rfl ?_
      refine r_iadd C dX7_pot_69 (pc' := 70) rfl ?_
      refine r_iload C dX7_pot_70 (pc' := 72) rfl (j := 7) rfl ?_
      refine r_iload C dX7_pot_72 (pc' := 74) rfl (j := 0) rfl ?_
      refine r_callSi (As := [.int x4, .int x8_22]) (rest := [.int ((4 : Int32) + x1), .ref b_30]) C (S_X7_min h) (lw_S q1417 q1418 q112 q1419) hd_X7_min rfl rfl (Nat.le_of_ble_eq_true rfl) (Nat.le_of_ble_eq_true rfl) (Nat.le_of_ble_eq_true rfl) rfl rfl (Nat.le_of_ble_eq_true rfl) (Nat.le_of_ble_eq_true rfl) dX7_pot_74 (pc' := 77) rfl (fun r_34 M_33 h m_35 => ?_)
      obtain ⟨c_36, h⟩ := h
      obtain ⟨M_37, e_38, h⟩ := bn_ h
      refine r_iast C (j := (ix_ ((4 : Int32) + x1))) (mMo.kd m_35 k_32 (by decide)) c_36 rfl dX7_pot_77 (pc' := 78) rfl M_37 e_38 ?_
      refine r_aload_n C dX7_pot_78 (pc' := 79) rfl (j := 3) rfl ?_
      refine r_aload_n C dX7_pot_79 (pc' := 80) rfl (j := 3) rfl ?_
      refine r_getf C (Cn := RX7) (T := TX7) 0 (mMo.kd (mo_I e_38) (mMo.kd m_35 (mMo.kd (mo_I e_29) (mMo.kd m_11 (mMo.kd m_7 (mMo.kd m_3 k_a0 (by decide)) (by decide)) (by decide)) (by decide)) (by decide)) (by decide)) (by decide) vc_X7 in_X7 (by decide) q1224 dX7_pot_80 (pc' := 83) rfl (v := va_rf (mgR M_37 a0 0)) rfl ?_
      obtain ⟨b_39, e_40, k_41, h⟩ := h
      refine r_ref [] e_40 ?_
      refine r_iconst C dX7_pot_83 (pc' := 84) rfl (v := 4) rfl ?_
      refine r_iload_n C dX7_pot_84 (pc' := 85) rfl (j := 4) rfl ?_
      refine r_iadd C dX7_pot_85 (pc' := 86) rfl ?_
      obtain ⟨c_42, h⟩ := h
      refine r_iald C (j := (ix_ ((4 : Int32) + x1))) k_41 c_42 rfl dX7_pot_86 (pc' := 87) rfl ?_
      obtain ⟨M_43, e_44, h⟩ := bn_ h
      refine r_putI C (Cn := RX7) (T := TX7) tyX7 34 (mMo.kd (mo_I e_38) (mMo.kd m_35 (mMo.kd (mo_I e_29) (mMo.kd m_11 (mMo.kd m_7 (mMo.kd m_3 k_a0 (by decide)) (by decide)) (by decide)) (by decide)) (by decide)) (by decide)) (by decide) vc_X7 in_X7 tyX7_ok nmX7 (by decide) q1258 rfl rfl dX7_pot_87 (pc' := 90) rfl rfl rfl M_43 e_44 ?_
      refine r_aload_n C dX7_pot_90 (pc' := 91) rfl (j := 3) rfl ?_
      refine r_iload_n C dX7_pot_91 (pc' := 92) rfl (j := 5) rfl ?_
      refine r_iload_n C dX7_pot_92 (pc' := 93) rfl (j := 6) rfl ?_
      refine r_callVl (As := [.int x2, .int x3]) (rest := []) (Cn := RX7) (T := TX7) C (mMo.kd (mo_I e_44) (mMo.kd (mo_I e_38) (mMo.kd m_35 (mMo.kd (mo_I e_29) (mMo.kd m_11 (mMo.kd m_7 (mMo.kd m_3 k_a0 (by decide)) (by decide)) (by decide)) (by decide)) (by decide)) (by decide)) (by decide)) (by decide) vc_X7 (S_X7_goesThrough (mMo.kd (mo_I e_44) (mMo.kd (mo_I e_38) (mMo.kd m_35 (mMo.kd (mo_I e_29) (mMo.kd m_11 (mMo.kd m_7 (mMo.kd m_3 k_a0 (by decide)) (by decide)) (by decide)) (by decide)) (by decide)) (by decide)) (by decide)) h) (lw_V q1608 q1610 qs86 q112 q1611) rfl hd_X7_goesThrough rfl rfl (Nat.le_of_ble_eq_true rfl) (Nat.le_of_ble_eq_true rfl) (Nat.le_of_ble_eq_true rfl) rfl rfl (Nat.le_of_ble_eq_true rfl) (Nat.le_of_ble_eq_true rfl) dX7_pot_93 (pc' := 96) rfl (fun r_46 M_45 h m_47 => ?_)
      refine r_lstore C (lv' := [(9, .long r_46), (8, .int x8_22), (7, .int x7_16), (5, .long r_10), (0, .ref a0), (1, .int x1), (2, .int x2), (3, .int x3), (4, .int x4)]) dX7_pot_96 (pc' := 98) rfl r_46 rfl (Nat.le_of_ble_eq_true rfl) rfl ?_
      refine r_aload_n C dX7_pot_98 (pc' := 99) rfl (j := 4) rfl ?_
      refine r_getf C (Cn := RX7) (T := TX7) 0 (mMo.kd m_47 (mMo.kd (mo_I e_44) (mMo.kd (mo_I e_38) (mMo.kd m_35 (mMo.kd (mo_I e_29) (mMo.kd m_11 (mMo.kd m_7 (mMo.kd m_3 k_a0 (by decide)) (by decide)) (by decide)) (by decide)) (by decide)) (by decide)) (by decide)) (by decide)) (by decide) vc_X7 in_X7 (by decide) q1224 dX7_pot_99 (pc' := 102) rfl (v := va_rf (mgR M_45 a0 0)) rfl ?_
      obtain ⟨b_48, e_49, k_50, h⟩ := h
      refine r_ref [] e_49 ?_
      refine r_iconst C dX7_pot_102 (pc' := 103) rfl (v := 0) rfl ?_
      refine r_iload_n C dX7_pot_103 (pc' := 104) rfl (j := 5) rfl ?_
      refine r_iadd C dX7_pot_104 (pc' := 105) rfl ?_
      refine r_iload C dX7_pot_105 (pc' := 107) rfl (j := 2) rfl ?_
      obtain ⟨c_51, h⟩ := h
      obtain ⟨M_52, e_53, h⟩ := bn_ h
      refine r_iast C (j := (ix_ ((0 : Int32) + x1))) k_50 c_51 rfl dX7_pot_107 (pc' := 108) rfl M_52 e_53 ?_
      refine r_aload_n C dX7_pot_108 (pc' := 109) rfl (j := 4) rfl ?_
      refine r_getf C (Cn := RX7) (T := TX7) 0 (mMo.kd (mo_I e_53) (mMo.kd m_47 (mMo.kd (mo_I e_44) (mMo.kd (mo_I e_38) (mMo.kd m_35 (mMo.kd (mo_I e_29) (mMo.kd m_11 (mMo.kd m_7 (mMo.kd m_3 k_a0 (by decide)) (by decide)) (by decide)) (by decide)) (by decide)) (by decide)) (by decide)) (by decide)) (by decide)) (by decide) vc_X7 in_X7 (by decide) q1224 dX7_pot_109 (pc' := 112) rfl (v := va_rf (mgR M_52 a0 0)) rfl ?_
      obtain ⟨b_54, e_55, k_56, h⟩ := h
      refine r_ref [] e_55 ?_
      refine r_iconst C dX7_pot_112 (pc' := 113) rfl (v := 4) rfl ?_
      refine r_iload_n C dX7_pot_113 (pc' := 114) rfl (j := 5) rfl ?_
      refine r_iadd C dX7_pot_114 (pc' := 115) rfl ?_
      refine r_iload C dX7_pot_115 (pc' := 117) rfl (j := 1) rfl ?_
      obtain ⟨c_57, h⟩ := h
      obtain ⟨M_58, e_59, h⟩ := bn_ h
      refine r_iast C (j := (ix_ ((4 : Int32) + x1))) k_56 c_57 rfl dX7_pot_117 (pc' := 118) rfl M_58 e_59 ?_
      refine r_lload C dX7_pot_118 (pc' := 120) rfl (j := 0) rfl ?_
      refine r_lload C dX7_pot_120 (pc' := 122) rfl (j := 3) rfl ?_
      refine r_lsub C dX7_pot_122 (pc' := 123) rfl ?_
      exact r_lret C hE (Nat.le_of_ble_eq_true rfl) (Nat.le_of_ble_eq_true rfl) dX7_pot_123 ⟨_, rfl, h⟩
    · have h := it_t h c_8
      refine r_ldc2 C dX7_pot_21 (pc' := 24) rfl q1658 ?_
      exact r_lret C hE (Nat.le_of_ble_eq_true rfl) (Nat.le_of_ble_eq_true rfl) dX7_pot_24 ⟨_, rfl, h⟩
set_option maxHeartbeats 4000000 in
theorem B_X7_ruleFor_52 {E : mE} {a0 : Nat} {x2 : Int32} {x3 : Int32} {x5 : Int32} {X98 : MM → Int32 → Int64 → Prop} {Post : Int64 → MM → Prop} (C : mC E yX7_ruleFor cX7_ruleFor 12 ((some .long)) { frames := 7, cells := 0, slots := 0, locals := 160 }) (hE : mEnd E { frames := 7, cells := 0, slots := 0, locals := 160 } (pL_ Post)) : ∀ (n_ : Nat) (M : MM) (x6 : Int32) (x7 : Int64) (x9 : Int32), mkd M a0 = 7 → wl_X7_ruleFor_52 a0 x2 x3 x5 X98 n_ M x6 x7 x9 → (∀ (M' : MM) (x6' : Int32) (x7' : Int64), mMo M M' → X98 M' x6' x7' → mV E M' 0 0 98 [(0, .ref a0), (5, .int x5), (6, .int x6'), (7, .long x7')] []) → mV E M 0 0 52 [(0, .ref a0), (2, .int x2), (3, .int x3), (5, .int x5), (6, .int x6), (7, .long x7), (9, .int x9)] [] := by
  intro n_
  induction n_ with
  | zero =>
    intro M x6 x7 x9 k_a0 h hX98
    exact absurd h (by rw [wl_X7_ruleFor_52]; exact fun q => q)
  | succ n_ ih =>
    intro M x6 x7 x9 k_a0 h hX98
    rw [wl_X7_ruleFor_52] at h
    refine r_iload C dX7_ruleFor_52 (pc' := 54) rfl (j := 6) rfl ?_
    refine r_bipush C dX7_ruleFor_54 (pc' := 56) rfl (v := 24) rfl ?_
    refine r_icmp_gt C dX7_ruleFor_56 (pc' := 59) rfl (tgt := 98) (by decide) (fun c_15 => ?_) (fun c_15 => ?_)
    · have h := it_t h c_15
      refine r_sub (lv' := [(0, .ref a0), (5, .int x5), (6, .int x6), (7, .long x7)]) [0, 3, 4, 5] rfl ?_
      exact hX98 M x6 x7 mMo.rf h
    · have h := it_f h c_15
      refine r_aload_n C dX7_ruleFor_59 (pc' := 60) rfl (j := 0) rfl ?_
      refine r_iload C dX7_ruleFor_60 (pc' := 62) rfl (j := 6) rfl ?_
      obtain ⟨M_16, e_17, h⟩ := bn_ h
      refine r_putI C (Cn := RX7) (T := TX7) tyX7 32 k_a0 (by decide) vc_X7 in_X7 tyX7_ok nmX7 (by decide) q1256 rfl rfl dX7_ruleFor_62 (pc' := 65) rfl rfl rfl M_16 e_17 ?_
      refine r_aload_n C dX7_ruleFor_65 (pc' := 66) rfl (j := 0) rfl ?_
      refine r_iload_n C dX7_ruleFor_66 (pc' := 67) rfl (j := 1) rfl ?_
      refine r_iload_n C dX7_ruleFor_67 (pc' := 68) rfl (j := 2) rfl ?_
      refine r_callVl (As := [.int x2, .int x3]) (rest := []) (Cn := RX7) (T := TX7) C (mMo.kd (mo_I e_17) k_a0 (by decide)) (by decide) vc_X7 (S_X7_goesThrough (mMo.kd (mo_I e_17) k_a0 (by decide)) h) (lw_V q1608 q1610 qs86 q112 q1611) rfl hd_X7_goesThrough rfl rfl (Nat.le_of_ble_eq_true rfl) (Nat.le_of_ble_eq_true rfl) (Nat.le_of_ble_eq_true rfl) rfl rfl (Nat.le_of_ble_eq_true rfl) (Nat.le_of_ble_eq_true rfl) dX7_ruleFor_68 (pc' := 71) rfl (fun r_19 M_18 h m_20 => ?_)
      refine r_lstore C (lv' := [(10, .long r_19), (0, .ref a0), (2, .int x2), (3, .int x3), (5, .int x5), (6, .int x6), (7, .long x7), (9, .int x9)]) dX7_ruleFor_71 (pc' := 73) rfl r_19 rfl (Nat.le_of_ble_eq_true rfl) rfl ?_
      refine r_lload C dX7_ruleFor_73 (pc' := 75) rfl (j := 0) rfl ?_
      refine r_lload C dX7_ruleFor_75 (pc' := 77) rfl (j := 6) rfl ?_
      refine r_lc_gt C dX7_ruleFor_77 (pc1 := 78) (pc' := 81) rfl dX7_ruleFor_78 rfl (tgt := 84) (by decide) (fun c_21 => ?_) (fun c_21 => ?_)
      · have h := it_t h c_21
        refine r_lload C dX7_ruleFor_84 (pc' := 86) rfl (j := 0) rfl ?_
        refine r_lstore C (lv' := [(7, .long r_19), (10, .long r_19), (0, .ref a0), (2, .int x2), (3, .int x3), (5, .int x5), (6, .int x6), (9, .int x9)]) dX7_ruleFor_86 (pc' := 88) rfl r_19 rfl (Nat.le_of_ble_eq_true rfl) rfl ?_
        refine r_iload C dX7_ruleFor_88 (pc' := 90) rfl (j := 7) rfl ?_
        refine r_istore C (lv' := [(6, .int x9), (7, .long r_19), (10, .long r_19), (0, .ref a0), (2, .int x2), (3, .int x3), (5, .int x5), (9, .int x9)]) dX7_ruleFor_90 (pc' := 92) rfl x9 rfl (Nat.le_of_ble_eq_true rfl) rfl ?_
        obtain ⟨x9_22, e_23, h⟩ := bn_ h
        refine r_iinc C (lv' := [(9, .int x9_22), (6, .int x9), (7, .long r_19), (10, .long r_19), (0, .ref a0), (2, .int x2), (3, .int x3), (5, .int x5)]) dX7_ruleFor_92 (pc' := 95) rfl (j := 7) rfl x9_22 (by rw [e_23]; rfl) (Nat.le_of_ble_eq_true rfl) rfl ?_
        refine r_goto C dX7_ruleFor_95 (tgt := 52) (by decide) ?_
        refine r_sub (lv' := [(0, .ref a0), (2, .int x2), (3, .int x3), (5, .int x5), (6, .int x9), (7, .long r_19), (9, .int x9_22)]) [4, 5, 6, 7, 1, 2, 0] rfl ?_
        exact ih M_18 x9 r_19 x9_22 (mMo.kd m_20 (mMo.kd (mo_I e_17) k_a0 (by decide)) (by decide)) h (fun M9 w0 w1 hm9 h9 => hX98 M9 w0 w1 (mMo.tr (mMo.tr (mo_I e_17) m_20) hm9) h9)
      · have h := it_f h c_21
        refine r_goto C dX7_ruleFor_81 (tgt := 92) (by decide) ?_
        obtain ⟨x9_24, e_25, h⟩ := bn_ h
        refine r_iinc C (lv' := [(9, .int x9_24), (10, .long r_19), (0, .ref a0), (2, .int x2), (3, .int x3), (5, .int x5), (6, .int x6), (7, .long x7)]) dX7_ruleFor_92 (pc' := 95) rfl (j := 7) rfl x9_24 (by rw [e_25]; rfl) (Nat.le_of_ble_eq_true rfl) rfl ?_
        refine r_goto C dX7_ruleFor_95 (tgt := 52) (by decide) ?_
        refine r_sub (lv' := [(0, .ref a0), (2, .int x2), (3, .int x3), (5, .int x5), (6, .int x6), (7, .long x7), (9, .int x9_24)]) [2, 3, 4, 5, 6, 7, 0] rfl ?_
        exact ih M_18 x6 x7 x9_24 (mMo.kd m_20 (mMo.kd (mo_I e_17) k_a0 (by decide)) (by decide)) h (fun M9 w0 w1 hm9 h9 => hX98 M9 w0 w1 (mMo.tr (mMo.tr (mo_I e_17) m_20) hm9) h9)
set_option maxHeartbeats 4000000 in
theorem S_X7_ruleFor {D : DD} {l : Launch} {M : MM} {a0 : Nat} {x1 : Int32} {x2 : Int32} {x3 : Int32} {x4 : Int32} {x5 : Int32} {Post : Int64 → MM → Prop} (k_a0 : mkd M a0 = 7) (h : wp_X7_ruleFor M a0 x1 x2 x3 x4 x5 Post) : mMet D l yX7_ruleFor cX7_ruleFor 12 ((some .long)) { frames := 7, cells := 0, slots := 0, locals := 160 } M [.ref a0, .int x1, .int x2, .int x3, .int x4, .int x5] (pL_ Post) := by
  refine m_of2 [(0, .ref a0), (1, .int x1), (2, .int x2), (3, .int x3), (4, .int x4), (5, .int x5)] (by decide +kernel) (Nat.le_of_ble_eq_true rfl) rfl (fun E hED hEl C hE => ?_)
  subst hED
  subst hEl
  unfold wp_X7_ruleFor at h
  refine r_aload_n C dX7_ruleFor_0 (pc' := 1) rfl (j := 0) rfl ?_
  refine r_iload_n C dX7_ruleFor_1 (pc' := 2) rfl (j := 1) rfl ?_
  refine r_iload_n C dX7_ruleFor_2 (pc' := 3) rfl (j := 2) rfl ?_
  refine r_iload_n C dX7_ruleFor_3 (pc' := 4) rfl (j := 3) rfl ?_
  refine r_callVi (As := [.int x1, .int x2, .int x3]) (rest := []) (Cn := RX7) (T := TX7) C k_a0 (by decide) vc_X7 (S_X7_canGo k_a0 h) (lw_V q1599 q1601 qs84 q112 q1602) rfl hd_X7_canGo rfl rfl (Nat.le_of_ble_eq_true rfl) (Nat.le_of_ble_eq_true rfl) (Nat.le_of_ble_eq_true rfl) rfl rfl (Nat.le_of_ble_eq_true rfl) (Nat.le_of_ble_eq_true rfl) dX7_ruleFor_4 (pc' := 7) rfl (fun r_2 M_1 h m_3 => ?_)
  refine r_if_eq C dX7_ruleFor_7 (pc' := 10) rfl (tgt := 31) (by decide) (fun c_4 => ?_) (fun c_4 => ?_)
  · have h := it_t h c_4
    refine r_ldc2 C dX7_ruleFor_31 (pc' := 34) rfl q1607 ?_
    exact r_lret C hE (Nat.le_of_ble_eq_true rfl) (Nat.le_of_ble_eq_true rfl) dX7_ruleFor_34 ⟨_, rfl, h⟩
  · have h := it_f h c_4
    refine r_iload C dX7_ruleFor_10 (pc' := 12) rfl (j := 4) rfl ?_
    refine r_iconst C dX7_ruleFor_12 (pc' := 13) rfl (v := 1) rfl ?_
    refine r_bipush C dX7_ruleFor_13 (pc' := 15) rfl (v := 9) rfl ?_
    refine r_callSi (As := [.int x4, .int (1 : Int32), .int (9 : Int32)]) (rest := []) C (S_X7_in h) (lw_S q1391 q1392 q112 q1393) hd_X7_in rfl rfl (Nat.le_of_ble_eq_true rfl) (Nat.le_of_ble_eq_true rfl) (Nat.le_of_ble_eq_true rfl) rfl rfl (Nat.le_of_ble_eq_true rfl) (Nat.le_of_ble_eq_true rfl) dX7_ruleFor_15 (pc' := 18) rfl (fun r_6 M_5 h m_7 => ?_)
    refine r_if_eq C dX7_ruleFor_18 (pc' := 21) rfl (tgt := 31) (by decide) (fun c_8 => ?_) (fun c_8 => ?_)
    · have h := it_t h c_8
      refine r_ldc2 C dX7_ruleFor_31 (pc' := 34) rfl q1607 ?_
      exact r_lret C hE (Nat.le_of_ble_eq_true rfl) (Nat.le_of_ble_eq_true rfl) dX7_ruleFor_34 ⟨_, rfl, h⟩
    · have h := it_f h c_8
      refine r_iload C dX7_ruleFor_21 (pc' := 23) rfl (j := 5) rfl ?_
      refine r_iconst C dX7_ruleFor_23 (pc' := 24) rfl (v := 0) rfl ?_
      refine r_iconst C dX7_ruleFor_24 (pc' := 25) rfl (v := 1) rfl ?_
      refine r_callSi (As := [.int x5, .int (0 : Int32), .int (1 : Int32)]) (rest := []) C (S_X7_in h) (lw_S q1391 q1392 q112 q1393) hd_X7_in rfl rfl (Nat.le_of_ble_eq_true rfl) (Nat.le_of_ble_eq_true rfl) (Nat.le_of_ble_eq_true rfl) rfl rfl (Nat.le_of_ble_eq_true rfl) (Nat.le_of_ble_eq_true rfl) dX7_ruleFor_25 (pc' := 28) rfl (fun r_10 M_9 h m_11 => ?_)
      refine r_if_ne C dX7_ruleFor_28 (pc' := 31) rfl (tgt := 35) (by decide) (fun c_12 => ?_) (fun c_12 => ?_)
      · have h := it_f h c_12
        refine r_iconst C dX7_ruleFor_35 (pc' := 36) rfl (v := 0) rfl ?_
        refine r_istore C (lv' := [(6, .int (0 : Int32)), (0, .ref a0), (1, .int x1), (2, .int x2), (3, .int x3), (4, .int x4), (5, .int x5)]) dX7_ruleFor_36 (pc' := 38) rfl (0 : Int32) rfl (Nat.le_of_ble_eq_true rfl) rfl ?_
        refine r_ldc2 C dX7_ruleFor_38 (pc' := 41) rfl q1607 ?_
        refine r_lstore C (lv' := [(7, .long (-1 : Int64)), (6, .int (0 : Int32)), (0, .ref a0), (1, .int x1), (2, .int x2), (3, .int x3), (4, .int x4), (5, .int x5)]) dX7_ruleFor_41 (pc' := 43) rfl (-1 : Int64) rfl (Nat.le_of_ble_eq_true rfl) rfl ?_
        refine r_aload_n C dX7_ruleFor_43 (pc' := 44) rfl (j := 2) rfl ?_
        refine r_iload C dX7_ruleFor_44 (pc' := 46) rfl (j := 6) rfl ?_
        obtain ⟨M_13, e_14, h⟩ := bn_ h
        refine r_putI C (Cn := RX7) (T := TX7) tyX7 31 (mMo.kd m_11 (mMo.kd m_7 (mMo.kd m_3 k_a0 (by decide)) (by decide)) (by decide)) (by decide) vc_X7 in_X7 tyX7_ok nmX7 (by decide) q1255 rfl rfl dX7_ruleFor_46 (pc' := 49) rfl rfl rfl M_13 e_14 ?_
        refine r_iconst C dX7_ruleFor_49 (pc' := 50) rfl (v := 0) rfl ?_
        refine r_istore C (lv' := [(9, .int (0 : Int32)), (7, .long (-1 : Int64)), (6, .int (0 : Int32)), (0, .ref a0), (1, .int x1), (2, .int x2), (3, .int x3), (4, .int x4), (5, .int x5)]) dX7_ruleFor_50 (pc' := 52) rfl (0 : Int32) rfl (Nat.le_of_ble_eq_true rfl) rfl ?_
        obtain ⟨n_26, h⟩ := h
        refine r_sub (lv' := [(0, .ref a0), (2, .int x2), (3, .int x3), (5, .int x5), (6, .int (0 : Int32)), (7, .long (-1 : Int64)), (9, .int (0 : Int32))]) [3, 5, 6, 8, 2, 1, 0] rfl ?_
        refine B_X7_ruleFor_52 C hE n_26 M_13 (0 : Int32) (-1 : Int64) (0 : Int32) (mMo.kd (mo_I e_14) (mMo.kd m_11 (mMo.kd m_7 (mMo.kd m_3 k_a0 (by decide)) (by decide)) (by decide)) (by decide)) h (fun M_27 x6_29 x7_30 m_28 h => ?_)
        refine r_aload_n C dX7_ruleFor_98 (pc' := 99) rfl (j := 0) rfl ?_
        refine r_iconst C dX7_ruleFor_99 (pc' := 100) rfl (v := -1) rfl ?_
        obtain ⟨M_31, e_32, h⟩ := bn_ h
        refine r_putI C (Cn := RX7) (T := TX7) tyX7 31 (mMo.kd m_28 (mMo.kd (mo_I e_14) (mMo.kd m_11 (mMo.kd m_7 (mMo.kd m_3 k_a0 (by decide)) (by decide)) (by decide)) (by decide)) (by decide)) (by decide) vc_X7 in_X7 tyX7_ok nmX7 (by decide) q1255 rfl rfl dX7_ruleFor_100 (pc' := 103) rfl rfl rfl M_31 e_32 ?_
        refine r_iload C dX7_ruleFor_103 (pc' := 105) rfl (j := 1) rfl ?_
        refine r_if_ne C dX7_ruleFor_105 (pc' := 108) rfl (tgt := 114) (by decide) (fun c_33 => ?_) (fun c_33 => ?_)
        · have h := it_f h c_33
          refine r_lload C dX7_ruleFor_114 (pc' := 116) rfl (j := 3) rfl ?_
          exact r_lret C hE (Nat.le_of_ble_eq_true rfl) (Nat.le_of_ble_eq_true rfl) dX7_ruleFor_116 ⟨_, rfl, h⟩
        · have h := it_t h c_33
          refine r_iload C dX7_ruleFor_108 (pc' := 110) rfl (j := 2) rfl ?_
          refine r_i2l C dX7_ruleFor_110 (pc' := 111) rfl ?_
          refine r_goto C dX7_ruleFor_111 (tgt := 116) (by decide) ?_
          exact r_lret C hE (Nat.le_of_ble_eq_true rfl) (Nat.le_of_ble_eq_true rfl) dX7_ruleFor_116 ⟨_, rfl, h⟩
      · have h := it_t h c_12
        refine r_ldc2 C dX7_ruleFor_31 (pc' := 34) rfl q1607 ?_
        exact r_lret C hE (Nat.le_of_ble_eq_true rfl) (Nat.le_of_ble_eq_true rfl) dX7_ruleFor_34 ⟨_, rfl, h⟩
set_option maxHeartbeats 4000000 in
theorem B_X7_lastsWith_42 {E : mE} {a0 : Nat} {x1 : Int32} {X62 : MM → Int32 → Prop} {X88 : MM → Int32 → Prop} {Post : Int32 → MM → Prop} (C : mC E yX7_lastsWith cX7_lastsWith 4 ((some .int)) { frames := 4, cells := 0, slots := 0, locals := 99 }) (hE : mEnd E { frames := 4, cells := 0, slots := 0, locals := 99 } (pI_ Post)) : ∀ (n_ : Nat) (M : MM) (x3 : Int32), mkd M a0 = 7 → wl_X7_lastsWith_42 a0 x1 X62 X88 n_ M x3 → (∀ (M' : MM) (x3' : Int32), mMo M M' → X62 M' x3' → mV E M' 0 0 62 [(0, .ref a0), (3, .int x3')] []) → (∀ (M' : MM) (x3' : Int32), mMo M M' → X88 M' x3' → mV E M' 0 0 88 [(0, .ref a0), (3, .int x3')] []) → mV E M 0 0 42 [(0, .ref a0), (1, .int x1), (3, .int x3)] [] := by
  intro n_
  induction n_ with
  | zero =>
    intro M x3 k_a0 h hX62 hX88
    exact absurd h (by rw [wl_X7_lastsWith_42]; exact fun q => q)
  | succ n_ ih =>
    intro M x3 k_a0 h hX62 hX88
    rw [wl_X7_lastsWith_42] at h
    refine r_iload_n C dX7_lastsWith_42 (pc' := 43) rfl (j := 2) rfl ?_
    refine r_bipush C dX7_lastsWith_43 (pc' := 45) rfl (v := 60) rfl ?_
    refine r_icmp_ge C dX7_lastsWith_45 (pc' := 48) rfl (tgt := 88) (by decide) (fun c_27 => ?_) (fun c_27 => ?_)
    · have h := it_t h c_27
      refine r_sub (lv' := [(0, .ref a0), (3, .int x3)]) [0, 2] rfl ?_
      exact hX88 M x3 mMo.rf h
    · have h := it_f h c_27
      refine r_aload_n C dX7_lastsWith_48 (pc' := 49) rfl (j := 0) rfl ?_
      refine r_iload_n C dX7_lastsWith_49 (pc' := 50) rfl (j := 1) rfl ?_
      refine r_iconst C dX7_lastsWith_50 (pc' := 51) rfl (v := 0) rfl ?_
      refine r_callVv (As := [.int x1, .int (0 : Int32)]) (rest := []) (Cn := RX7) (T := TX7) C k_a0 (by decide) vc_X7 (S_X7_dries k_a0 h) (lw_V q1577 q1579 qs83 q112 q1580) rfl hd_X7_dries rfl rfl (Nat.le_of_ble_eq_true rfl) (Nat.le_of_ble_eq_true rfl) (Nat.le_of_ble_eq_true rfl) rfl rfl (Nat.le_of_ble_eq_true rfl) (Nat.le_of_ble_eq_true rfl) dX7_lastsWith_51 (pc' := 54) rfl (fun M_28 h m_30 => ?_)
      refine r_aload_n C dX7_lastsWith_54 (pc' := 55) rfl (j := 0) rfl ?_
      refine r_iload_n C dX7_lastsWith_55 (pc' := 56) rfl (j := 1) rfl ?_
      refine r_callVi (As := [.int x1]) (rest := []) (Cn := RX7) (T := TX7) C (mMo.kd m_30 k_a0 (by decide)) (by decide) vc_X7 (S_X7_lives (mMo.kd m_30 k_a0 (by decide)) h) (lw_V q1413 q1415 qs52 q112 q1416) rfl hd_X7_lives rfl rfl (Nat.le_of_ble_eq_true rfl) (Nat.le_of_ble_eq_true rfl) (Nat.le_of_ble_eq_true rfl) rfl rfl (Nat.le_of_ble_eq_true rfl) (Nat.le_of_ble_eq_true rfl) dX7_lastsWith_56 (pc' := 59) rfl (fun r_32 M_31 h m_33 => ?_)
      refine r_if_ne C dX7_lastsWith_59 (pc' := 62) rfl (tgt := 65) (by decide) (fun c_34 => ?_) (fun c_34 => ?_)
      · have h := it_f h c_34
        refine r_aload_n C dX7_lastsWith_65 (pc' := 66) rfl (j := 0) rfl ?_
        refine r_getf C (Cn := RX7) (T := TX7) 0 (mMo.kd m_33 (mMo.kd m_30 k_a0 (by decide)) (by decide)) (by decide) vc_X7 in_X7 (by decide) q1224 dX7_lastsWith_66 (pc' := 69) rfl (v := va_rf (mgR M_31 a0 0)) rfl ?_
        obtain ⟨b_35, e_36, k_37, h⟩ := h
        refine r_ref [] e_36 ?_
        refine r_bipush C dX7_lastsWith_69 (pc' := 71) rfl (v := 79) rfl ?_
        refine r_aload_n C dX7_lastsWith_71 (pc' := 72) rfl (j := 0) rfl ?_
        refine r_getf C (Cn := RX7) (T := TX7) 0 (mMo.kd m_33 (mMo.kd m_30 k_a0 (by decide)) (by decide)) (by decide) vc_X7 in_X7 (by decide) q1224 dX7_lastsWith_72 (pc' := 75) rfl (v := va_rf (mgR M_31 a0 0)) rfl ?_
        obtain ⟨b_38, e_39, k_40, h⟩ := h
        refine r_ref [] e_39 ?_
        refine r_bipush C dX7_lastsWith_75 (pc' := 77) rfl (v := 79) rfl ?_
        obtain ⟨c_41, h⟩ := h
        refine r_iald C (j := 79) k_40 (vp_l (by decide) (by decide) c_41) (by decide) dX7_lastsWith_77 (pc' := 78) rfl ?_
        refine r_iconst C dX7_lastsWith_78 (pc' := 79) rfl (v := 1) rfl ?_
        refine r_iadd C dX7_lastsWith_79 (pc' := 80) rfl ?_
        obtain ⟨c_42, h⟩ := h
        obtain ⟨M_43, e_44, h⟩ := bn_ h
        refine r_iast C (j := 79) k_37 (vp_l (by decide) (by decide) c_42) (by decide) dX7_lastsWith_80 (pc' := 81) rfl M_43 e_44 ?_
        refine r_iload_n C dX7_lastsWith_81 (pc' := 82) rfl (j := 2) rfl ?_
        refine r_iconst C dX7_lastsWith_82 (pc' := 83) rfl (v := 1) rfl ?_
        refine r_iadd C dX7_lastsWith_83 (pc' := 84) rfl ?_
        obtain ⟨x3_45, e_46, h⟩ := bn_ h
        refine r_istore_n C (lv' := [(3, .int x3_45), (0, .ref a0), (1, .int x1)]) dX7_lastsWith_84 (pc' := 85) rfl rfl x3_45 e_46 (Nat.le_of_ble_eq_true rfl) rfl ?_
        refine r_goto C dX7_lastsWith_85 (tgt := 42) (by decide) ?_
        refine r_sub (lv' := [(0, .ref a0), (1, .int x1), (3, .int x3_45)]) [1, 2, 0] rfl ?_
        exact ih M_43 x3_45 (mMo.kd (mo_I e_44) (mMo.kd m_33 (mMo.kd m_30 k_a0 (by decide)) (by decide)) (by decide)) h (fun M9 w0 hm9 h9 => hX62 M9 w0 (mMo.tr (mMo.tr (mMo.tr m_30 m_33) (mo_I e_44)) hm9) h9) (fun M9 w0 hm9 h9 => hX88 M9 w0 (mMo.tr (mMo.tr (mMo.tr m_30 m_33) (mo_I e_44)) hm9) h9)
      · have h := it_t h c_34
        refine r_sub (lv' := [(0, .ref a0), (3, .int x3)]) [0, 2] rfl ?_
        exact hX62 M_31 x3 (mMo.tr m_30 m_33) h
set_option maxHeartbeats 4000000 in
theorem B_X7_lastsWith_88 {E : mE} {M : MM} {a0 : Nat} {x3 : Int32} {Post : Int32 → MM → Prop} (C : mC E yX7_lastsWith cX7_lastsWith 4 ((some .int)) { frames := 4, cells := 0, slots := 0, locals := 99 }) (hE : mEnd E { frames := 4, cells := 0, slots := 0, locals := 99 } (pI_ Post)) (k_a0 : mkd M a0 = 7) (h : wb_X7_lastsWith_88 M a0 x3 Post) : mV E M 0 0 88 [(0, .ref a0), (3, .int x3)] [] := by
  unfold wb_X7_lastsWith_88 at h
  refine r_aload_n C dX7_lastsWith_88 (pc' := 89) rfl (j := 0) rfl ?_
  refine r_getf C (Cn := RX7) (T := TX7) 1 k_a0 (by decide) vc_X7 in_X7 (by decide) q1225 dX7_lastsWith_89 (pc' := 92) rfl (v := va_rf (mgR M a0 1)) rfl ?_
  obtain ⟨b_51, e_52, k_53, h⟩ := h
  refine r_ref [] e_52 ?_
  refine r_aload_n C dX7_lastsWith_92 (pc' := 93) rfl (j := 0) rfl ?_
  refine r_getf C (Cn := RX7) (T := TX7) 0 k_a0 (by decide) vc_X7 in_X7 (by decide) q1224 dX7_lastsWith_93 (pc' := 96) rfl (v := va_rf (mgR M a0 0)) rfl ?_
  obtain ⟨b_54, e_55, k_56, h⟩ := h
  refine r_ref [] e_55 ?_
  refine r_callSv (As := [.ref b_51, .ref b_54]) (rest := []) C (S_X7_copies k_53 k_56 h) (lw_S q1588 q1589 q112 q1590) hd_X7_copies rfl rfl (Nat.le_of_ble_eq_true rfl) (Nat.le_of_ble_eq_true rfl) (Nat.le_of_ble_eq_true rfl) rfl rfl (Nat.le_of_ble_eq_true rfl) (Nat.le_of_ble_eq_true rfl) dX7_lastsWith_96 (pc' := 99) rfl (fun M_57 h m_59 => ?_)
  refine r_iload_n C dX7_lastsWith_99 (pc' := 100) rfl (j := 1) rfl ?_
  exact r_iret C hE (Nat.le_of_ble_eq_true rfl) (Nat.le_of_ble_eq_true rfl) dX7_lastsWith_100 ⟨_, rfl, h⟩
set_option maxHeartbeats 4000000 in
theorem S_X7_lastsWith {D : DD} {l : Launch} {M : MM} {a0 : Nat} {x1 : Int32} {x2 : Int32} {Post : Int32 → MM → Prop} (k_a0 : mkd M a0 = 7) (h : wp_X7_lastsWith M a0 x1 x2 Post) : mMet D l yX7_lastsWith cX7_lastsWith 4 ((some .int)) { frames := 4, cells := 0, slots := 0, locals := 99 } M [.ref a0, .int x1, .int x2] (pI_ Post) := by
  refine m_of2 [(0, .ref a0), (1, .int x1), (2, .int x2)] (by decide +kernel) (Nat.le_of_ble_eq_true rfl) rfl (fun E hED hEl C hE => ?_)
  subst hED
  subst hEl
  unfold wp_X7_lastsWith at h
  refine r_aload_n C dX7_lastsWith_0 (pc' := 1) rfl (j := 0) rfl ?_
  refine r_getf C (Cn := RX7) (T := TX7) 0 k_a0 (by decide) vc_X7 in_X7 (by decide) q1224 dX7_lastsWith_1 (pc' := 4) rfl (v := va_rf (mgR M a0 0)) rfl ?_
  obtain ⟨b_1, e_2, k_3, h⟩ := h
  refine r_ref [] e_2 ?_
  refine r_aload_n C dX7_lastsWith_4 (pc' := 5) rfl (j := 0) rfl ?_
  refine r_getf C (Cn := RX7) (T := TX7) 1 k_a0 (by decide) vc_X7 in_X7 (by decide) q1225 dX7_lastsWith_5 (pc' := 8) rfl (v := va_rf (mgR M a0 1)) rfl ?_
  obtain ⟨b_4, e_5, k_6, h⟩ := h
  refine r_ref [] e_5 ?_
  refine r_callSv (As := [.ref b_1, .ref b_4]) (rest := []) C (S_X7_copies k_3 k_6 h) (lw_S q1588 q1589 q112 q1590) hd_X7_copies rfl rfl (Nat.le_of_ble_eq_true rfl) (Nat.le_of_ble_eq_true rfl) (Nat.le_of_ble_eq_true rfl) rfl rfl (Nat.le_of_ble_eq_true rfl) (Nat.le_of_ble_eq_true rfl) dX7_lastsWith_8 (pc' := 11) rfl (fun M_7 h m_9 => ?_)
  refine r_aload_n C dX7_lastsWith_11 (pc' := 12) rfl (j := 0) rfl ?_
  refine r_getf C (Cn := RX7) (T := TX7) 0 (mMo.kd m_9 k_a0 (by decide)) (by decide) vc_X7 in_X7 (by decide) q1224 dX7_lastsWith_12 (pc' := 15) rfl (v := va_rf (mgR M_7 a0 0)) rfl ?_
  obtain ⟨b_10, e_11, k_12, h⟩ := h
  refine r_ref [] e_11 ?_
  refine r_iconst C dX7_lastsWith_15 (pc' := 16) rfl (v := 4) rfl ?_
  refine r_iload_n C dX7_lastsWith_16 (pc' := 17) rfl (j := 1) rfl ?_
  refine r_iadd C dX7_lastsWith_17 (pc' := 18) rfl ?_
  refine r_aload_n C dX7_lastsWith_18 (pc' := 19) rfl (j := 0) rfl ?_
  refine r_getf C (Cn := RX7) (T := TX7) 0 (mMo.kd m_9 k_a0 (by decide)) (by decide) vc_X7 in_X7 (by decide) q1224 dX7_lastsWith_19 (pc' := 22) rfl (v := va_rf (mgR M_7 a0 0)) rfl ?_
  obtain ⟨b_13, e_14, k_15, h⟩ := h
  refine r_ref [] e_14 ?_
  refine r_iconst C dX7_lastsWith_22 (pc' := 23) rfl (v := 0) rfl ?_
  refine r_iload_n C dX7_lastsWith_23 (pc' := 24) rfl (j := 1) rfl ?_
  refine r_iadd C dX7_lastsWith_24 (pc' := 25) rfl ?_
  obtain ⟨c_16, h⟩ := h
  refine r_iald C (j := (ix_ ((0 : Int32) + x1))) k_15 c_16 rfl dX7_lastsWith_25 (pc' := 26) rfl ?_
  refine r_aload_n C dX7_lastsWith_26 (pc' := 27) rfl (j := 0) rfl ?_
  refine r_getf C (Cn := RX7) (T := TX7) 0 (mMo.kd m_9 k_a0 (by decide)) (by decide) vc_X7 in_X7 (by decide) q1224 dX7_lastsWith_27 (pc' := 30) rfl (v := va_rf (mgR M_7 a0 0)) rfl ?_
  obtain ⟨b_17, e_18, k_19, h⟩ := h
  refine r_ref [] e_18 ?_
  refine r_iconst C dX7_lastsWith_30 (pc' := 31) rfl (v := 4) rfl ?_
  refine r_iload_n C dX7_lastsWith_31 (pc' := 32) rfl (j := 1) rfl ?_
  refine r_iadd C dX7_lastsWith_32 (pc' := 33) rfl ?_
  obtain ⟨c_20, h⟩ := h
  refine r_iald C (j := (ix_ ((4 : Int32) + x1))) k_19 c_20 rfl dX7_lastsWith_33 (pc' := 34) rfl ?_
  refine r_iload_n C dX7_lastsWith_34 (pc' := 35) rfl (j := 2) rfl ?_
  refine r_iadd C dX7_lastsWith_35 (pc' := 36) rfl ?_
  refine r_callSi (As := [.int (mgI M_7 b_13 (ix_ ((0 : Int32) + x1))), .int ((mgI M_7 b_17 (ix_ ((4 : Int32) + x1))) + x2)]) (rest := [.int ((4 : Int32) + x1), .ref b_10]) C (S_X7_min h) (lw_S q1417 q1418 q112 q1419) hd_X7_min rfl rfl (Nat.le_of_ble_eq_true rfl) (Nat.le_of_ble_eq_true rfl) (Nat.le_of_ble_eq_true rfl) rfl rfl (Nat.le_of_ble_eq_true rfl) (Nat.le_of_ble_eq_true rfl) dX7_lastsWith_36 (pc' := 39) rfl (fun r_22 M_21 h m_23 => ?_)
  obtain ⟨c_24, h⟩ := h
  obtain ⟨M_25, e_26, h⟩ := bn_ h
  refine r_iast C (j := (ix_ ((4 : Int32) + x1))) (mMo.kd m_23 k_12 (by decide)) c_24 rfl dX7_lastsWith_39 (pc' := 40) rfl M_25 e_26 ?_
  refine r_iconst C dX7_lastsWith_40 (pc' := 41) rfl (v := 0) rfl ?_
  refine r_istore_n C (lv' := [(3, .int (0 : Int32)), (0, .ref a0), (1, .int x1), (2, .int x2)]) dX7_lastsWith_41 (pc' := 42) rfl rfl (0 : Int32) rfl (Nat.le_of_ble_eq_true rfl) rfl ?_
  obtain ⟨n_47, h⟩ := h
  refine r_sub (lv' := [(0, .ref a0), (1, .int x1), (3, .int (0 : Int32))]) [1, 2, 0] rfl ?_
  refine B_X7_lastsWith_42 C hE n_47 M_25 (0 : Int32) (mMo.kd (mo_I e_26) (mMo.kd m_23 (mMo.kd m_9 k_a0 (by decide)) (by decide)) (by decide)) h (fun M_48 x3_50 m_49 h => ?_) (fun M_60 x3_62 m_61 h => ?_)
  · refine r_goto C dX7_lastsWith_62 (tgt := 88) (by decide) ?_
    refine r_sub (lv' := [(0, .ref a0), (3, .int x3_50)]) [0, 1] rfl ?_
    exact B_X7_lastsWith_88 C hE (mMo.kd m_49 (mMo.kd (mo_I e_26) (mMo.kd m_23 (mMo.kd m_9 k_a0 (by decide)) (by decide)) (by decide)) (by decide)) h
  · refine r_sub (lv' := [(0, .ref a0), (3, .int x3_62)]) [0, 1] rfl ?_
    exact B_X7_lastsWith_88 C hE (mMo.kd m_61 (mMo.kd (mo_I e_26) (mMo.kd m_23 (mMo.kd m_9 k_a0 (by decide)) (by decide)) (by decide)) (by decide)) h
set_option maxHeartbeats 4000000 in
theorem S_X7_lasts {D : DD} {l : Launch} {M : MM} {a0 : Nat} {x1 : Int32} {x2 : Int32} {Post : Int32 → MM → Prop} (k_a0 : mkd M a0 = 7) (h : wp_X7_lasts M a0 x1 x2 Post) : mMet D l yX7_lasts cX7_lasts 3 ((some .int)) { frames := 5, cells := 0, slots := 0, locals := 122 } M [.ref a0, .int x1, .int x2] (pI_ Post) := by
  refine m_of2 [(0, .ref a0), (1, .int x1), (2, .int x2)] (by decide +kernel) (Nat.le_of_ble_eq_true rfl) rfl (fun E hED hEl C hE => ?_)
  subst hED
  subst hEl
  unfold wp_X7_lasts at h
  refine r_aload_n C dX7_lasts_0 (pc' := 1) rfl (j := 0) rfl ?_
  refine r_iload_n C dX7_lasts_1 (pc' := 2) rfl (j := 1) rfl ?_
  refine r_callVi (As := [.int x1]) (rest := []) (Cn := RX7) (T := TX7) C k_a0 (by decide) vc_X7 (S_X7_lives k_a0 h) (lw_V q1413 q1415 qs52 q112 q1416) rfl hd_X7_lives rfl rfl (Nat.le_of_ble_eq_true rfl) (Nat.le_of_ble_eq_true rfl) (Nat.le_of_ble_eq_true rfl) rfl rfl (Nat.le_of_ble_eq_true rfl) (Nat.le_of_ble_eq_true rfl) dX7_lasts_2 (pc' := 5) rfl (fun r_2 M_1 h m_3 => ?_)
  refine r_if_eq C dX7_lasts_5 (pc' := 8) rfl (tgt := 18) (by decide) (fun c_4 => ?_) (fun c_4 => ?_)
  · have h := it_t h c_4
    refine r_iconst C dX7_lasts_18 (pc' := 19) rfl (v := -1) rfl ?_
    exact r_iret C hE (Nat.le_of_ble_eq_true rfl) (Nat.le_of_ble_eq_true rfl) dX7_lasts_19 ⟨_, rfl, h⟩
  · have h := it_f h c_4
    refine r_iload_n C dX7_lasts_8 (pc' := 9) rfl (j := 2) rfl ?_
    refine r_iconst C dX7_lasts_9 (pc' := 10) rfl (v := 0) rfl ?_
    refine r_bipush C dX7_lasts_10 (pc' := 12) rfl (v := 24) rfl ?_
    refine r_callSi (As := [.int x2, .int (0 : Int32), .int (24 : Int32)]) (rest := []) C (S_X7_in h) (lw_S q1391 q1392 q112 q1393) hd_X7_in rfl rfl (Nat.le_of_ble_eq_true rfl) (Nat.le_of_ble_eq_true rfl) (Nat.le_of_ble_eq_true rfl) rfl rfl (Nat.le_of_ble_eq_true rfl) (Nat.le_of_ble_eq_true rfl) dX7_lasts_12 (pc' := 15) rfl (fun r_6 M_5 h m_7 => ?_)
    refine r_if_ne C dX7_lasts_15 (pc' := 18) rfl (tgt := 20) (by decide) (fun c_8 => ?_) (fun c_8 => ?_)
    · have h := it_f h c_8
      refine r_aload_n C dX7_lasts_20 (pc' := 21) rfl (j := 0) rfl ?_
      refine r_iload_n C dX7_lasts_21 (pc' := 22) rfl (j := 1) rfl ?_
      refine r_iload_n C dX7_lasts_22 (pc' := 23) rfl (j := 2) rfl ?_
      refine r_callVi (As := [.int x1, .int x2]) (rest := []) (Cn := RX7) (T := TX7) C (mMo.kd m_7 (mMo.kd m_3 k_a0 (by decide)) (by decide)) (by decide) vc_X7 (S_X7_lastsWith (mMo.kd m_7 (mMo.kd m_3 k_a0 (by decide)) (by decide)) h) (lw_V q1667 q1669 qs91 q112 q1670) rfl hd_X7_lastsWith rfl rfl (Nat.le_of_ble_eq_true rfl) (Nat.le_of_ble_eq_true rfl) (Nat.le_of_ble_eq_true rfl) rfl rfl (Nat.le_of_ble_eq_true rfl) (Nat.le_of_ble_eq_true rfl) dX7_lasts_23 (pc' := 26) rfl (fun r_10 M_9 h m_11 => ?_)
      exact r_iret C hE (Nat.le_of_ble_eq_true rfl) (Nat.le_of_ble_eq_true rfl) dX7_lasts_26 ⟨_, rfl, h⟩
    · have h := it_t h c_8
      refine r_iconst C dX7_lasts_18 (pc' := 19) rfl (v := -1) rfl ?_
      exact r_iret C hE (Nat.le_of_ble_eq_true rfl) (Nat.le_of_ble_eq_true rfl) dX7_lasts_19 ⟨_, rfl, h⟩
set_option maxHeartbeats 4000000 in
theorem B_X7_leastBy_5 {E : mE} {a0 : Nat} {X45 : MM → Int32 → Prop} {Post : Int32 → MM → Prop} (C : mC E yX7_leastBy cX7_leastBy 3 ((some .int)) { frames := 3, cells := 0, slots := 0, locals := 63 }) (hE : mEnd E { frames := 3, cells := 0, slots := 0, locals := 63 } (pI_ Post)) : ∀ (n_ : Nat) (M : MM) (x1 : Int32) (x2 : Int32), mkd M a0 = 7 → wl_X7_leastBy_5 a0 X45 n_ M x1 x2 → (∀ (M' : MM) (x1' : Int32), mMo M M' → X45 M' x1' → mV E M' 0 0 45 [(1, .int x1')] []) → mV E M 0 0 5 [(0, .ref a0), (1, .int x1), (2, .int x2)] [] := by
  intro n_
  induction n_ with
  | zero =>
    intro M x1 x2 k_a0 h hX45
    exact absurd h (by rw [wl_X7_leastBy_5]; exact fun q => q)
  | succ n_ ih =>
    intro M x1 x2 k_a0 h hX45
    rw [wl_X7_leastBy_5] at h
    refine r_iload_n C dX7_leastBy_5 (pc' := 6) rfl (j := 2) rfl ?_
    refine r_iconst C dX7_leastBy_6 (pc' := 7) rfl (v := 4) rfl ?_
    refine r_icmp_ge C dX7_leastBy_7 (pc' := 10) rfl (tgt := 45) (by decide) (fun c_1 => ?_) (fun c_1 => ?_)
    · have h := it_t h c_1
      refine r_sub (lv' := [(1, .int x1)]) [1] rfl ?_
      exact hX45 M x1 mMo.rf h
    · have h := it_f h c_1
      refine r_aload_n C dX7_leastBy_10 (pc' := 11) rfl (j := 0) rfl ?_
      refine r_iload_n C dX7_leastBy_11 (pc' := 12) rfl (j := 2) rfl ?_
      refine r_callVi (As := [.int x2]) (rest := []) (Cn := RX7) (T := TX7) C k_a0 (by decide) vc_X7 (S_X7_lives k_a0 h) (lw_V q1413 q1415 qs52 q112 q1416) rfl hd_X7_lives rfl rfl (Nat.le_of_ble_eq_true rfl) (Nat.le_of_ble_eq_true rfl) (Nat.le_of_ble_eq_true rfl) rfl rfl (Nat.le_of_ble_eq_true rfl) (Nat.le_of_ble_eq_true rfl) dX7_leastBy_12 (pc' := 15) rfl (fun r_3 M_2 h m_4 => ?_)
      refine r_if_eq C dX7_leastBy_15 (pc' := 18) rfl (tgt := 39) (by decide) (fun c_5 => ?_) (fun c_5 => ?_)
      · have h := it_t h c_5
        obtain ⟨x2_6, e_7, h⟩ := bn_ h
        refine r_iinc C (lv' := [(2, .int x2_6), (0, .ref a0), (1, .int x1)]) dX7_leastBy_39 (pc' := 42) rfl (j := 2) rfl x2_6 (by rw [e_7]; rfl) (Nat.le_of_ble_eq_true rfl) rfl ?_
        refine r_goto C dX7_leastBy_42 (tgt := 5) (by decide) ?_
        refine r_sub (lv' := [(0, .ref a0), (1, .int x1), (2, .int x2_6)]) [1, 2, 0] rfl ?_
        exact ih M_2 x1 x2_6 (mMo.kd m_4 k_a0 (by decide)) h (fun M9 w0 hm9 h9 => hX45 M9 w0 (mMo.tr m_4 hm9) h9)
      · have h := it_f h c_5
        refine r_iload_n C dX7_leastBy_18 (pc' := 19) rfl (j := 1) rfl ?_
        refine r_aload_n C dX7_leastBy_19 (pc' := 20) rfl (j := 0) rfl ?_
        refine r_getf C (Cn := RX7) (T := TX7) 42 (mMo.kd m_4 k_a0 (by decide)) (by decide) vc_X7 in_X7 (by decide) q1266 dX7_leastBy_20 (pc' := 23) rfl (v := va_rf (mgR M_2 a0 42)) rfl ?_
        obtain ⟨b_8, e_9, k_10, h⟩ := h
        refine r_ref [] e_9 ?_
        refine r_bipush C dX7_leastBy_23 (pc' := 25) rfl (v := 25) rfl ?_
        refine r_iload_n C dX7_leastBy_25 (pc' := 26) rfl (j := 2) rfl ?_
        refine r_imul C dX7_leastBy_26 (pc' := 27) rfl ?_
        refine r_aload_n C dX7_leastBy_27 (pc' := 28) rfl (j := 0) rfl ?_
        refine r_getf C (Cn := RX7) (T := TX7) 43 (mMo.kd m_4 k_a0 (by decide)) (by decide) vc_X7 in_X7 (by decide) q1267 dX7_leastBy_28 (pc' := 31) rfl (v := va_rf (mgR M_2 a0 43)) rfl ?_
        obtain ⟨b_11, e_12, k_13, h⟩ := h
        refine r_ref [] e_12 ?_
        refine r_iload_n C dX7_leastBy_31 (pc' := 32) rfl (j := 2) rfl ?_
        obtain ⟨c_14, h⟩ := h
        refine r_iald C (j := (ix_ x2)) k_13 c_14 rfl dX7_leastBy_32 (pc' := 33) rfl ?_
        refine r_iadd C dX7_leastBy_33 (pc' := 34) rfl ?_
        obtain ⟨c_15, h⟩ := h
        refine r_iald C (j := (ix_ (((25 : Int32) * x2) + (mgI M_2 b_11 (ix_ x2))))) k_10 c_15 rfl dX7_leastBy_34 (pc' := 35) rfl ?_
        refine r_callSi (As := [.int x1, .int (mgI M_2 b_8 (ix_ (((25 : Int32) * x2) + (mgI M_2 b_11 (ix_ x2)))))]) (rest := []) C (S_X7_min h) (lw_S q1417 q1418 q112 q1419) hd_X7_min rfl rfl (Nat.le_of_ble_eq_true rfl) (Nat.le_of_ble_eq_true rfl) (Nat.le_of_ble_eq_true rfl) rfl rfl (Nat.le_of_ble_eq_true rfl) (Nat.le_of_ble_eq_true rfl) dX7_leastBy_35 (pc' := 38) rfl (fun r_17 M_16 h m_18 => ?_)
        refine r_istore_n C (lv' := [(1, .int r_17), (0, .ref a0), (2, .int x2)]) dX7_leastBy_38 (pc' := 39) rfl rfl r_17 rfl (Nat.le_of_ble_eq_true rfl) rfl ?_
        obtain ⟨x2_19, e_20, h⟩ := bn_ h
        refine r_iinc C (lv' := [(2, .int x2_19), (1, .int r_17), (0, .ref a0)]) dX7_leastBy_39 (pc' := 42) rfl (j := 2) rfl x2_19 (by rw [e_20]; rfl) (Nat.le_of_ble_eq_true rfl) rfl ?_
        refine r_goto C dX7_leastBy_42 (tgt := 5) (by decide) ?_
        refine r_sub (lv' := [(0, .ref a0), (1, .int r_17), (2, .int x2_19)]) [2, 1, 0] rfl ?_
        exact ih M_16 r_17 x2_19 (mMo.kd m_18 (mMo.kd m_4 k_a0 (by decide)) (by decide)) h (fun M9 w0 hm9 h9 => hX45 M9 w0 (mMo.tr (mMo.tr m_4 m_18) hm9) h9)
set_option maxHeartbeats 4000000 in
theorem S_X7_leastBy {D : DD} {l : Launch} {M : MM} {a0 : Nat} {Post : Int32 → MM → Prop} (k_a0 : mkd M a0 = 7) (h : wp_X7_leastBy M a0 Post) : mMet D l yX7_leastBy cX7_leastBy 3 ((some .int)) { frames := 3, cells := 0, slots := 0, locals := 63 } M [.ref a0] (pI_ Post) := by
  refine m_of2 [(0, .ref a0)] (by decide +kernel) (Nat.le_of_ble_eq_true rfl) rfl (fun E hED hEl C hE => ?_)
  subst hED
  subst hEl
  unfold wp_X7_leastBy at h
  refine r_bipush C dX7_leastBy_0 (pc' := 2) rfl (v := 60) rfl ?_
  refine r_istore_n C (lv' := [(1, .int (60 : Int32)), (0, .ref a0)]) dX7_leastBy_2 (pc' := 3) rfl rfl (60 : Int32) rfl (Nat.le_of_ble_eq_true rfl) rfl ?_
  refine r_iconst C dX7_leastBy_3 (pc' := 4) rfl (v := 0) rfl ?_
  refine r_istore_n C (lv' := [(2, .int (0 : Int32)), (1, .int (60 : Int32)), (0, .ref a0)]) dX7_leastBy_4 (pc' := 5) rfl rfl (0 : Int32) rfl (Nat.le_of_ble_eq_true rfl) rfl ?_
  obtain ⟨n_21, h⟩ := h
  refine r_sub (lv' := [(0, .ref a0), (1, .int (60 : Int32)), (2, .int (0 : Int32))]) [2, 1, 0] rfl ?_
  refine B_X7_leastBy_5 C hE n_21 M (60 : Int32) (0 : Int32) k_a0 h (fun M_22 x1_24 m_23 h => ?_)
  refine r_iload_n C dX7_leastBy_45 (pc' := 46) rfl (j := 0) rfl ?_
  exact r_iret C hE (Nat.le_of_ble_eq_true rfl) (Nat.le_of_ble_eq_true rfl) dX7_leastBy_46 ⟨_, rfl, h⟩
set_option maxHeartbeats 4000000 in
theorem B_X7_mayBe_28 {E : mE} {M : MM} {a0 : Nat} {x1 : Int32} {x2 : Int32} {x3 : Int32} {R : MM → Int32 → Int32 → Prop} {X26 : MM → Prop} {X43 : MM → Int32 → Prop} {Post : Int32 → MM → Prop} (C : mC E yX7_mayBe cX7_mayBe 4 ((some .boolean)) { frames := 3, cells := 0, slots := 0, locals := 63 }) (hE : mEnd E { frames := 3, cells := 0, slots := 0, locals := 63 } (pI_ Post)) (k_a0 : mkd M a0 = 7) (h : wb_X7_mayBe_28 M a0 x1 x2 x3 R X26 X43) (hR : ∀ (M' : MM) (x2' : Int32) (x3' : Int32), mMo M M' → mkd M' a0 = 7 → R M' x2' x3' → mV E M' 0 0 4 [(0, .ref a0), (1, .int x1), (2, .int x2'), (3, .int x3')] []) (hX26 : ∀ (M' : MM), mMo M M' → X26 M' → mV E M' 0 0 26 [] []) (hX43 : ∀ (M' : MM) (x2' : Int32), mMo M M' → X43 M' x2' → mV E M' 0 0 43 [(1, .int x1), (2, .int x2')] []) : mV E M 0 0 28 [(0, .ref a0), (1, .int x1), (2, .int x2), (3, .int x3)] [] := by
  unfold wb_X7_mayBe_28 at h
  refine r_iload_n C dX7_mayBe_28 (pc' := 29) rfl (j := 2) rfl ?_
  refine r_aload_n C dX7_mayBe_29 (pc' := 30) rfl (j := 0) rfl ?_
  refine r_getf C (Cn := RX7) (T := TX7) 43 k_a0 (by decide) vc_X7 in_X7 (by decide) q1267 dX7_mayBe_30 (pc' := 33) rfl (v := va_rf (mgR M a0 43)) rfl ?_
  obtain ⟨b_6, e_7, k_8, h⟩ := h
  refine r_ref [] e_7 ?_
  refine r_iload_n C dX7_mayBe_33 (pc' := 34) rfl (j := 3) rfl ?_
  obtain ⟨c_9, h⟩ := h
  refine r_iald C (j := (ix_ x3)) k_8 c_9 rfl dX7_mayBe_34 (pc' := 35) rfl ?_
  refine r_iadd C dX7_mayBe_35 (pc' := 36) rfl ?_
  obtain ⟨x2_10, e_11, h⟩ := bn_ h
  refine r_istore_n C (lv' := [(2, .int x2_10), (0, .ref a0), (1, .int x1), (3, .int x3)]) dX7_mayBe_36 (pc' := 37) rfl rfl x2_10 e_11 (Nat.le_of_ble_eq_true rfl) rfl ?_
  obtain ⟨x3_12, e_13, h⟩ := bn_ h
  refine r_iinc C (lv' := [(3, .int x3_12), (2, .int x2_10), (0, .ref a0), (1, .int x1)]) dX7_mayBe_37 (pc' := 40) rfl (j := 3) rfl x3_12 (by rw [e_13]; rfl) (Nat.le_of_ble_eq_true rfl) rfl ?_
  refine r_goto C dX7_mayBe_40 (tgt := 4) (by decide) ?_
  refine r_sub (lv' := [(0, .ref a0), (1, .int x1), (2, .int x2_10), (3, .int x3_12)]) [2, 3, 1, 0] rfl ?_
  exact hR M x2_10 x3_12 mMo.rf k_a0 h
set_option maxHeartbeats 4000000 in
theorem B_X7_mayBe_4 {E : mE} {a0 : Nat} {x1 : Int32} {X26 : MM → Prop} {X43 : MM → Int32 → Prop} {Post : Int32 → MM → Prop} (C : mC E yX7_mayBe cX7_mayBe 4 ((some .boolean)) { frames := 3, cells := 0, slots := 0, locals := 63 }) (hE : mEnd E { frames := 3, cells := 0, slots := 0, locals := 63 } (pI_ Post)) : ∀ (n_ : Nat) (M : MM) (x2 : Int32) (x3 : Int32), mkd M a0 = 7 → wl_X7_mayBe_4 a0 x1 X26 X43 n_ M x2 x3 → (∀ (M' : MM), mMo M M' → X26 M' → mV E M' 0 0 26 [] []) → (∀ (M' : MM) (x2' : Int32), mMo M M' → X43 M' x2' → mV E M' 0 0 43 [(1, .int x1), (2, .int x2')] []) → mV E M 0 0 4 [(0, .ref a0), (1, .int x1), (2, .int x2), (3, .int x3)] [] := by
  intro n_
  induction n_ with
  | zero =>
    intro M x2 x3 k_a0 h hX26 hX43
    exact absurd h (by rw [wl_X7_mayBe_4]; exact fun q => q)
  | succ n_ ih =>
    intro M x2 x3 k_a0 h hX26 hX43
    rw [wl_X7_mayBe_4] at h
    refine r_iload_n C dX7_mayBe_4 (pc' := 5) rfl (j := 3) rfl ?_
    refine r_iconst C dX7_mayBe_5 (pc' := 6) rfl (v := 4) rfl ?_
    refine r_icmp_ge C dX7_mayBe_6 (pc' := 9) rfl (tgt := 43) (by decide) (fun c_1 => ?_) (fun c_1 => ?_)
    · have h := it_t h c_1
      refine r_sub (lv' := [(1, .int x1), (2, .int x2)]) [1, 2] rfl ?_
      exact hX43 M x2 mMo.rf h
    · have h := it_f h c_1
      refine r_aload_n C dX7_mayBe_9 (pc' := 10) rfl (j := 0) rfl ?_
      refine r_iload_n C dX7_mayBe_10 (pc' := 11) rfl (j := 3) rfl ?_
      refine r_callVi (As := [.int x3]) (rest := []) (Cn := RX7) (T := TX7) C k_a0 (by decide) vc_X7 (S_X7_lives k_a0 h) (lw_V q1413 q1415 qs52 q112 q1416) rfl hd_X7_lives rfl rfl (Nat.le_of_ble_eq_true rfl) (Nat.le_of_ble_eq_true rfl) (Nat.le_of_ble_eq_true rfl) rfl rfl (Nat.le_of_ble_eq_true rfl) (Nat.le_of_ble_eq_true rfl) dX7_mayBe_11 (pc' := 14) rfl (fun r_3 M_2 h m_4 => ?_)
      refine r_if_ne C dX7_mayBe_14 (pc' := 17) rfl (tgt := 28) (by decide) (fun c_5 => ?_) (fun c_5 => ?_)
      · have h := it_f h c_5
        refine r_sub (lv' := [(0, .ref a0), (1, .int x1), (2, .int x2), (3, .int x3)]) [0, 1, 2, 3] rfl ?_
        exact B_X7_mayBe_28 C hE (mMo.kd m_4 k_a0 (by decide)) h (fun M8 v0 v1 hm8 g0 h8 => ih M8 v0 v1 g0 h8 (fun M9 hm9 h9 => hX26 M9 (mMo.tr (mMo.tr m_4 hm8) hm9) h9) (fun M9 w0 hm9 h9 => hX43 M9 w0 (mMo.tr (mMo.tr m_4 hm8) hm9) h9)) (fun M9 hm9 h9 => hX26 M9 (mMo.tr m_4 hm9) h9) (fun M9 w0 hm9 h9 => hX43 M9 w0 (mMo.tr m_4 hm9) h9)
      · have h := it_t h c_5
        refine r_aload_n C dX7_mayBe_17 (pc' := 18) rfl (j := 0) rfl ?_
        refine r_getf C (Cn := RX7) (T := TX7) 43 (mMo.kd m_4 k_a0 (by decide)) (by decide) vc_X7 in_X7 (by decide) q1267 dX7_mayBe_18 (pc' := 21) rfl (v := va_rf (mgR M_2 a0 43)) rfl ?_
        obtain ⟨b_14, e_15, k_16, h⟩ := h
        refine r_ref [] e_15 ?_
        refine r_iload_n C dX7_mayBe_21 (pc' := 22) rfl (j := 3) rfl ?_
        obtain ⟨c_17, h⟩ := h
        refine r_iald C (j := (ix_ x3)) k_16 c_17 rfl dX7_mayBe_22 (pc' := 23) rfl ?_
        refine r_if_le C dX7_mayBe_23 (pc' := 26) rfl (tgt := 28) (by decide) (fun c_18 => ?_) (fun c_18 => ?_)
        · have h := it_t h c_18
          refine r_sub (lv' := [(0, .ref a0), (1, .int x1), (2, .int x2), (3, .int x3)]) [0, 1, 2, 3] rfl ?_
          exact B_X7_mayBe_28 C hE (mMo.kd m_4 k_a0 (by decide)) h (fun M8 v0 v1 hm8 g0 h8 => ih M8 v0 v1 g0 h8 (fun M9 hm9 h9 => hX26 M9 (mMo.tr (mMo.tr m_4 hm8) hm9) h9) (fun M9 w0 hm9 h9 => hX43 M9 w0 (mMo.tr (mMo.tr m_4 hm8) hm9) h9)) (fun M9 hm9 h9 => hX26 M9 (mMo.tr m_4 hm9) h9) (fun M9 w0 hm9 h9 => hX43 M9 w0 (mMo.tr m_4 hm9) h9)
        · have h := it_f h c_18
          refine r_sub (lv' := []) [] rfl ?_
          exact hX26 M_2 m_4 h
set_option maxHeartbeats 4000000 in
theorem S_X7_mayBe {D : DD} {l : Launch} {M : MM} {a0 : Nat} {x1 : Int32} {Post : Int32 → MM → Prop} (k_a0 : mkd M a0 = 7) (h : wp_X7_mayBe M a0 x1 Post) : mMet D l yX7_mayBe cX7_mayBe 4 ((some .boolean)) { frames := 3, cells := 0, slots := 0, locals := 63 } M [.ref a0, .int x1] (pI_ Post) := by
  refine m_of2 [(0, .ref a0), (1, .int x1)] (by decide +kernel) (Nat.le_of_ble_eq_true rfl) rfl (fun E hED hEl C hE => ?_)
  subst hED
  subst hEl
  unfold wp_X7_mayBe at h
  refine r_iconst C dX7_mayBe_0 (pc' := 1) rfl (v := 0) rfl ?_
  refine r_istore_n C (lv' := [(2, .int (0 : Int32)), (0, .ref a0), (1, .int x1)]) dX7_mayBe_1 (pc' := 2) rfl rfl (0 : Int32) rfl (Nat.le_of_ble_eq_true rfl) rfl ?_
  refine r_iconst C dX7_mayBe_2 (pc' := 3) rfl (v := 0) rfl ?_
  refine r_istore_n C (lv' := [(3, .int (0 : Int32)), (2, .int (0 : Int32)), (0, .ref a0), (1, .int x1)]) dX7_mayBe_3 (pc' := 4) rfl rfl (0 : Int32) rfl (Nat.le_of_ble_eq_true rfl) rfl ?_
  obtain ⟨n_19, h⟩ := h
  refine r_sub (lv' := [(0, .ref a0), (1, .int x1), (2, .int (0 : Int32)), (3, .int (0 : Int32))]) [2, 3, 1, 0] rfl ?_
  refine B_X7_mayBe_4 C hE n_19 M (0 : Int32) (0 : Int32) k_a0 h (fun M_20 m_21 h => ?_) (fun M_22 x2_24 m_23 h => ?_)
  · refine r_iconst C dX7_mayBe_26 (pc' := 27) rfl (v := 0) rfl ?_
    exact r_zret C hE (Or.inl rfl) (Nat.le_of_ble_eq_true rfl) (Nat.le_of_ble_eq_true rfl) dX7_mayBe_27 ⟨_, rfl, h⟩
  · refine r_iload_n C dX7_mayBe_43 (pc' := 44) rfl (j := 1) rfl ?_
    refine r_iload_n C dX7_mayBe_44 (pc' := 45) rfl (j := 0) rfl ?_
    refine r_icmp_ne C dX7_mayBe_45 (pc' := 48) rfl (tgt := 52) (by decide) (fun c_25 => ?_) (fun c_25 => ?_)
    · have h := it_f h c_25
      refine r_iconst C dX7_mayBe_52 (pc' := 53) rfl (v := 0) rfl ?_
      exact r_zret C hE (Or.inl rfl) (Nat.le_of_ble_eq_true rfl) (Nat.le_of_ble_eq_true rfl) dX7_mayBe_53 ⟨_, rfl, h⟩
    · have h := it_t h c_25
      refine r_iconst C dX7_mayBe_48 (pc' := 49) rfl (v := 1) rfl ?_
      refine r_goto C dX7_mayBe_49 (tgt := 53) (by decide) ?_
      exact r_zret C hE (Or.inr rfl) (Nat.le_of_ble_eq_true rfl) (Nat.le_of_ble_eq_true rfl) dX7_mayBe_53 ⟨_, rfl, h⟩
set_option maxHeartbeats 4000000 in
theorem B_X7_laysSpread_49 {E : mE} {M : MM} {a0 : Nat} {x1 : Int32} {x2 : Int32} {x3 : Int32} {x4 : Int32} {as0 : Nat} {xs1 : Int32} {xs2 : Int32} {R : MM → Int32 → Prop} {X56 : MM → Prop} {Post : Int32 → MM → Prop} (C : mC E yX7_laysSpread cX7_laysSpread 7 ((some .int)) { frames := 5, cells := 0, slots := 0, locals := 122 }) (hE : mEnd E { frames := 5, cells := 0, slots := 0, locals := 122 } (pI_ Post)) (k_a0 : mkd M a0 = 7) (k_as0 : mkd M as0 = 100) (h : wb_X7_laysSpread_49 M a0 x1 x2 x3 x4 as0 xs1 xs2 R X56) (hR : ∀ (M' : MM) (x4' : Int32), mMo M M' → mkd M' a0 = 7 → R M' x4' → mV E M' 0 0 12 [(0, .ref a0), (1, .int x1), (2, .int x2), (3, .int x3), (4, .int x4')] []) (hX56 : ∀ (M' : MM), mMo M M' → X56 M' → mV E M' 0 0 56 [(0, .ref a0), (1, .int x1), (2, .int x2), (3, .int x3)] []) : mV E M 0 0 49 [(0, .ref a0), (1, .int x1), (2, .int x2), (3, .int x3), (4, .int x4)] [.int xs2, .int xs1, .ref as0] := by
  unfold wb_X7_laysSpread_49 at h
  obtain ⟨c_10, h⟩ := h
  obtain ⟨M_11, e_12, h⟩ := bn_ h
  refine r_iast C (j := (ix_ xs1)) k_as0 c_10 rfl dX7_laysSpread_49 (pc' := 50) rfl M_11 e_12 ?_
  obtain ⟨x4_13, e_14, h⟩ := bn_ h
  refine r_iinc C (lv' := [(4, .int x4_13), (0, .ref a0), (1, .int x1), (2, .int x2), (3, .int x3)]) dX7_laysSpread_50 (pc' := 53) rfl (j := 4) rfl x4_13 (by rw [e_14]; rfl) (Nat.le_of_ble_eq_true rfl) rfl ?_
  refine r_goto C dX7_laysSpread_53 (tgt := 12) (by decide) ?_
  refine r_sub (lv' := [(0, .ref a0), (1, .int x1), (2, .int x2), (3, .int x3), (4, .int x4_13)]) [1, 2, 3, 4, 0] rfl ?_
  exact hR M_11 x4_13 (mo_I e_12) (mMo.kd (mo_I e_12) k_a0 (by decide)) h
set_option maxHeartbeats 4000000 in
theorem B_X7_laysSpread_12 {E : mE} {a0 : Nat} {x1 : Int32} {x2 : Int32} {x3 : Int32} {X56 : MM → Prop} {Post : Int32 → MM → Prop} (C : mC E yX7_laysSpread cX7_laysSpread 7 ((some .int)) { frames := 5, cells := 0, slots := 0, locals := 122 }) (hE : mEnd E { frames := 5, cells := 0, slots := 0, locals := 122 } (pI_ Post)) : ∀ (n_ : Nat) (M : MM) (x4 : Int32), mkd M a0 = 7 → wl_X7_laysSpread_12 a0 x1 x2 x3 X56 n_ M x4 → (∀ (M' : MM), mMo M M' → X56 M' → mV E M' 0 0 56 [(0, .ref a0), (1, .int x1), (2, .int x2), (3, .int x3)] []) → mV E M 0 0 12 [(0, .ref a0), (1, .int x1), (2, .int x2), (3, .int x3), (4, .int x4)] [] := by
  intro n_
  induction n_ with
  | zero =>
    intro M x4 k_a0 h hX56
    exact absurd h (by rw [wl_X7_laysSpread_12]; exact fun q => q)
  | succ n_ ih =>
    intro M x4 k_a0 h hX56
    rw [wl_X7_laysSpread_12] at h
    refine r_iload C dX7_laysSpread_12 (pc' := 14) rfl (j := 4) rfl ?_
    refine r_bipush C dX7_laysSpread_14 (pc' := 16) rfl (v := 24) rfl ?_
    refine r_icmp_gt C dX7_laysSpread_16 (pc' := 19) rfl (tgt := 56) (by decide) (fun c_2 => ?_) (fun c_2 => ?_)
    · have h := it_t h c_2
      refine r_sub (lv' := [(0, .ref a0), (1, .int x1), (2, .int x2), (3, .int x3)]) [0, 1, 2, 3] rfl ?_
      exact hX56 M mMo.rf h
    · have h := it_f h c_2
      refine r_aload_n C dX7_laysSpread_19 (pc' := 20) rfl (j := 0) rfl ?_
      refine r_getf C (Cn := RX7) (T := TX7) 42 k_a0 (by decide) vc_X7 in_X7 (by decide) q1266 dX7_laysSpread_20 (pc' := 23) rfl (v := va_rf (mgR M a0 42)) rfl ?_
      obtain ⟨b_3, e_4, k_5, h⟩ := h
      refine r_ref [] e_4 ?_
      refine r_bipush C dX7_laysSpread_23 (pc' := 25) rfl (v := 25) rfl ?_
      refine r_iload_n C dX7_laysSpread_25 (pc' := 26) rfl (j := 3) rfl ?_
      refine r_imul C dX7_laysSpread_26 (pc' := 27) rfl ?_
      refine r_iload C dX7_laysSpread_27 (pc' := 29) rfl (j := 4) rfl ?_
      refine r_iadd C dX7_laysSpread_29 (pc' := 30) rfl ?_
      refine r_aload_n C dX7_laysSpread_30 (pc' := 31) rfl (j := 0) rfl ?_
      refine r_iload_n C dX7_laysSpread_31 (pc' := 32) rfl (j := 3) rfl ?_
      refine r_callVi (As := [.int x3]) (rest := [.int (((25 : Int32) * x3) + x4), .ref b_3]) (Cn := RX7) (T := TX7) C k_a0 (by decide) vc_X7 (S_X7_lives k_a0 h) (lw_V q1413 q1415 qs52 q112 q1416) rfl hd_X7_lives rfl rfl (Nat.le_of_ble_eq_true rfl) (Nat.le_of_ble_eq_true rfl) (Nat.le_of_ble_eq_true rfl) rfl rfl (Nat.le_of_ble_eq_true rfl) (Nat.le_of_ble_eq_true rfl) dX7_laysSpread_32 (pc' := 35) rfl (fun r_7 M_6 h m_8 => ?_)
      refine r_if_eq C dX7_laysSpread_35 (pc' := 38) rfl (tgt := 48) (by decide) (fun c_9 => ?_) (fun c_9 => ?_)
      · have h := it_t h c_9
        refine r_iconst C dX7_laysSpread_48 (pc' := 49) rfl (v := 0) rfl ?_
        refine r_sub (lv' := [(0, .ref a0), (1, .int x1), (2, .int x2), (3, .int x3), (4, .int x4)]) [0, 1, 2, 3, 4] rfl ?_
        exact B_X7_laysSpread_49 C hE (mMo.kd m_8 k_a0 (by decide)) (mMo.kd m_8 k_5 (by decide)) h (fun M8 v0 hm8 g0 h8 => ih M8 v0 g0 h8 (fun M9 hm9 h9 => hX56 M9 (mMo.tr (mMo.tr m_8 hm8) hm9) h9)) (fun M9 hm9 h9 => hX56 M9 (mMo.tr m_8 hm9) h9)
      · have h := it_f h c_9
        refine r_aload_n C dX7_laysSpread_38 (pc' := 39) rfl (j := 0) rfl ?_
        refine r_iload_n C dX7_laysSpread_39 (pc' := 40) rfl (j := 3) rfl ?_
        refine r_iload C dX7_laysSpread_40 (pc' := 42) rfl (j := 4) rfl ?_
        refine r_callVi (As := [.int x3, .int x4]) (rest := [.int (((25 : Int32) * x3) + x4), .ref b_3]) (Cn := RX7) (T := TX7) C (mMo.kd m_8 k_a0 (by decide)) (by decide) vc_X7 (S_X7_lastsWith (mMo.kd m_8 k_a0 (by decide)) h) (lw_V q1667 q1669 qs91 q112 q1670) rfl hd_X7_lastsWith rfl rfl (Nat.le_of_ble_eq_true rfl) (Nat.le_of_ble_eq_true rfl) (Nat.le_of_ble_eq_true rfl) rfl rfl (Nat.le_of_ble_eq_true rfl) (Nat.le_of_ble_eq_true rfl) dX7_laysSpread_42 (pc' := 45) rfl (fun r_16 M_15 h m_17 => ?_)
        refine r_goto C dX7_laysSpread_45 (tgt := 49) (by decide) ?_
        refine r_sub (lv' := [(0, .ref a0), (1, .int x1), (2, .int x2), (3, .int x3), (4, .int x4)]) [0, 1, 2, 3, 4] rfl ?_
        exact B_X7_laysSpread_49 C hE (mMo.kd m_17 (mMo.kd m_8 k_a0 (by decide)) (by decide)) (mMo.kd m_17 (mMo.kd m_8 k_5 (by decide)) (by decide)) h (fun M8 v0 hm8 g0 h8 => ih M8 v0 g0 h8 (fun M9 hm9 h9 => hX56 M9 (mMo.tr (mMo.tr (mMo.tr m_8 m_17) hm8) hm9) h9)) (fun M9 hm9 h9 => hX56 M9 (mMo.tr (mMo.tr m_8 m_17) hm9) h9)
set_option maxHeartbeats 4000000 in
theorem B_X7_laysSpread_4 {E : mE} {a0 : Nat} {x1 : Int32} {x2 : Int32} {X62 : MM → Prop} {Post : Int32 → MM → Prop} (C : mC E yX7_laysSpread cX7_laysSpread 7 ((some .int)) { frames := 5, cells := 0, slots := 0, locals := 122 }) (hE : mEnd E { frames := 5, cells := 0, slots := 0, locals := 122 } (pI_ Post)) : ∀ (n_ : Nat) (M : MM) (x3 : Int32), mkd M a0 = 7 → wl_X7_laysSpread_4 a0 x1 x2 X62 n_ M x3 → (∀ (M' : MM), mMo M M' → X62 M' → mV E M' 0 0 62 [(0, .ref a0), (1, .int x1), (2, .int x2)] []) → mV E M 0 0 4 [(0, .ref a0), (1, .int x1), (2, .int x2), (3, .int x3)] [] := by
  intro n_
  induction n_ with
  | zero =>
    intro M x3 k_a0 h hX62
    exact absurd h (by rw [wl_X7_laysSpread_4]; exact fun q => q)
  | succ n_ ih =>
    intro M x3 k_a0 h hX62
    rw [wl_X7_laysSpread_4] at h
    refine r_iload_n C dX7_laysSpread_4 (pc' := 5) rfl (j := 3) rfl ?_
    refine r_iconst C dX7_laysSpread_5 (pc' := 6) rfl (v := 4) rfl ?_
    refine r_icmp_ge C dX7_laysSpread_6 (pc' := 9) rfl (tgt := 62) (by decide) (fun c_1 => ?_) (fun c_1 => ?_)
    · have h := it_t h c_1
      refine r_sub (lv' := [(0, .ref a0), (1, .int x1), (2, .int x2)]) [0, 1, 2] rfl ?_
      exact hX62 M mMo.rf h
    · have h := it_f h c_1
      refine r_iconst C dX7_laysSpread_9 (pc' := 10) rfl (v := 0) rfl ?_
      refine r_istore C (lv' := [(4, .int (0 : Int32)), (0, .ref a0), (1, .int x1), (2, .int x2), (3, .int x3)]) dX7_laysSpread_10 (pc' := 12) rfl (0 : Int32) rfl (Nat.le_of_ble_eq_true rfl) rfl ?_
      obtain ⟨n_18, h⟩ := h
      refine r_sub (lv' := [(0, .ref a0), (1, .int x1), (2, .int x2), (3, .int x3), (4, .int (0 : Int32))]) [1, 2, 3, 4, 0] rfl ?_
      refine B_X7_laysSpread_12 C hE n_18 M (0 : Int32) k_a0 h (fun M_19 m_20 h => ?_)
      obtain ⟨x3_21, e_22, h⟩ := bn_ h
      refine r_iinc C (lv' := [(3, .int x3_21), (0, .ref a0), (1, .int x1), (2, .int x2)]) dX7_laysSpread_56 (pc' := 59) rfl (j := 3) rfl x3_21 (by rw [e_22]; rfl) (Nat.le_of_ble_eq_true rfl) rfl ?_
      refine r_goto C dX7_laysSpread_59 (tgt := 4) (by decide) ?_
      refine r_sub (lv' := [(0, .ref a0), (1, .int x1), (2, .int x2), (3, .int x3_21)]) [1, 2, 3, 0] rfl ?_
      exact ih M_19 x3_21 (mMo.kd m_20 k_a0 (by decide)) h (fun M9 hm9 h9 => hX62 M9 (mMo.tr m_20 hm9) h9)
set_option maxHeartbeats 4000000 in
theorem B_X7_laysSpread_159 {E : mE} {a0 : Nat} {x1 : Int32} {x2 : Int32} {x3 : Int32} {x4 : Int32} {x5 : Int32} {X185 : MM → Prop} {Post : Int32 → MM → Prop} (C : mC E yX7_laysSpread cX7_laysSpread 7 ((some .int)) { frames := 5, cells := 0, slots := 0, locals := 122 }) (hE : mEnd E { frames := 5, cells := 0, slots := 0, locals := 122 } (pI_ Post)) : ∀ (n_ : Nat) (M : MM) (x6 : Int32), mkd M a0 = 7 → wl_X7_laysSpread_159 a0 x1 x2 x3 x4 x5 X185 n_ M x6 → (∀ (M' : MM), mMo M M' → X185 M' → mV E M' 0 0 185 [(0, .ref a0), (1, .int x1), (2, .int x2), (3, .int x3), (4, .int x4), (5, .int x5)] []) → mV E M 0 0 159 [(0, .ref a0), (1, .int x1), (2, .int x2), (3, .int x3), (4, .int x4), (5, .int x5), (6, .int x6)] [] := by
  intro n_
  induction n_ with
  | zero =>
    intro M x6 k_a0 h hX185
    exact absurd h (by rw [wl_X7_laysSpread_159]; exact fun q => q)
  | succ n_ ih =>
    intro M x6 k_a0 h hX185
    rw [wl_X7_laysSpread_159] at h
    refine r_iload C dX7_laysSpread_159 (pc' := 161) rfl (j := 6) rfl ?_
    refine r_iconst C dX7_laysSpread_161 (pc' := 162) rfl (v := 4) rfl ?_
    refine r_icmp_ge C dX7_laysSpread_162 (pc' := 165) rfl (tgt := 185) (by decide) (fun c_66 => ?_) (fun c_66 => ?_)
    · have h := it_t h c_66
      refine r_sub (lv' := [(0, .ref a0), (1, .int x1), (2, .int x2), (3, .int x3), (4, .int x4), (5, .int x5)]) [0, 1, 2, 3, 4, 5] rfl ?_
      exact hX185 M mMo.rf h
    · have h := it_f h c_66
      refine r_aload_n C dX7_laysSpread_165 (pc' := 166) rfl (j := 0) rfl ?_
      refine r_getf C (Cn := RX7) (T := TX7) 44 k_a0 (by decide) vc_X7 in_X7 (by decide) q1268 dX7_laysSpread_166 (pc' := 169) rfl (v := va_rf (mgR M a0 44)) rfl ?_
      obtain ⟨b_67, e_68, k_69, h⟩ := h
      refine r_ref [] e_68 ?_
      refine r_iload C dX7_laysSpread_169 (pc' := 171) rfl (j := 6) rfl ?_
      refine r_aload_n C dX7_laysSpread_171 (pc' := 172) rfl (j := 0) rfl ?_
      refine r_getf C (Cn := RX7) (T := TX7) 43 k_a0 (by decide) vc_X7 in_X7 (by decide) q1267 dX7_laysSpread_172 (pc' := 175) rfl (v := va_rf (mgR M a0 43)) rfl ?_
      obtain ⟨b_70, e_71, k_72, h⟩ := h
      refine r_ref [] e_71 ?_
      refine r_iload C dX7_laysSpread_175 (pc' := 177) rfl (j := 6) rfl ?_
      obtain ⟨c_73, h⟩ := h
      refine r_iald C (j := (ix_ x6)) k_72 c_73 rfl dX7_laysSpread_177 (pc' := 178) rfl ?_
      obtain ⟨c_74, h⟩ := h
      obtain ⟨M_75, e_76, h⟩ := bn_ h
      refine r_iast C (j := (ix_ x6)) k_69 c_74 rfl dX7_laysSpread_178 (pc' := 179) rfl M_75 e_76 ?_
      obtain ⟨x6_77, e_78, h⟩ := bn_ h
      refine r_iinc C (lv' := [(6, .int x6_77), (0, .ref a0), (1, .int x1), (2, .int x2), (3, .int x3), (4, .int x4), (5, .int x5)]) dX7_laysSpread_179 (pc' := 182) rfl (j := 6) rfl x6_77 (by rw [e_78]; rfl) (Nat.le_of_ble_eq_true rfl) rfl ?_
      refine r_goto C dX7_laysSpread_182 (tgt := 159) (by decide) ?_
      refine r_sub (lv' := [(0, .ref a0), (1, .int x1), (2, .int x2), (3, .int x3), (4, .int x4), (5, .int x5), (6, .int x6_77)]) [1, 2, 3, 4, 5, 6, 0] rfl ?_
      exact ih M_75 x6_77 (mMo.kd (mo_I e_76) k_a0 (by decide)) h (fun M9 hm9 h9 => hX185 M9 (mMo.tr (mo_I e_76) hm9) h9)
set_option maxHeartbeats 4000000 in
theorem B_X7_laysSpread_83 {E : mE} {a0 : Nat} {x1 : Int32} {x3 : Int32} {x4 : Int32} {X191 : MM → Int32 → Prop} {Post : Int32 → MM → Prop} (C : mC E yX7_laysSpread cX7_laysSpread 7 ((some .int)) { frames := 5, cells := 0, slots := 0, locals := 122 }) (hE : mEnd E { frames := 5, cells := 0, slots := 0, locals := 122 } (pI_ Post)) : ∀ (n_ : Nat) (M : MM) (x2 : Int32) (x5 : Int32), mkd M a0 = 7 → wl_X7_laysSpread_83 a0 x1 x3 x4 X191 n_ M x2 x5 → (∀ (M' : MM) (x2' : Int32), mMo M M' → X191 M' x2' → mV E M' 0 0 191 [(0, .ref a0), (1, .int x1), (2, .int x2'), (3, .int x3), (4, .int x4)] []) → mV E M 0 0 83 [(0, .ref a0), (1, .int x1), (2, .int x2), (3, .int x3), (4, .int x4), (5, .int x5)] [] := by
  intro n_
  induction n_ with
  | zero =>
    intro M x2 x5 k_a0 h hX191
    exact absurd h (by rw [wl_X7_laysSpread_83]; exact fun q => q)
  | succ n_ ih =>
    intro M x2 x5 k_a0 h hX191
    rw [wl_X7_laysSpread_83] at h
    refine r_iload_n C dX7_laysSpread_83 (pc' := 84) rfl (j := 3) rfl ?_
    refine r_iload C dX7_laysSpread_84 (pc' := 86) rfl (j := 4) rfl ?_
    refine r_iadd C dX7_laysSpread_86 (pc' := 87) rfl ?_
    refine r_iload C dX7_laysSpread_87 (pc' := 89) rfl (j := 5) rfl ?_
    refine r_iadd C dX7_laysSpread_89 (pc' := 90) rfl ?_
    refine r_iload_n C dX7_laysSpread_90 (pc' := 91) rfl (j := 1) rfl ?_
    refine r_icmp_gt C dX7_laysSpread_91 (pc' := 94) rfl (tgt := 191) (by decide) (fun c_28 => ?_) (fun c_28 => ?_)
    · have h := it_t h c_28
      refine r_sub (lv' := [(0, .ref a0), (1, .int x1), (2, .int x2), (3, .int x3), (4, .int x4)]) [0, 1, 2, 3, 4] rfl ?_
      exact hX191 M x2 mMo.rf h
    · have h := it_f h c_28
      refine r_aload_n C dX7_laysSpread_94 (pc' := 95) rfl (j := 0) rfl ?_
      refine r_getf C (Cn := RX7) (T := TX7) 43 k_a0 (by decide) vc_X7 in_X7 (by decide) q1267 dX7_laysSpread_95 (pc' := 98) rfl (v := va_rf (mgR M a0 43)) rfl ?_
      obtain ⟨b_29, e_30, k_31, h⟩ := h
      refine r_ref [] e_30 ?_
      refine r_iconst C dX7_laysSpread_98 (pc' := 99) rfl (v := 0) rfl ?_
      refine r_iload_n C dX7_laysSpread_99 (pc' := 100) rfl (j := 3) rfl ?_
      obtain ⟨c_32, h⟩ := h
      obtain ⟨M_33, e_34, h⟩ := bn_ h
      refine r_iast C (j := 0) k_31 (vp_l (by decide) (by decide) c_32) (by decide) dX7_laysSpread_100 (pc' := 101) rfl M_33 e_34 ?_
      refine r_aload_n C dX7_laysSpread_101 (pc' := 102) rfl (j := 0) rfl ?_
      refine r_getf C (Cn := RX7) (T := TX7) 43 (mMo.kd (mo_I e_34) k_a0 (by decide)) (by decide) vc_X7 in_X7 (by decide) q1267 dX7_laysSpread_102 (pc' := 105) rfl (v := va_rf (mgR M_33 a0 43)) rfl ?_
      obtain ⟨b_35, e_36, k_37, h⟩ := h
      refine r_ref [] e_36 ?_
      refine r_iconst C dX7_laysSpread_105 (pc' := 106) rfl (v := 1) rfl ?_
      refine r_iload C dX7_laysSpread_106 (pc' := 108) rfl (j := 4) rfl ?_
      obtain ⟨c_38, h⟩ := h
      obtain ⟨M_39, e_40, h⟩ := bn_ h
      refine r_iast C (j := 1) k_37 (vp_l (by decide) (by decide) c_38) (by decide) dX7_laysSpread_108 (pc' := 109) rfl M_39 e_40 ?_
      refine r_aload_n C dX7_laysSpread_109 (pc' := 110) rfl (j := 0) rfl ?_
      refine r_getf C (Cn := RX7) (T := TX7) 43 (mMo.kd (mo_I e_40) (mMo.kd (mo_I e_34) k_a0 (by decide)) (by decide)) (by decide) vc_X7 in_X7 (by decide) q1267 dX7_laysSpread_110 (pc' := 113) rfl (v := va_rf (mgR M_39 a0 43)) rfl ?_
      obtain ⟨b_41, e_42, k_43, h⟩ := h
      refine r_ref [] e_42 ?_
      refine r_iconst C dX7_laysSpread_113 (pc' := 114) rfl (v := 2) rfl ?_
      refine r_iload C dX7_laysSpread_114 (pc' := 116) rfl (j := 5) rfl ?_
      obtain ⟨c_44, h⟩ := h
      obtain ⟨M_45, e_46, h⟩ := bn_ h
      refine r_iast C (j := 2) k_43 (vp_l (by decide) (by decide) c_44) (by decide) dX7_laysSpread_116 (pc' := 117) rfl M_45 e_46 ?_
      refine r_aload_n C dX7_laysSpread_117 (pc' := 118) rfl (j := 0) rfl ?_
      refine r_getf C (Cn := RX7) (T := TX7) 43 (mMo.kd (mo_I e_46) (mMo.kd (mo_I e_40) (mMo.kd (mo_I e_34) k_a0 (by decide)) (by decide)) (by decide)) (by decide) vc_X7 in_X7 (by decide) q1267 dX7_laysSpread_118 (pc' := 121) rfl (v := va_rf (mgR M_45 a0 43)) rfl ?_
      obtain ⟨b_47, e_48, k_49, h⟩ := h
      refine r_ref [] e_48 ?_
      refine r_iconst C dX7_laysSpread_121 (pc' := 122) rfl (v := 3) rfl ?_
      refine r_iload_n C dX7_laysSpread_122 (pc' := 123) rfl (j := 1) rfl ?_
      refine r_iload_n C dX7_laysSpread_123 (pc' := 124) rfl (j := 3) rfl ?_
      refine r_isub C dX7_laysSpread_124 (pc' := 125) rfl ?_
      refine r_iload C dX7_laysSpread_125 (pc' := 127) rfl (j := 4) rfl ?_
      refine r_isub C dX7_laysSpread_127 (pc' := 128) rfl ?_
      refine r_iload C dX7_laysSpread_128 (pc' := 130) rfl (j := 5) rfl ?_
      refine r_isub C dX7_laysSpread_130 (pc' := 131) rfl ?_
      obtain ⟨c_50, h⟩ := h
      obtain ⟨M_51, e_52, h⟩ := bn_ h
      refine r_iast C (j := 3) k_49 (vp_l (by decide) (by decide) c_50) (by decide) dX7_laysSpread_131 (pc' := 132) rfl M_51 e_52 ?_
      refine r_aload_n C dX7_laysSpread_132 (pc' := 133) rfl (j := 0) rfl ?_
      refine r_iload_n C dX7_laysSpread_133 (pc' := 134) rfl (j := 1) rfl ?_
      refine r_callVi (As := [.int x1]) (rest := []) (Cn := RX7) (T := TX7) C (mMo.kd (mo_I e_52) (mMo.kd (mo_I e_46) (mMo.kd (mo_I e_40) (mMo.kd (mo_I e_34) k_a0 (by decide)) (by decide)) (by decide)) (by decide)) (by decide) vc_X7 (S_X7_mayBe (mMo.kd (mo_I e_52) (mMo.kd (mo_I e_46) (mMo.kd (mo_I e_40) (mMo.kd (mo_I e_34) k_a0 (by decide)) (by decide)) (by decide)) (by decide)) h) (lw_V q1679 q1681 qs93 q112 q1682) rfl hd_X7_mayBe rfl rfl (Nat.le_of_ble_eq_true rfl) (Nat.le_of_ble_eq_true rfl) (Nat.le_of_ble_eq_true rfl) rfl rfl (Nat.le_of_ble_eq_true rfl) (Nat.le_of_ble_eq_true rfl) dX7_laysSpread_134 (pc' := 137) rfl (fun r_54 M_53 h m_55 => ?_)
      refine r_if_eq C dX7_laysSpread_137 (pc' := 140) rfl (tgt := 185) (by decide) (fun c_56 => ?_) (fun c_56 => ?_)
      · have h := it_t h c_56
        obtain ⟨x5_57, e_58, h⟩ := bn_ h
        refine r_iinc C (lv' := [(5, .int x5_57), (0, .ref a0), (1, .int x1), (2, .int x2), (3, .int x3), (4, .int x4)]) dX7_laysSpread_185 (pc' := 188) rfl (j := 5) rfl x5_57 (by rw [e_58]; rfl) (Nat.le_of_ble_eq_true rfl) rfl ?_
        refine r_goto C dX7_laysSpread_188 (tgt := 83) (by decide) ?_
        refine r_sub (lv' := [(0, .ref a0), (1, .int x1), (2, .int x2), (3, .int x3), (4, .int x4), (5, .int x5_57)]) [1, 2, 3, 4, 5, 0] rfl ?_
        exact ih M_53 x2 x5_57 (mMo.kd m_55 (mMo.kd (mo_I e_52) (mMo.kd (mo_I e_46) (mMo.kd (mo_I e_40) (mMo.kd (mo_I e_34) k_a0 (by decide)) (by decide)) (by decide)) (by decide)) (by decide)) h (fun M9 w0 hm9 h9 => hX191 M9 w0 (mMo.tr (mMo.tr (mMo.tr (mMo.tr (mMo.tr (mo_I e_34) (mo_I e_40)) (mo_I e_46)) (mo_I e_52)) m_55) hm9) h9)
      · have h := it_f h c_56
        refine r_aload_n C dX7_laysSpread_140 (pc' := 141) rfl (j := 0) rfl ?_
        refine r_callVi (As := []) (rest := []) (Cn := RX7) (T := TX7) C (mMo.kd m_55 (mMo.kd (mo_I e_52) (mMo.kd (mo_I e_46) (mMo.kd (mo_I e_40) (mMo.kd (mo_I e_34) k_a0 (by decide)) (by decide)) (by decide)) (by decide)) (by decide)) (by decide) vc_X7 (S_X7_leastBy (mMo.kd m_55 (mMo.kd (mo_I e_52) (mMo.kd (mo_I e_46) (mMo.kd (mo_I e_40) (mMo.kd (mo_I e_34) k_a0 (by decide)) (by decide)) (by decide)) (by decide)) (by decide)) h) (lw_V q1683 q1685 qs94 q112 q1686) rfl hd_X7_leastBy rfl rfl (Nat.le_of_ble_eq_true rfl) (Nat.le_of_ble_eq_true rfl) (Nat.le_of_ble_eq_true rfl) rfl rfl (Nat.le_of_ble_eq_true rfl) (Nat.le_of_ble_eq_true rfl) dX7_laysSpread_141 (pc' := 144) rfl (fun r_60 M_59 h m_61 => ?_)
        refine r_iload_n C dX7_laysSpread_144 (pc' := 145) rfl (j := 2) rfl ?_
        refine r_icmp_gt C dX7_laysSpread_145 (pc' := 148) rfl (tgt := 151) (by decide) (fun c_62 => ?_) (fun c_62 => ?_)
        · have h := it_t h c_62
          refine r_aload_n C dX7_laysSpread_151 (pc' := 152) rfl (j := 0) rfl ?_
          refine r_callVi (As := []) (rest := []) (Cn := RX7) (T := TX7) C (mMo.kd m_61 (mMo.kd m_55 (mMo.kd (mo_I e_52) (mMo.kd (mo_I e_46) (mMo.kd (mo_I e_40) (mMo.kd (mo_I e_34) k_a0 (by decide)) (by decide)) (by decide)) (by decide)) (by decide)) (by decide)) (by decide) vc_X7 (S_X7_leastBy (mMo.kd m_61 (mMo.kd m_55 (mMo.kd (mo_I e_52) (mMo.kd (mo_I e_46) (mMo.kd (mo_I e_40) (mMo.kd (mo_I e_34) k_a0 (by decide)) (by decide)) (by decide)) (by decide)) (by decide)) (by decide)) h) (lw_V q1683 q1685 qs94 q112 q1686) rfl hd_X7_leastBy rfl rfl (Nat.le_of_ble_eq_true rfl) (Nat.le_of_ble_eq_true rfl) (Nat.le_of_ble_eq_true rfl) rfl rfl (Nat.le_of_ble_eq_true rfl) (Nat.le_of_ble_eq_true rfl) dX7_laysSpread_152 (pc' := 155) rfl (fun r_64 M_63 h m_65 => ?_)
          refine r_istore_n C (lv' := [(2, .int r_64), (0, .ref a0), (1, .int x1), (3, .int x3), (4, .int x4), (5, .int x5)]) dX7_laysSpread_155 (pc' := 156) rfl rfl r_64 rfl (Nat.le_of_ble_eq_true rfl) rfl ?_
          refine r_iconst C dX7_laysSpread_156 (pc' := 157) rfl (v := 0) rfl ?_
          refine r_istore C (lv' := [(6, .int (0 : Int32)), (2, .int r_64), (0, .ref a0), (1, .int x1), (3, .int x3), (4, .int x4), (5, .int x5)]) dX7_laysSpread_157 (pc' := 159) rfl (0 : Int32) rfl (Nat.le_of_ble_eq_true rfl) rfl ?_
          obtain ⟨n_79, h⟩ := h
          refine r_sub (lv' := [(0, .ref a0), (1, .int x1), (2, .int r_64), (3, .int x3), (4, .int x4), (5, .int x5), (6, .int (0 : Int32))]) [2, 3, 1, 4, 5, 6, 0] rfl ?_
          refine B_X7_laysSpread_159 C hE n_79 M_63 (0 : Int32) (mMo.kd m_65 (mMo.kd m_61 (mMo.kd m_55 (mMo.kd (mo_I e_52) (mMo.kd (mo_I e_46) (mMo.kd (mo_I e_40) (mMo.kd (mo_I e_34) k_a0 (by decide)) (by decide)) (by decide)) (by decide)) (by decide)) (by decide)) (by decide)) h (fun M_80 m_81 h => ?_)
          obtain ⟨x5_82, e_83, h⟩ := bn_ h
          refine r_iinc C (lv' := [(5, .int x5_82), (0, .ref a0), (1, .int x1), (2, .int r_64), (3, .int x3), (4, .int x4)]) dX7_laysSpread_185 (pc' := 188) rfl (j := 5) rfl x5_82 (by rw [e_83]; rfl) (Nat.le_of_ble_eq_true rfl) rfl ?_
          refine r_goto C dX7_laysSpread_188 (tgt := 83) (by decide) ?_
          refine r_sub (lv' := [(0, .ref a0), (1, .int x1), (2, .int r_64), (3, .int x3), (4, .int x4), (5, .int x5_82)]) [1, 2, 3, 4, 5, 0] rfl ?_
          exact ih M_80 r_64 x5_82 (mMo.kd m_81 (mMo.kd m_65 (mMo.kd m_61 (mMo.kd m_55 (mMo.kd (mo_I e_52) (mMo.kd (mo_I e_46) (mMo.kd (mo_I e_40) (mMo.kd (mo_I e_34) k_a0 (by decide)) (by decide)) (by decide)) (by decide)) (by decide)) (by decide)) (by decide)) (by decide)) h (fun M9 w0 hm9 h9 => hX191 M9 w0 (mMo.tr (mMo.tr (mMo.tr (mMo.tr (mMo.tr (mMo.tr (mMo.tr (mMo.tr (mo_I e_34) (mo_I e_40)) (mo_I e_46)) (mo_I e_52)) m_55) m_61) m_65) m_81) hm9) h9)
        · have h := it_f h c_62
          refine r_goto C dX7_laysSpread_148 (tgt := 185) (by decide) ?_
          obtain ⟨x5_84, e_85, h⟩ := bn_ h
          refine r_iinc C (lv' := [(5, .int x5_84), (0, .ref a0), (1, .int x1), (2, .int x2), (3, .int x3), (4, .int x4)]) dX7_laysSpread_185 (pc' := 188) rfl (j := 5) rfl x5_84 (by rw [e_85]; rfl) (Nat.le_of_ble_eq_true rfl) rfl ?_
          refine r_goto C dX7_laysSpread_188 (tgt := 83) (by decide) ?_
          refine r_sub (lv' := [(0, .ref a0), (1, .int x1), (2, .int x2), (3, .int x3), (4, .int x4), (5, .int x5_84)]) [1, 2, 3, 4, 5, 0] rfl ?_
          exact ih M_59 x2 x5_84 (mMo.kd m_61 (mMo.kd m_55 (mMo.kd (mo_I e_52) (mMo.kd (mo_I e_46) (mMo.kd (mo_I e_40) (mMo.kd (mo_I e_34) k_a0 (by decide)) (by decide)) (by decide)) (by decide)) (by decide)) (by decide)) h (fun M9 w0 hm9 h9 => hX191 M9 w0 (mMo.tr (mMo.tr (mMo.tr (mMo.tr (mMo.tr (mMo.tr (mo_I e_34) (mo_I e_40)) (mo_I e_46)) (mo_I e_52)) m_55) m_61) hm9) h9)
set_option maxHeartbeats 4000000 in
theorem B_X7_laysSpread_72 {E : mE} {a0 : Nat} {x1 : Int32} {x3 : Int32} {X197 : MM → Int32 → Prop} {Post : Int32 → MM → Prop} (C : mC E yX7_laysSpread cX7_laysSpread 7 ((some .int)) { frames := 5, cells := 0, slots := 0, locals := 122 }) (hE : mEnd E { frames := 5, cells := 0, slots := 0, locals := 122 } (pI_ Post)) : ∀ (n_ : Nat) (M : MM) (x2 : Int32) (x4 : Int32), mkd M a0 = 7 → wl_X7_laysSpread_72 a0 x1 x3 X197 n_ M x2 x4 → (∀ (M' : MM) (x2' : Int32), mMo M M' → X197 M' x2' → mV E M' 0 0 197 [(0, .ref a0), (1, .int x1), (2, .int x2'), (3, .int x3)] []) → mV E M 0 0 72 [(0, .ref a0), (1, .int x1), (2, .int x2), (3, .int x3), (4, .int x4)] [] := by
  intro n_
  induction n_ with
  | zero =>
    intro M x2 x4 k_a0 h hX197
    exact absurd h (by rw [wl_X7_laysSpread_72]; exact fun q => q)
  | succ n_ ih =>
    intro M x2 x4 k_a0 h hX197
    rw [wl_X7_laysSpread_72] at h
    refine r_iload_n C dX7_laysSpread_72 (pc' := 73) rfl (j := 3) rfl ?_
    refine r_iload C dX7_laysSpread_73 (pc' := 75) rfl (j := 4) rfl ?_
    refine r_iadd C dX7_laysSpread_75 (pc' := 76) rfl ?_
    refine r_iload_n C dX7_laysSpread_76 (pc' := 77) rfl (j := 1) rfl ?_
    refine r_icmp_gt C dX7_laysSpread_77 (pc' := 80) rfl (tgt := 197) (by decide) (fun c_27 => ?_) (fun c_27 => ?_)
    · have h := it_t h c_27
      refine r_sub (lv' := [(0, .ref a0), (1, .int x1), (2, .int x2), (3, .int x3)]) [0, 1, 2, 3] rfl ?_
      exact hX197 M x2 mMo.rf h
    · have h := it_f h c_27
      refine r_iconst C dX7_laysSpread_80 (pc' := 81) rfl (v := 0) rfl ?_
      refine r_istore C (lv' := [(5, .int (0 : Int32)), (0, .ref a0), (1, .int x1), (2, .int x2), (3, .int x3), (4, .int x4)]) dX7_laysSpread_81 (pc' := 83) rfl (0 : Int32) rfl (Nat.le_of_ble_eq_true rfl) rfl ?_
      obtain ⟨n_86, h⟩ := h
      refine r_sub (lv' := [(0, .ref a0), (1, .int x1), (2, .int x2), (3, .int x3), (4, .int x4), (5, .int (0 : Int32))]) [1, 2, 3, 4, 5, 0] rfl ?_
      refine B_X7_laysSpread_83 C hE n_86 M x2 (0 : Int32) k_a0 h (fun M_87 x2_89 m_88 h => ?_)
      obtain ⟨x4_90, e_91, h⟩ := bn_ h
      refine r_iinc C (lv' := [(4, .int x4_90), (0, .ref a0), (1, .int x1), (2, .int x2_89), (3, .int x3)]) dX7_laysSpread_191 (pc' := 194) rfl (j := 4) rfl x4_90 (by rw [e_91]; rfl) (Nat.le_of_ble_eq_true rfl) rfl ?_
      refine r_goto C dX7_laysSpread_194 (tgt := 72) (by decide) ?_
      refine r_sub (lv' := [(0, .ref a0), (1, .int x1), (2, .int x2_89), (3, .int x3), (4, .int x4_90)]) [1, 2, 3, 4, 0] rfl ?_
      exact ih M_87 x2_89 x4_90 (mMo.kd m_88 k_a0 (by decide)) h (fun M9 w0 hm9 h9 => hX197 M9 w0 (mMo.tr m_88 hm9) h9)
set_option maxHeartbeats 4000000 in
theorem B_X7_laysSpread_64 {E : mE} {a0 : Nat} {x1 : Int32} {X203 : MM → Int32 → Prop} {Post : Int32 → MM → Prop} (C : mC E yX7_laysSpread cX7_laysSpread 7 ((some .int)) { frames := 5, cells := 0, slots := 0, locals := 122 }) (hE : mEnd E { frames := 5, cells := 0, slots := 0, locals := 122 } (pI_ Post)) : ∀ (n_ : Nat) (M : MM) (x2 : Int32) (x3 : Int32), mkd M a0 = 7 → wl_X7_laysSpread_64 a0 x1 X203 n_ M x2 x3 → (∀ (M' : MM) (x2' : Int32), mMo M M' → X203 M' x2' → mV E M' 0 0 203 [(2, .int x2')] []) → mV E M 0 0 64 [(0, .ref a0), (1, .int x1), (2, .int x2), (3, .int x3)] [] := by
  intro n_
  induction n_ with
  | zero =>
    intro M x2 x3 k_a0 h hX203
    exact absurd h (by rw [wl_X7_laysSpread_64]; exact fun q => q)
  | succ n_ ih =>
    intro M x2 x3 k_a0 h hX203
    rw [wl_X7_laysSpread_64] at h
    refine r_iload_n C dX7_laysSpread_64 (pc' := 65) rfl (j := 3) rfl ?_
    refine r_iload_n C dX7_laysSpread_65 (pc' := 66) rfl (j := 1) rfl ?_
    refine r_icmp_gt C dX7_laysSpread_66 (pc' := 69) rfl (tgt := 203) (by decide) (fun c_26 => ?_) (fun c_26 => ?_)
    · have h := it_t h c_26
      refine r_sub (lv' := [(2, .int x2)]) [2] rfl ?_
      exact hX203 M x2 mMo.rf h
    · have h := it_f h c_26
      refine r_iconst C dX7_laysSpread_69 (pc' := 70) rfl (v := 0) rfl ?_
      refine r_istore C (lv' := [(4, .int (0 : Int32)), (0, .ref a0), (1, .int x1), (2, .int x2), (3, .int x3)]) dX7_laysSpread_70 (pc' := 72) rfl (0 : Int32) rfl (Nat.le_of_ble_eq_true rfl) rfl ?_
      obtain ⟨n_92, h⟩ := h
      refine r_sub (lv' := [(0, .ref a0), (1, .int x1), (2, .int x2), (3, .int x3), (4, .int (0 : Int32))]) [1, 2, 3, 4, 0] rfl ?_
      refine B_X7_laysSpread_72 C hE n_92 M x2 (0 : Int32) k_a0 h (fun M_93 x2_95 m_94 h => ?_)
      obtain ⟨x3_96, e_97, h⟩ := bn_ h
      refine r_iinc C (lv' := [(3, .int x3_96), (0, .ref a0), (1, .int x1), (2, .int x2_95)]) dX7_laysSpread_197 (pc' := 200) rfl (j := 3) rfl x3_96 (by rw [e_97]; rfl) (Nat.le_of_ble_eq_true rfl) rfl ?_
      refine r_goto C dX7_laysSpread_200 (tgt := 64) (by decide) ?_
      refine r_sub (lv' := [(0, .ref a0), (1, .int x1), (2, .int x2_95), (3, .int x3_96)]) [1, 2, 3, 0] rfl ?_
      exact ih M_93 x2_95 x3_96 (mMo.kd m_94 k_a0 (by decide)) h (fun M9 w0 hm9 h9 => hX203 M9 w0 (mMo.tr m_94 hm9) h9)
set_option maxHeartbeats 4000000 in
theorem S_X7_laysSpread {D : DD} {l : Launch} {M : MM} {a0 : Nat} {x1 : Int32} {Post : Int32 → MM → Prop} (k_a0 : mkd M a0 = 7) (h : wp_X7_laysSpread M a0 x1 Post) : mMet D l yX7_laysSpread cX7_laysSpread 7 ((some .int)) { frames := 5, cells := 0, slots := 0, locals := 122 } M [.ref a0, .int x1] (pI_ Post) := by
  refine m_of2 [(0, .ref a0), (1, .int x1)] (by decide +kernel) (Nat.le_of_ble_eq_true rfl) rfl (fun E hED hEl C hE => ?_)
  subst hED
  subst hEl
  unfold wp_X7_laysSpread at h
  refine r_iconst C dX7_laysSpread_0 (pc' := 1) rfl (v := -1) rfl ?_
  refine r_istore_n C (lv' := [(2, .int (-1 : Int32)), (0, .ref a0), (1, .int x1)]) dX7_laysSpread_1 (pc' := 2) rfl rfl (-1 : Int32) rfl (Nat.le_of_ble_eq_true rfl) rfl ?_
  refine r_iconst C dX7_laysSpread_2 (pc' := 3) rfl (v := 0) rfl ?_
  refine r_istore_n C (lv' := [(3, .int (0 : Int32)), (2, .int (-1 : Int32)), (0, .ref a0), (1, .int x1)]) dX7_laysSpread_3 (pc' := 4) rfl rfl (0 : Int32) rfl (Nat.le_of_ble_eq_true rfl) rfl ?_
  obtain ⟨n_23, h⟩ := h
  refine r_sub (lv' := [(0, .ref a0), (1, .int x1), (2, .int (-1 : Int32)), (3, .int (0 : Int32))]) [2, 3, 1, 0] rfl ?_
  refine B_X7_laysSpread_4 C hE n_23 M (0 : Int32) k_a0 h (fun M_24 m_25 h => ?_)
  refine r_iconst C dX7_laysSpread_62 (pc' := 63) rfl (v := 0) rfl ?_
  refine r_istore_n C (lv' := [(3, .int (0 : Int32)), (0, .ref a0), (1, .int x1), (2, .int (-1 : Int32))]) dX7_laysSpread_63 (pc' := 64) rfl rfl (0 : Int32) rfl (Nat.le_of_ble_eq_true rfl) rfl ?_
  obtain ⟨n_98, h⟩ := h
  refine r_sub (lv' := [(0, .ref a0), (1, .int x1), (2, .int (-1 : Int32)), (3, .int (0 : Int32))]) [1, 2, 3, 0] rfl ?_
  refine B_X7_laysSpread_64 C hE n_98 M_24 (-1 : Int32) (0 : Int32) (mMo.kd m_25 k_a0 (by decide)) h (fun M_99 x2_101 m_100 h => ?_)
  refine r_iload_n C dX7_laysSpread_203 (pc' := 204) rfl (j := 0) rfl ?_
  exact r_iret C hE (Nat.le_of_ble_eq_true rfl) (Nat.le_of_ble_eq_true rfl) dX7_laysSpread_204 ⟨_, rfl, h⟩
set_option maxHeartbeats 4000000 in
theorem B_X7_spread_27 {E : mE} {M : MM} {a0 : Nat} {x1 : Int32} {x2 : Int32} {Post : Int32 → MM → Prop} (C : mC E yX7_spread cX7_spread 4 ((some .int)) { frames := 6, cells := 0, slots := 0, locals := 148 }) (hE : mEnd E { frames := 6, cells := 0, slots := 0, locals := 148 } (pI_ Post)) (k_a0 : mkd M a0 = 7) (h : wb_X7_spread_27 M a0 x1 x2 Post) : mV E M 0 0 27 [(0, .ref a0), (1, .int x1), (2, .int x2)] [] := by
  unfold wb_X7_spread_27 at h
  refine r_aload_n C dX7_spread_27 (pc' := 28) rfl (j := 0) rfl ?_
  refine r_getf C (Cn := RX7) (T := TX7) 0 k_a0 (by decide) vc_X7 in_X7 (by decide) q1224 dX7_spread_28 (pc' := 31) rfl (v := va_rf (mgR M a0 0)) rfl ?_
  obtain ⟨b_6, e_7, k_8, h⟩ := h
  refine r_ref [] e_7 ?_
  refine r_bipush C dX7_spread_31 (pc' := 33) rfl (v := 76) rfl ?_
  obtain ⟨c_9, h⟩ := h
  refine r_iald C (j := 76) k_8 (vp_l (by decide) (by decide) c_9) (by decide) dX7_spread_33 (pc' := 34) rfl ?_
  refine r_aload_n C dX7_spread_34 (pc' := 35) rfl (j := 0) rfl ?_
  refine r_getf C (Cn := RX7) (T := TX7) 0 k_a0 (by decide) vc_X7 in_X7 (by decide) q1224 dX7_spread_35 (pc' := 38) rfl (v := va_rf (mgR M a0 0)) rfl ?_
  obtain ⟨b_10, e_11, k_12, h⟩ := h
  refine r_ref [] e_11 ?_
  refine r_bipush C dX7_spread_38 (pc' := 40) rfl (v := 77) rfl ?_
  obtain ⟨c_13, h⟩ := h
  refine r_iald C (j := 77) k_12 (vp_l (by decide) (by decide) c_13) (by decide) dX7_spread_40 (pc' := 41) rfl ?_
  refine r_iconst C dX7_spread_41 (pc' := 42) rfl (v := -1) rfl ?_
  refine r_ixor C dX7_spread_42 (pc' := 43) rfl ?_
  refine r_iand C dX7_spread_43 (pc' := 44) rfl ?_
  refine r_if_ne C dX7_spread_44 (pc' := 47) rfl (tgt := 50) (by decide) (fun c_14 => ?_) (fun c_14 => ?_)
  · have h := it_f h c_14
    refine r_aload_n C dX7_spread_50 (pc' := 51) rfl (j := 0) rfl ?_
    refine r_iload_n C dX7_spread_51 (pc' := 52) rfl (j := 1) rfl ?_
    refine r_callVi (As := [.int x1]) (rest := []) (Cn := RX7) (T := TX7) C k_a0 (by decide) vc_X7 (S_X7_laysSpread k_a0 h) (lw_V q1675 q1677 qs92 q112 q1678) rfl hd_X7_laysSpread rfl rfl (Nat.le_of_ble_eq_true rfl) (Nat.le_of_ble_eq_true rfl) (Nat.le_of_ble_eq_true rfl) rfl rfl (Nat.le_of_ble_eq_true rfl) (Nat.le_of_ble_eq_true rfl) dX7_spread_52 (pc' := 55) rfl (fun r_16 M_15 h m_17 => ?_)
    refine r_istore_n C (lv' := [(3, .int r_16), (0, .ref a0), (1, .int x1), (2, .int x2)]) dX7_spread_55 (pc' := 56) rfl rfl r_16 rfl (Nat.le_of_ble_eq_true rfl) rfl ?_
    refine r_iload_n C dX7_spread_56 (pc' := 57) rfl (j := 3) rfl ?_
    refine r_bipush C dX7_spread_57 (pc' := 59) rfl (v := 10) rfl ?_
    refine r_icmp_ne C dX7_spread_59 (pc' := 62) rfl (tgt := 66) (by decide) (fun c_18 => ?_) (fun c_18 => ?_)
    · have h := it_f h c_18
      refine r_aload_n C dX7_spread_66 (pc' := 67) rfl (j := 1) rfl ?_
      refine r_getf C (Cn := RX7) (T := TX7) 44 (mMo.kd m_17 k_a0 (by decide)) (by decide) vc_X7 in_X7 (by decide) q1268 dX7_spread_67 (pc' := 70) rfl (v := va_rf (mgR M_15 a0 44)) rfl ?_
      obtain ⟨b_19, e_20, k_21, h⟩ := h
      refine r_ref [] e_20 ?_
      refine r_iload_n C dX7_spread_70 (pc' := 71) rfl (j := 3) rfl ?_
      obtain ⟨c_22, h⟩ := h
      refine r_iald C (j := (ix_ x2)) k_21 c_22 rfl dX7_spread_71 (pc' := 72) rfl ?_
      exact r_iret C hE (Nat.le_of_ble_eq_true rfl) (Nat.le_of_ble_eq_true rfl) dX7_spread_72 ⟨_, rfl, h⟩
    · have h := it_t h c_18
      refine r_iload_n C dX7_spread_62 (pc' := 63) rfl (j := 0) rfl ?_
      refine r_goto C dX7_spread_63 (tgt := 72) (by decide) ?_
      exact r_iret C hE (Nat.le_of_ble_eq_true rfl) (Nat.le_of_ble_eq_true rfl) dX7_spread_72 ⟨_, rfl, h⟩
  · have h := it_t h c_14
    refine r_bipush C dX7_spread_47 (pc' := 49) rfl (v := -2) rfl ?_
    exact r_iret C hE (Nat.le_of_ble_eq_true rfl) (Nat.le_of_ble_eq_true rfl) dX7_spread_49 ⟨_, rfl, h⟩
set_option maxHeartbeats 4000000 in
theorem S_X7_spread {D : DD} {l : Launch} {M : MM} {a0 : Nat} {x1 : Int32} {x2 : Int32} {Post : Int32 → MM → Prop} (k_a0 : mkd M a0 = 7) (h : wp_X7_spread M a0 x1 x2 Post) : mMet D l yX7_spread cX7_spread 4 ((some .int)) { frames := 6, cells := 0, slots := 0, locals := 148 } M [.ref a0, .int x1, .int x2] (pI_ Post) := by
  refine m_of2 [(0, .ref a0), (1, .int x1), (2, .int x2)] (by decide +kernel) (Nat.le_of_ble_eq_true rfl) rfl (fun E hED hEl C hE => ?_)
  subst hED
  subst hEl
  unfold wp_X7_spread at h
  refine r_iload_n C dX7_spread_0 (pc' := 1) rfl (j := 1) rfl ?_
  refine r_iconst C dX7_spread_1 (pc' := 2) rfl (v := 0) rfl ?_
  refine r_bipush C dX7_spread_2 (pc' := 4) rfl (v := 24) rfl ?_
  refine r_callSi (As := [.int x1, .int (0 : Int32), .int (24 : Int32)]) (rest := []) C (S_X7_in h) (lw_S q1391 q1392 q112 q1393) hd_X7_in rfl rfl (Nat.le_of_ble_eq_true rfl) (Nat.le_of_ble_eq_true rfl) (Nat.le_of_ble_eq_true rfl) rfl rfl (Nat.le_of_ble_eq_true rfl) (Nat.le_of_ble_eq_true rfl) dX7_spread_4 (pc' := 7) rfl (fun r_2 M_1 h m_3 => ?_)
  refine r_if_eq C dX7_spread_7 (pc' := 10) rfl (tgt := 25) (by decide) (fun c_4 => ?_) (fun c_4 => ?_)
  · have h := it_t h c_4
    refine r_iconst C dX7_spread_25 (pc' := 26) rfl (v := -1) rfl ?_
    exact r_iret C hE (Nat.le_of_ble_eq_true rfl) (Nat.le_of_ble_eq_true rfl) dX7_spread_26 ⟨_, rfl, h⟩
  · have h := it_f h c_4
    refine r_iload_n C dX7_spread_10 (pc' := 11) rfl (j := 2) rfl ?_
    refine r_bipush C dX7_spread_11 (pc' := 13) rfl (v := 10) rfl ?_
    refine r_icmp_eq C dX7_spread_13 (pc' := 16) rfl (tgt := 27) (by decide) (fun c_5 => ?_) (fun c_5 => ?_)
    · have h := it_t h c_5
      refine r_sub (lv' := [(0, .ref a0), (1, .int x1), (2, .int x2)]) [0, 1, 2] rfl ?_
      exact B_X7_spread_27 C hE (mMo.kd m_3 k_a0 (by decide)) h
    · have h := it_f h c_5
      refine r_iload_n C dX7_spread_16 (pc' := 17) rfl (j := 2) rfl ?_
      refine r_iconst C dX7_spread_17 (pc' := 18) rfl (v := 0) rfl ?_
      refine r_iconst C dX7_spread_18 (pc' := 19) rfl (v := 3) rfl ?_
      refine r_callSi (As := [.int x2, .int (0 : Int32), .int (3 : Int32)]) (rest := []) C (S_X7_in h) (lw_S q1391 q1392 q112 q1393) hd_X7_in rfl rfl (Nat.le_of_ble_eq_true rfl) (Nat.le_of_ble_eq_true rfl) (Nat.le_of_ble_eq_true rfl) rfl rfl (Nat.le_of_ble_eq_true rfl) (Nat.le_of_ble_eq_true rfl) dX7_spread_19 (pc' := 22) rfl (fun r_24 M_23 h m_25 => ?_)
      refine r_if_ne C dX7_spread_22 (pc' := 25) rfl (tgt := 27) (by decide) (fun c_26 => ?_) (fun c_26 => ?_)
      · have h := it_f h c_26
        refine r_sub (lv' := [(0, .ref a0), (1, .int x1), (2, .int x2)]) [0, 1, 2] rfl ?_
        exact B_X7_spread_27 C hE (mMo.kd m_25 (mMo.kd m_3 k_a0 (by decide)) (by decide)) h
      · have h := it_t h c_26
        refine r_iconst C dX7_spread_25 (pc' := 26) rfl (v := -1) rfl ?_
        exact r_iret C hE (Nat.le_of_ble_eq_true rfl) (Nat.le_of_ble_eq_true rfl) dX7_spread_26 ⟨_, rfl, h⟩
set_option maxHeartbeats 4000000 in
theorem B_X7_needs_22 {E : mE} {a0 : Nat} {x1 : Int32} {x2 : Int32} {X38 : MM → Int32 → Prop} {X46 : MM → Prop} {Post : Int32 → MM → Prop} (C : mC E yX7_needs cX7_needs 4 ((some .int)) { frames := 5, cells := 0, slots := 0, locals := 122 }) (hE : mEnd E { frames := 5, cells := 0, slots := 0, locals := 122 } (pI_ Post)) : ∀ (n_ : Nat) (M : MM) (x3 : Int32), mkd M a0 = 7 → wl_X7_needs_22 a0 x1 x2 X38 X46 n_ M x3 → (∀ (M' : MM) (x3' : Int32), mMo M M' → X38 M' x3' → mV E M' 0 0 38 [(3, .int x3')] []) → (∀ (M' : MM), mMo M M' → X46 M' → mV E M' 0 0 46 [] []) → mV E M 0 0 22 [(0, .ref a0), (1, .int x1), (2, .int x2), (3, .int x3)] [] := by
  intro n_
  induction n_ with
  | zero =>
    intro M x3 k_a0 h hX38 hX46
    exact absurd h (by rw [wl_X7_needs_22]; exact fun q => q)
  | succ n_ ih =>
    intro M x3 k_a0 h hX38 hX46
    rw [wl_X7_needs_22] at h
    refine r_iload_n C dX7_needs_22 (pc' := 23) rfl (j := 3) rfl ?_
    refine r_bipush C dX7_needs_23 (pc' := 25) rfl (v := 24) rfl ?_
    refine r_icmp_gt C dX7_needs_25 (pc' := 28) rfl (tgt := 46) (by decide) (fun c_9 => ?_) (fun c_9 => ?_)
    · have h := it_t h c_9
      refine r_sub (lv' := []) [] rfl ?_
      exact hX46 M mMo.rf h
    · have h := it_f h c_9
      refine r_aload_n C dX7_needs_28 (pc' := 29) rfl (j := 0) rfl ?_
      refine r_iload_n C dX7_needs_29 (pc' := 30) rfl (j := 1) rfl ?_
      refine r_iload_n C dX7_needs_30 (pc' := 31) rfl (j := 3) rfl ?_
      refine r_callVi (As := [.int x1, .int x3]) (rest := []) (Cn := RX7) (T := TX7) C k_a0 (by decide) vc_X7 (S_X7_lastsWith k_a0 h) (lw_V q1667 q1669 qs91 q112 q1670) rfl hd_X7_lastsWith rfl rfl (Nat.le_of_ble_eq_true rfl) (Nat.le_of_ble_eq_true rfl) (Nat.le_of_ble_eq_true rfl) rfl rfl (Nat.le_of_ble_eq_true rfl) (Nat.le_of_ble_eq_true rfl) dX7_needs_31 (pc' := 34) rfl (fun r_11 M_10 h m_12 => ?_)
      refine r_iload_n C dX7_needs_34 (pc' := 35) rfl (j := 2) rfl ?_
      refine r_icmp_lt C dX7_needs_35 (pc' := 38) rfl (tgt := 40) (by decide) (fun c_13 => ?_) (fun c_13 => ?_)
      · have h := it_t h c_13
        obtain ⟨x3_14, e_15, h⟩ := bn_ h
        refine r_iinc C (lv' := [(3, .int x3_14), (0, .ref a0), (1, .int x1), (2, .int x2)]) dX7_needs_40 (pc' := 43) rfl (j := 3) rfl x3_14 (by rw [e_15]; rfl) (Nat.le_of_ble_eq_true rfl) rfl ?_
        refine r_goto C dX7_needs_43 (tgt := 22) (by decide) ?_
        refine r_sub (lv' := [(0, .ref a0), (1, .int x1), (2, .int x2), (3, .int x3_14)]) [1, 2, 3, 0] rfl ?_
        exact ih M_10 x3_14 (mMo.kd m_12 k_a0 (by decide)) h (fun M9 w0 hm9 h9 => hX38 M9 w0 (mMo.tr m_12 hm9) h9) (fun M9 hm9 h9 => hX46 M9 (mMo.tr m_12 hm9) h9)
      · have h := it_f h c_13
        refine r_sub (lv' := [(3, .int x3)]) [3] rfl ?_
        exact hX38 M_10 x3 m_12 h
set_option maxHeartbeats 4000000 in
theorem S_X7_needs {D : DD} {l : Launch} {M : MM} {a0 : Nat} {x1 : Int32} {x2 : Int32} {Post : Int32 → MM → Prop} (k_a0 : mkd M a0 = 7) (h : wp_X7_needs M a0 x1 x2 Post) : mMet D l yX7_needs cX7_needs 4 ((some .int)) { frames := 5, cells := 0, slots := 0, locals := 122 } M [.ref a0, .int x1, .int x2] (pI_ Post) := by
  refine m_of2 [(0, .ref a0), (1, .int x1), (2, .int x2)] (by decide +kernel) (Nat.le_of_ble_eq_true rfl) rfl (fun E hED hEl C hE => ?_)
  subst hED
  subst hEl
  unfold wp_X7_needs at h
  refine r_aload_n C dX7_needs_0 (pc' := 1) rfl (j := 0) rfl ?_
  refine r_iload_n C dX7_needs_1 (pc' := 2) rfl (j := 1) rfl ?_
  refine r_callVi (As := [.int x1]) (rest := []) (Cn := RX7) (T := TX7) C k_a0 (by decide) vc_X7 (S_X7_lives k_a0 h) (lw_V q1413 q1415 qs52 q112 q1416) rfl hd_X7_lives rfl rfl (Nat.le_of_ble_eq_true rfl) (Nat.le_of_ble_eq_true rfl) (Nat.le_of_ble_eq_true rfl) rfl rfl (Nat.le_of_ble_eq_true rfl) (Nat.le_of_ble_eq_true rfl) dX7_needs_2 (pc' := 5) rfl (fun r_2 M_1 h m_3 => ?_)
  refine r_if_eq C dX7_needs_5 (pc' := 8) rfl (tgt := 18) (by decide) (fun c_4 => ?_) (fun c_4 => ?_)
  · have h := it_t h c_4
    refine r_iconst C dX7_needs_18 (pc' := 19) rfl (v := -1) rfl ?_
    exact r_iret C hE (Nat.le_of_ble_eq_true rfl) (Nat.le_of_ble_eq_true rfl) dX7_needs_19 ⟨_, rfl, h⟩
  · have h := it_f h c_4
    refine r_iload_n C dX7_needs_8 (pc' := 9) rfl (j := 2) rfl ?_
    refine r_iconst C dX7_needs_9 (pc' := 10) rfl (v := 1) rfl ?_
    refine r_bipush C dX7_needs_10 (pc' := 12) rfl (v := 60) rfl ?_
    refine r_callSi (As := [.int x2, .int (1 : Int32), .int (60 : Int32)]) (rest := []) C (S_X7_in h) (lw_S q1391 q1392 q112 q1393) hd_X7_in rfl rfl (Nat.le_of_ble_eq_true rfl) (Nat.le_of_ble_eq_true rfl) (Nat.le_of_ble_eq_true rfl) rfl rfl (Nat.le_of_ble_eq_true rfl) (Nat.le_of_ble_eq_true rfl) dX7_needs_12 (pc' := 15) rfl (fun r_6 M_5 h m_7 => ?_)
    refine r_if_ne C dX7_needs_15 (pc' := 18) rfl (tgt := 20) (by decide) (fun c_8 => ?_) (fun c_8 => ?_)
    · have h := it_f h c_8
      refine r_iconst C dX7_needs_20 (pc' := 21) rfl (v := 0) rfl ?_
      refine r_istore_n C (lv' := [(3, .int (0 : Int32)), (0, .ref a0), (1, .int x1), (2, .int x2)]) dX7_needs_21 (pc' := 22) rfl rfl (0 : Int32) rfl (Nat.le_of_ble_eq_true rfl) rfl ?_
      obtain ⟨n_16, h⟩ := h
      refine r_sub (lv' := [(0, .ref a0), (1, .int x1), (2, .int x2), (3, .int (0 : Int32))]) [1, 2, 3, 0] rfl ?_
      refine B_X7_needs_22 C hE n_16 M_5 (0 : Int32) (mMo.kd m_7 (mMo.kd m_3 k_a0 (by decide)) (by decide)) h (fun M_17 x3_19 m_18 h => ?_) (fun M_20 m_21 h => ?_)
      · refine r_iload_n C dX7_needs_38 (pc' := 39) rfl (j := 0) rfl ?_
        exact r_iret C hE (Nat.le_of_ble_eq_true rfl) (Nat.le_of_ble_eq_true rfl) dX7_needs_39 ⟨_, rfl, h⟩
      · refine r_bipush C dX7_needs_46 (pc' := 48) rfl (v := -2) rfl ?_
        exact r_iret C hE (Nat.le_of_ble_eq_true rfl) (Nat.le_of_ble_eq_true rfl) dX7_needs_48 ⟨_, rfl, h⟩
    · have h := it_t h c_8
      refine r_iconst C dX7_needs_18 (pc' := 19) rfl (v := -1) rfl ?_
      exact r_iret C hE (Nat.le_of_ble_eq_true rfl) (Nat.le_of_ble_eq_true rfl) dX7_needs_19 ⟨_, rfl, h⟩
set_option maxHeartbeats 4000000 in
theorem B_X7_movesOut_80 {E : mE} {M : MM} {a0 : Nat} {x2 : Int32} {x3 : Int32} {x4 : Int32} {x5 : Int32} {x6 : Int64} {x8 : Int32} {x9 : Int32} {as0 : Nat} {xs1 : Int32} {xs2 : Int32} {R : MM → Int32 → Prop} {X87 : MM → Prop} {Post : Int64 → MM → Prop} (C : mC E yX7_movesOut cX7_movesOut 11 ((some .long)) { frames := 7, cells := 0, slots := 0, locals := 160 }) (hE : mEnd E { frames := 7, cells := 0, slots := 0, locals := 160 } (pL_ Post)) (k_a0 : mkd M a0 = 7) (k_as0 : mkd M as0 = 100) (h : wb_X7_movesOut_80 M a0 x2 x3 x4 x5 x6 x8 x9 as0 xs1 xs2 R X87) (hR : ∀ (M' : MM) (x9' : Int32), mMo M M' → mkd M' a0 = 7 → R M' x9' → mV E M' 0 0 42 [(0, .ref a0), (2, .int x2), (3, .int x3), (4, .int x4), (5, .int x5), (6, .long x6), (8, .int x8), (9, .int x9')] []) (hX87 : ∀ (M' : MM), mMo M M' → X87 M' → mV E M' 0 0 87 [(0, .ref a0), (2, .int x2), (3, .int x3), (4, .int x4), (5, .int x5), (6, .long x6), (8, .int x8)] []) : mV E M 0 0 80 [(0, .ref a0), (2, .int x2), (3, .int x3), (4, .int x4), (5, .int x5), (6, .long x6), (8, .int x8), (9, .int x9)] [.int xs2, .int xs1, .ref as0] := by
  unfold wb_X7_movesOut_80 at h
  obtain ⟨c_23, h⟩ := h
  obtain ⟨M_24, e_25, h⟩ := bn_ h
  refine r_iast C (j := (ix_ xs1)) k_as0 c_23 rfl dX7_movesOut_80 (pc' := 81) rfl M_24 e_25 ?_
  obtain ⟨x9_26, e_27, h⟩ := bn_ h
  refine r_iinc C (lv' := [(9, .int x9_26), (0, .ref a0), (2, .int x2), (3, .int x3), (4, .int x4), (5, .int x5), (6, .long x6), (8, .int x8)]) dX7_movesOut_81 (pc' := 84) rfl (j := 7) rfl x9_26 (by rw [e_27]; rfl) (Nat.le_of_ble_eq_true rfl) rfl ?_
  refine r_goto C dX7_movesOut_84 (tgt := 42) (by decide) ?_
  refine r_sub (lv' := [(0, .ref a0), (2, .int x2), (3, .int x3), (4, .int x4), (5, .int x5), (6, .long x6), (8, .int x8), (9, .int x9_26)]) [1, 2, 3, 4, 5, 6, 7, 0] rfl ?_
  exact hR M_24 x9_26 (mo_I e_25) (mMo.kd (mo_I e_25) k_a0 (by decide)) h
set_option maxHeartbeats 4000000 in
theorem B_X7_movesOut_42 {E : mE} {a0 : Nat} {x2 : Int32} {x3 : Int32} {x4 : Int32} {x5 : Int32} {x6 : Int64} {x8 : Int32} {X87 : MM → Prop} {Post : Int64 → MM → Prop} (C : mC E yX7_movesOut cX7_movesOut 11 ((some .long)) { frames := 7, cells := 0, slots := 0, locals := 160 }) (hE : mEnd E { frames := 7, cells := 0, slots := 0, locals := 160 } (pL_ Post)) : ∀ (n_ : Nat) (M : MM) (x9 : Int32), mkd M a0 = 7 → wl_X7_movesOut_42 a0 x2 x3 x4 x5 x6 x8 X87 n_ M x9 → (∀ (M' : MM), mMo M M' → X87 M' → mV E M' 0 0 87 [(0, .ref a0), (2, .int x2), (3, .int x3), (4, .int x4), (5, .int x5), (6, .long x6), (8, .int x8)] []) → mV E M 0 0 42 [(0, .ref a0), (2, .int x2), (3, .int x3), (4, .int x4), (5, .int x5), (6, .long x6), (8, .int x8), (9, .int x9)] [] := by
  intro n_
  induction n_ with
  | zero =>
    intro M x9 k_a0 h hX87
    exact absurd h (by rw [wl_X7_movesOut_42]; exact fun q => q)
  | succ n_ ih =>
    intro M x9 k_a0 h hX87
    rw [wl_X7_movesOut_42] at h
    refine r_iload C dX7_movesOut_42 (pc' := 44) rfl (j := 7) rfl ?_
    refine r_iload_n C dX7_movesOut_44 (pc' := 45) rfl (j := 2) rfl ?_
    refine r_icmp_ge C dX7_movesOut_45 (pc' := 48) rfl (tgt := 87) (by decide) (fun c_10 => ?_) (fun c_10 => ?_)
    · have h := it_t h c_10
      refine r_sub (lv' := [(0, .ref a0), (2, .int x2), (3, .int x3), (4, .int x4), (5, .int x5), (6, .long x6), (8, .int x8)]) [0, 1, 2, 3, 4, 5, 6] rfl ?_
      exact hX87 M mMo.rf h
    · have h := it_f h c_10
      refine r_aload_n C dX7_movesOut_48 (pc' := 49) rfl (j := 0) rfl ?_
      refine r_getf C (Cn := RX7) (T := TX7) 36 k_a0 (by decide) vc_X7 in_X7 (by decide) q1260 dX7_movesOut_49 (pc' := 52) rfl (v := va_rf (mgR M a0 36)) rfl ?_
      obtain ⟨b_11, e_12, k_13, h⟩ := h
      refine r_ref [] e_12 ?_
      refine r_iload C dX7_movesOut_52 (pc' := 54) rfl (j := 7) rfl ?_
      refine r_iload C dX7_movesOut_54 (pc' := 56) rfl (j := 7) rfl ?_
      refine r_iload C dX7_movesOut_56 (pc' := 58) rfl (j := 6) rfl ?_
      refine r_icmp_ne C dX7_movesOut_58 (pc' := 61) rfl (tgt := 65) (by decide) (fun c_14 => ?_) (fun c_14 => ?_)
      · have h := it_f h c_14
        refine r_aload_n C dX7_movesOut_65 (pc' := 66) rfl (j := 0) rfl ?_
        refine r_getf C (Cn := RX7) (T := TX7) 0 k_a0 (by decide) vc_X7 in_X7 (by decide) q1224 dX7_movesOut_66 (pc' := 69) rfl (v := va_rf (mgR M a0 0)) rfl ?_
        obtain ⟨b_15, e_16, k_17, h⟩ := h
        refine r_ref [] e_16 ?_
        refine r_bipush C dX7_movesOut_69 (pc' := 71) rfl (v := 52) rfl ?_
        refine r_aload_n C dX7_movesOut_71 (pc' := 72) rfl (j := 0) rfl ?_
        refine r_getf C (Cn := RX7) (T := TX7) 35 k_a0 (by decide) vc_X7 in_X7 (by decide) q1259 dX7_movesOut_72 (pc' := 75) rfl (v := va_rf (mgR M a0 35)) rfl ?_
        obtain ⟨b_18, e_19, k_20, h⟩ := h
        refine r_ref [] e_19 ?_
        refine r_iload C dX7_movesOut_75 (pc' := 77) rfl (j := 7) rfl ?_
        obtain ⟨c_21, h⟩ := h
        refine r_iald C (j := (ix_ x9)) k_20 c_21 rfl dX7_movesOut_77 (pc' := 78) rfl ?_
        refine r_iadd C dX7_movesOut_78 (pc' := 79) rfl ?_
        obtain ⟨c_22, h⟩ := h
        refine r_iald C (j := (ix_ ((52 : Int32) + (mgI M b_18 (ix_ x9))))) k_17 c_22 rfl dX7_movesOut_79 (pc' := 80) rfl ?_
        refine r_sub (lv' := [(0, .ref a0), (2, .int x2), (3, .int x3), (4, .int x4), (5, .int x5), (6, .long x6), (8, .int x8), (9, .int x9)]) [0, 1, 2, 3, 4, 5, 6, 7] rfl ?_
        exact B_X7_movesOut_80 C hE k_a0 k_13 h (fun M8 v0 hm8 g0 h8 => ih M8 v0 g0 h8 (fun M9 hm9 h9 => hX87 M9 (mMo.tr hm8 hm9) h9)) (fun M9 hm9 h9 => hX87 M9 hm9 h9)
      · have h := it_t h c_14
        refine r_iconst C dX7_movesOut_61 (pc' := 62) rfl (v := 0) rfl ?_
        refine r_goto C dX7_movesOut_62 (tgt := 80) (by decide) ?_
        refine r_sub (lv' := [(0, .ref a0), (2, .int x2), (3, .int x3), (4, .int x4), (5, .int x5), (6, .long x6), (8, .int x8), (9, .int x9)]) [0, 1, 2, 3, 4, 5, 6, 7] rfl ?_
        exact B_X7_movesOut_80 C hE k_a0 k_13 h (fun M8 v0 hm8 g0 h8 => ih M8 v0 g0 h8 (fun M9 hm9 h9 => hX87 M9 (mMo.tr hm8 hm9) h9)) (fun M9 hm9 h9 => hX87 M9 hm9 h9)
set_option maxHeartbeats 4000000 in
theorem B_X7_movesOut_112 {E : mE} {M : MM} {a0 : Nat} {x2 : Int32} {x3 : Int32} {x4 : Int32} {x8 : Int32} {x9 : Int64} {R : MM → Int32 → Int64 → Int32 → Prop} {X131 : MM → Int32 → Int64 → Prop} {Post : Int64 → MM → Prop} (C : mC E yX7_movesOut cX7_movesOut 11 ((some .long)) { frames := 7, cells := 0, slots := 0, locals := 160 }) (hE : mEnd E { frames := 7, cells := 0, slots := 0, locals := 160 } (pL_ Post)) (k_a0 : mkd M a0 = 7) (h : wb_X7_movesOut_112 M a0 x2 x3 x4 x8 x9 R X131) (hR : ∀ (M' : MM) (x5' : Int32) (x6' : Int64) (x8' : Int32), mMo M M' → mkd M' a0 = 7 → R M' x5' x6' x8' → mV E M' 0 0 33 [(0, .ref a0), (2, .int x2), (3, .int x3), (4, .int x4), (5, .int x5'), (6, .long x6'), (8, .int x8')] []) (hX131 : ∀ (M' : MM) (x5' : Int32) (x6' : Int64), mMo M M' → X131 M' x5' x6' → mV E M' 0 0 131 [(4, .int x4), (5, .int x5'), (6, .long x6')] []) : mV E M 0 0 112 [(0, .ref a0), (2, .int x2), (3, .int x3), (4, .int x4), (8, .int x8), (9, .long x9)] [] := by
  unfold wb_X7_movesOut_112 at h
  refine r_lload C dX7_movesOut_112 (pc' := 114) rfl (j := 5) rfl ?_
  refine r_lstore C (lv' := [(6, .long x9), (0, .ref a0), (2, .int x2), (3, .int x3), (4, .int x4), (8, .int x8), (9, .long x9)]) dX7_movesOut_114 (pc' := 116) rfl x9 rfl (Nat.le_of_ble_eq_true rfl) rfl ?_
  refine r_aload_n C dX7_movesOut_116 (pc' := 117) rfl (j := 1) rfl ?_
  refine r_getf C (Cn := RX7) (T := TX7) 35 k_a0 (by decide) vc_X7 in_X7 (by decide) q1259 dX7_movesOut_117 (pc' := 120) rfl (v := va_rf (mgR M a0 35)) rfl ?_
  obtain ⟨b_35, e_36, k_37, h⟩ := h
  refine r_ref [] e_36 ?_
  refine r_iload C dX7_movesOut_120 (pc' := 122) rfl (j := 5) rfl ?_
  obtain ⟨c_38, h⟩ := h
  refine r_iald C (j := (ix_ x8)) k_37 c_38 rfl dX7_movesOut_122 (pc' := 123) rfl ?_
  obtain ⟨x5_39, e_40, h⟩ := bn_ h
  refine r_istore C (lv' := [(5, .int x5_39), (6, .long x9), (0, .ref a0), (2, .int x2), (3, .int x3), (4, .int x4), (8, .int x8), (9, .long x9)]) dX7_movesOut_123 (pc' := 125) rfl x5_39 e_40 (Nat.le_of_ble_eq_true rfl) rfl ?_
  obtain ⟨x8_41, e_42, h⟩ := bn_ h
  refine r_iinc C (lv' := [(8, .int x8_41), (5, .int x5_39), (6, .long x9), (0, .ref a0), (2, .int x2), (3, .int x3), (4, .int x4), (9, .long x9)]) dX7_movesOut_125 (pc' := 128) rfl (j := 6) rfl x8_41 (by rw [e_42]; rfl) (Nat.le_of_ble_eq_true rfl) rfl ?_
  refine r_goto C dX7_movesOut_128 (tgt := 33) (by decide) ?_
  refine r_sub (lv' := [(0, .ref a0), (2, .int x2), (3, .int x3), (4, .int x4), (5, .int x5_39), (6, .long x9), (8, .int x8_41)]) [3, 4, 5, 6, 1, 2, 0] rfl ?_
  exact hR M x5_39 x9 x8_41 mMo.rf k_a0 h
set_option maxHeartbeats 4000000 in
theorem B_X7_movesOut_33 {E : mE} {a0 : Nat} {x2 : Int32} {x3 : Int32} {x4 : Int32} {X131 : MM → Int32 → Int64 → Prop} {Post : Int64 → MM → Prop} (C : mC E yX7_movesOut cX7_movesOut 11 ((some .long)) { frames := 7, cells := 0, slots := 0, locals := 160 }) (hE : mEnd E { frames := 7, cells := 0, slots := 0, locals := 160 } (pL_ Post)) : ∀ (n_ : Nat) (M : MM) (x5 : Int32) (x6 : Int64) (x8 : Int32), mkd M a0 = 7 → wl_X7_movesOut_33 a0 x2 x3 x4 X131 n_ M x5 x6 x8 → (∀ (M' : MM) (x5' : Int32) (x6' : Int64), mMo M M' → X131 M' x5' x6' → mV E M' 0 0 131 [(4, .int x4), (5, .int x5'), (6, .long x6')] []) → mV E M 0 0 33 [(0, .ref a0), (2, .int x2), (3, .int x3), (4, .int x4), (5, .int x5), (6, .long x6), (8, .int x8)] [] := by
  intro n_
  induction n_ with
  | zero =>
    intro M x5 x6 x8 k_a0 h hX131
    exact absurd h (by rw [wl_X7_movesOut_33]; exact fun q => q)
  | succ n_ ih =>
    intro M x5 x6 x8 k_a0 h hX131
    rw [wl_X7_movesOut_33] at h
    refine r_iload C dX7_movesOut_33 (pc' := 35) rfl (j := 6) rfl ?_
    refine r_iload_n C dX7_movesOut_35 (pc' := 36) rfl (j := 2) rfl ?_
    refine r_icmp_ge C dX7_movesOut_36 (pc' := 39) rfl (tgt := 131) (by decide) (fun c_9 => ?_) (fun c_9 => ?_)
    · have h := it_t h c_9
      refine r_sub (lv' := [(4, .int x4), (5, .int x5), (6, .long x6)]) [3, 4, 5] rfl ?_
      exact hX131 M x5 x6 mMo.rf h
    · have h := it_f h c_9
      refine r_iconst C dX7_movesOut_39 (pc' := 40) rfl (v := 0) rfl ?_
      refine r_istore C (lv' := [(9, .int (0 : Int32)), (0, .ref a0), (2, .int x2), (3, .int x3), (4, .int x4), (5, .int x5), (6, .long x6), (8, .int x8)]) dX7_movesOut_40 (pc' := 42) rfl (0 : Int32) rfl (Nat.le_of_ble_eq_true rfl) rfl ?_
      obtain ⟨n_28, h⟩ := h
      refine r_sub (lv' := [(0, .ref a0), (2, .int x2), (3, .int x3), (4, .int x4), (5, .int x5), (6, .long x6), (8, .int x8), (9, .int (0 : Int32))]) [1, 2, 3, 4, 5, 6, 7, 0] rfl ?_
      refine B_X7_movesOut_42 C hE n_28 M (0 : Int32) k_a0 h (fun M_29 m_30 h => ?_)
      refine r_aload_n C dX7_movesOut_87 (pc' := 88) rfl (j := 0) rfl ?_
      refine r_iload_n C dX7_movesOut_88 (pc' := 89) rfl (j := 1) rfl ?_
      refine r_iload_n C dX7_movesOut_89 (pc' := 90) rfl (j := 2) rfl ?_
      refine r_callVl (As := [.int x2, .int x3]) (rest := []) (Cn := RX7) (T := TX7) C (mMo.kd m_30 k_a0 (by decide)) (by decide) vc_X7 (S_X7_goesThrough (mMo.kd m_30 k_a0 (by decide)) h) (lw_V q1608 q1610 qs86 q112 q1611) rfl hd_X7_goesThrough rfl rfl (Nat.le_of_ble_eq_true rfl) (Nat.le_of_ble_eq_true rfl) (Nat.le_of_ble_eq_true rfl) rfl rfl (Nat.le_of_ble_eq_true rfl) (Nat.le_of_ble_eq_true rfl) dX7_movesOut_90 (pc' := 93) rfl (fun r_32 M_31 h m_33 => ?_)
      refine r_lstore C (lv' := [(9, .long r_32), (0, .ref a0), (2, .int x2), (3, .int x3), (4, .int x4), (5, .int x5), (6, .long x6), (8, .int x8)]) dX7_movesOut_93 (pc' := 95) rfl r_32 rfl (Nat.le_of_ble_eq_true rfl) rfl ?_
      refine r_iload C dX7_movesOut_95 (pc' := 97) rfl (j := 5) rfl ?_
      refine r_iconst C dX7_movesOut_97 (pc' := 98) rfl (v := -1) rfl ?_
      refine r_icmp_eq C dX7_movesOut_98 (pc' := 101) rfl (tgt := 112) (by decide) (fun c_34 => ?_) (fun c_34 => ?_)
      · have h := it_t h c_34
        refine r_sub (lv' := [(0, .ref a0), (2, .int x2), (3, .int x3), (4, .int x4), (8, .int x8), (9, .long r_32)]) [1, 2, 3, 4, 7, 0] rfl ?_
        exact B_X7_movesOut_112 C hE (mMo.kd m_33 (mMo.kd m_30 k_a0 (by decide)) (by decide)) h (fun M8 v0 v1 v2 hm8 g0 h8 => ih M8 v0 v1 v2 g0 h8 (fun M9 w0 w1 hm9 h9 => hX131 M9 w0 w1 (mMo.tr (mMo.tr (mMo.tr m_30 m_33) hm8) hm9) h9)) (fun M9 w0 w1 hm9 h9 => hX131 M9 w0 w1 (mMo.tr (mMo.tr m_30 m_33) hm9) h9)
      · have h := it_f h c_34
        refine r_lload C dX7_movesOut_101 (pc' := 103) rfl (j := 0) rfl ?_
        refine r_lload C dX7_movesOut_103 (pc' := 105) rfl (j := 6) rfl ?_
        refine r_lc_lt C dX7_movesOut_105 (pc1 := 106) (pc' := 109) rfl dX7_movesOut_106 rfl (tgt := 112) (by decide) (fun c_43 => ?_) (fun c_43 => ?_)
        · have h := it_t h c_43
          refine r_sub (lv' := [(0, .ref a0), (2, .int x2), (3, .int x3), (4, .int x4), (8, .int x8), (9, .long r_32)]) [1, 2, 3, 4, 7, 0] rfl ?_
          exact B_X7_movesOut_112 C hE (mMo.kd m_33 (mMo.kd m_30 k_a0 (by decide)) (by decide)) h (fun M8 v0 v1 v2 hm8 g0 h8 => ih M8 v0 v1 v2 g0 h8 (fun M9 w0 w1 hm9 h9 => hX131 M9 w0 w1 (mMo.tr (mMo.tr (mMo.tr m_30 m_33) hm8) hm9) h9)) (fun M9 w0 w1 hm9 h9 => hX131 M9 w0 w1 (mMo.tr (mMo.tr m_30 m_33) hm9) h9)
        · have h := it_f h c_43
          refine r_goto C dX7_movesOut_109 (tgt := 125) (by decide) ?_
          obtain ⟨x8_44, e_45, h⟩ := bn_ h
          refine r_iinc C (lv' := [(8, .int x8_44), (9, .long r_32), (0, .ref a0), (2, .int x2), (3, .int x3), (4, .int x4), (5, .int x5), (6, .long x6)]) dX7_movesOut_125 (pc' := 128) rfl (j := 7) rfl x8_44 (by rw [e_45]; rfl) (Nat.le_of_ble_eq_true rfl) rfl ?_
          refine r_goto C dX7_movesOut_128 (tgt := 33) (by decide) ?_
          refine r_sub (lv' := [(0, .ref a0), (2, .int x2), (3, .int x3), (4, .int x4), (5, .int x5), (6, .long x6), (8, .int x8_44)]) [2, 3, 4, 5, 6, 7, 0] rfl ?_
          exact ih M_31 x5 x6 x8_44 (mMo.kd m_33 (mMo.kd m_30 k_a0 (by decide)) (by decide)) h (fun M9 w0 w1 hm9 h9 => hX131 M9 w0 w1 (mMo.tr (mMo.tr m_30 m_33) hm9) h9)
set_option maxHeartbeats 4000000 in
theorem S_X7_movesOut {D : DD} {l : Launch} {M : MM} {a0 : Nat} {x1 : Int32} {x2 : Int32} {x3 : Int32} {x4 : Int32} {Post : Int64 → MM → Prop} (k_a0 : mkd M a0 = 7) (h : wp_X7_movesOut M a0 x1 x2 x3 x4 Post) : mMet D l yX7_movesOut cX7_movesOut 11 ((some .long)) { frames := 7, cells := 0, slots := 0, locals := 160 } M [.ref a0, .int x1, .int x2, .int x3, .int x4] (pL_ Post) := by
  refine m_of2 [(0, .ref a0), (1, .int x1), (2, .int x2), (3, .int x3), (4, .int x4)] (by decide +kernel) (Nat.le_of_ble_eq_true rfl) rfl (fun E hED hEl C hE => ?_)
  subst hED
  subst hEl
  unfold wp_X7_movesOut at h
  refine r_aload_n C dX7_movesOut_0 (pc' := 1) rfl (j := 0) rfl ?_
  refine r_iload_n C dX7_movesOut_1 (pc' := 2) rfl (j := 1) rfl ?_
  refine r_iload_n C dX7_movesOut_2 (pc' := 3) rfl (j := 2) rfl ?_
  refine r_iload_n C dX7_movesOut_3 (pc' := 4) rfl (j := 3) rfl ?_
  refine r_callVi (As := [.int x1, .int x2, .int x3]) (rest := []) (Cn := RX7) (T := TX7) C k_a0 (by decide) vc_X7 (S_X7_canGo k_a0 h) (lw_V q1599 q1601 qs84 q112 q1602) rfl hd_X7_canGo rfl rfl (Nat.le_of_ble_eq_true rfl) (Nat.le_of_ble_eq_true rfl) (Nat.le_of_ble_eq_true rfl) rfl rfl (Nat.le_of_ble_eq_true rfl) (Nat.le_of_ble_eq_true rfl) dX7_movesOut_4 (pc' := 7) rfl (fun r_2 M_1 h m_3 => ?_)
  refine r_if_eq C dX7_movesOut_7 (pc' := 10) rfl (tgt := 20) (by decide) (fun c_4 => ?_) (fun c_4 => ?_)
  · have h := it_t h c_4
    refine r_ldc2 C dX7_movesOut_20 (pc' := 23) rfl q1607 ?_
    exact r_lret C hE (Nat.le_of_ble_eq_true rfl) (Nat.le_of_ble_eq_true rfl) dX7_movesOut_23 ⟨_, rfl, h⟩
  · have h := it_f h c_4
    refine r_iload C dX7_movesOut_10 (pc' := 12) rfl (j := 4) rfl ?_
    refine r_iconst C dX7_movesOut_12 (pc' := 13) rfl (v := 0) rfl ?_
    refine r_iconst C dX7_movesOut_13 (pc' := 14) rfl (v := 1) rfl ?_
    refine r_callSi (As := [.int x4, .int (0 : Int32), .int (1 : Int32)]) (rest := []) C (S_X7_in h) (lw_S q1391 q1392 q112 q1393) hd_X7_in rfl rfl (Nat.le_of_ble_eq_true rfl) (Nat.le_of_ble_eq_true rfl) (Nat.le_of_ble_eq_true rfl) rfl rfl (Nat.le_of_ble_eq_true rfl) (Nat.le_of_ble_eq_true rfl) dX7_movesOut_14 (pc' := 17) rfl (fun r_6 M_5 h m_7 => ?_)
    refine r_if_ne C dX7_movesOut_17 (pc' := 20) rfl (tgt := 24) (by decide) (fun c_8 => ?_) (fun c_8 => ?_)
    · have h := it_f h c_8
      refine r_iconst C dX7_movesOut_24 (pc' := 25) rfl (v := -1) rfl ?_
      refine r_istore C (lv' := [(5, .int (-1 : Int32)), (0, .ref a0), (1, .int x1), (2, .int x2), (3, .int x3), (4, .int x4)]) dX7_movesOut_25 (pc' := 27) rfl (-1 : Int32) rfl (Nat.le_of_ble_eq_true rfl) rfl ?_
      refine r_lconst C dX7_movesOut_27 (pc' := 28) rfl (v := 0) rfl ?_
      refine r_lstore C (lv' := [(6, .long (0 : Int64)), (5, .int (-1 : Int32)), (0, .ref a0), (1, .int x1), (2, .int x2), (3, .int x3), (4, .int x4)]) dX7_movesOut_28 (pc' := 30) rfl (0 : Int64) rfl (Nat.le_of_ble_eq_true rfl) rfl ?_
      refine r_iconst C dX7_movesOut_30 (pc' := 31) rfl (v := 0) rfl ?_
      refine r_istore C (lv' := [(8, .int (0 : Int32)), (6, .long (0 : Int64)), (5, .int (-1 : Int32)), (0, .ref a0), (1, .int x1), (2, .int x2), (3, .int x3), (4, .int x4)]) dX7_movesOut_31 (pc' := 33) rfl (0 : Int32) rfl (Nat.le_of_ble_eq_true rfl) rfl ?_
      obtain ⟨n_46, h⟩ := h
      refine r_sub (lv' := [(0, .ref a0), (2, .int x2), (3, .int x3), (4, .int x4), (5, .int (-1 : Int32)), (6, .long (0 : Int64)), (8, .int (0 : Int32))]) [3, 5, 6, 7, 2, 1, 0] rfl ?_
      refine B_X7_movesOut_33 C hE n_46 M_5 (-1 : Int32) (0 : Int64) (0 : Int32) (mMo.kd m_7 (mMo.kd m_3 k_a0 (by decide)) (by decide)) h (fun M_47 x5_49 x6_50 m_48 h => ?_)
      refine r_iload C dX7_movesOut_131 (pc' := 133) rfl (j := 0) rfl ?_
      refine r_if_ne C dX7_movesOut_133 (pc' := 136) rfl (tgt := 142) (by decide) (fun c_51 => ?_) (fun c_51 => ?_)
      · have h := it_f h c_51
        refine r_lload C dX7_movesOut_142 (pc' := 144) rfl (j := 2) rfl ?_
        exact r_lret C hE (Nat.le_of_ble_eq_true rfl) (Nat.le_of_ble_eq_true rfl) dX7_movesOut_144 ⟨_, rfl, h⟩
      · have h := it_t h c_51
        refine r_iload C dX7_movesOut_136 (pc' := 138) rfl (j := 1) rfl ?_
        refine r_i2l C dX7_movesOut_138 (pc' := 139) rfl ?_
        refine r_goto C dX7_movesOut_139 (tgt := 144) (by decide) ?_
        exact r_lret C hE (Nat.le_of_ble_eq_true rfl) (Nat.le_of_ble_eq_true rfl) dX7_movesOut_144 ⟨_, rfl, h⟩
    · have h := it_t h c_8
      refine r_ldc2 C dX7_movesOut_20 (pc' := 23) rfl q1607 ?_
      exact r_lret C hE (Nat.le_of_ble_eq_true rfl) (Nat.le_of_ble_eq_true rfl) dX7_movesOut_23 ⟨_, rfl, h⟩
set_option maxHeartbeats 4000000 in
theorem B_X7_comingIn_6 {E : mE} {x1 : Int32} {x2 : Int32} {X24 : MM → Int32 → Prop} {Post : Int32 → MM → Prop} (C : mC E yX7_comingIn cX7_comingIn 5 ((some .int)) { frames := 0, cells := 0, slots := 0, locals := 0 }) (hE : mEnd E { frames := 0, cells := 0, slots := 0, locals := 0 } (pI_ Post)) : ∀ (n_ : Nat) (M : MM) (x3 : Int32) (x4 : Int32), wl_X7_comingIn_6 x1 x2 X24 n_ M x3 x4 → (∀ (M' : MM) (x3' : Int32), mMo M M' → X24 M' x3' → mV E M' 0 0 24 [(1, .int x1), (3, .int x3')] []) → mV E M 0 0 6 [(1, .int x1), (2, .int x2), (3, .int x3), (4, .int x4)] [] := by
  intro n_
  induction n_ with
  | zero =>
    intro M x3 x4 h hX24
    exact absurd h (by rw [wl_X7_comingIn_6]; exact fun q => q)
  | succ n_ ih =>
    intro M x3 x4 h hX24
    rw [wl_X7_comingIn_6] at h
    refine r_iload C dX7_comingIn_6 (pc' := 8) rfl (j := 3) rfl ?_
    refine r_iload_n C dX7_comingIn_8 (pc' := 9) rfl (j := 1) rfl ?_
    refine r_icmp_le C dX7_comingIn_9 (pc' := 12) rfl (tgt := 24) (by decide) (fun c_1 => ?_) (fun c_1 => ?_)
    · have h := it_t h c_1
      refine r_sub (lv' := [(1, .int x1), (3, .int x3)]) [0, 2] rfl ?_
      exact hX24 M x3 mMo.rf h
    · have h := it_f h c_1
      refine r_iload_n C dX7_comingIn_12 (pc' := 13) rfl (j := 2) rfl ?_
      refine r_iload_n C dX7_comingIn_13 (pc' := 14) rfl (j := 0) rfl ?_
      refine r_iconst C dX7_comingIn_14 (pc' := 15) rfl (v := 1) rfl ?_
      refine r_iadd C dX7_comingIn_15 (pc' := 16) rfl ?_
      obtain ⟨c_2, h⟩ := h
      refine r_idiv C dX7_comingIn_16 (pc' := 17) rfl c_2 ?_
      obtain ⟨x3_3, e_4, h⟩ := bn_ h
      refine r_istore_n C (lv' := [(3, .int x3_3), (1, .int x1), (2, .int x2), (4, .int x4)]) dX7_comingIn_17 (pc' := 18) rfl rfl x3_3 e_4 (Nat.le_of_ble_eq_true rfl) rfl ?_
      obtain ⟨x4_5, e_6, h⟩ := bn_ h
      refine r_iinc C (lv' := [(4, .int x4_5), (3, .int x3_3), (1, .int x1), (2, .int x2)]) dX7_comingIn_18 (pc' := 21) rfl (j := 3) rfl x4_5 (by rw [e_6]; rfl) (Nat.le_of_ble_eq_true rfl) rfl ?_
      refine r_goto C dX7_comingIn_21 (tgt := 6) (by decide) ?_
      refine r_sub (lv' := [(1, .int x1), (2, .int x2), (3, .int x3_3), (4, .int x4_5)]) [2, 3, 1, 0] rfl ?_
      exact ih M x3_3 x4_5 h (fun M9 w0 hm9 h9 => hX24 M9 w0 hm9 h9)
set_option maxHeartbeats 4000000 in
theorem S_X7_comingIn {D : DD} {l : Launch} {M : MM} {x0 : Int32} {x1 : Int32} {x2 : Int32} {Post : Int32 → MM → Prop} (h : wp_X7_comingIn M x0 x1 x2 Post) : mMet D l yX7_comingIn cX7_comingIn 5 ((some .int)) { frames := 0, cells := 0, slots := 0, locals := 0 } M [.int x0, .int x1, .int x2] (pI_ Post) := by
  refine m_of2 [(0, .int x0), (1, .int x1), (2, .int x2)] (by decide +kernel) (Nat.le_of_ble_eq_true rfl) rfl (fun E hED hEl C hE => ?_)
  subst hED
  subst hEl
  unfold wp_X7_comingIn at h
  refine r_iload_n C dX7_comingIn_0 (pc' := 1) rfl (j := 0) rfl ?_
  refine r_istore_n C (lv' := [(3, .int x0), (0, .int x0), (1, .int x1), (2, .int x2)]) dX7_comingIn_1 (pc' := 2) rfl rfl x0 rfl (Nat.le_of_ble_eq_true rfl) rfl ?_
  refine r_bipush C dX7_comingIn_2 (pc' := 4) rfl (v := 6) rfl ?_
  refine r_istore C (lv' := [(4, .int (6 : Int32)), (3, .int x0), (0, .int x0), (1, .int x1), (2, .int x2)]) dX7_comingIn_4 (pc' := 6) rfl (6 : Int32) rfl (Nat.le_of_ble_eq_true rfl) rfl ?_
  obtain ⟨n_7, h⟩ := h
  refine r_sub (lv' := [(1, .int x1), (2, .int x2), (3, .int x0), (4, .int (6 : Int32))]) [3, 4, 1, 0] rfl ?_
  refine B_X7_comingIn_6 C hE n_7 M x0 (6 : Int32) h (fun M_8 x3_10 m_9 h => ?_)
  refine r_iload_n C dX7_comingIn_24 (pc' := 25) rfl (j := 1) rfl ?_
  refine r_iload_n C dX7_comingIn_25 (pc' := 26) rfl (j := 0) rfl ?_
  refine r_iconst C dX7_comingIn_26 (pc' := 27) rfl (v := 1) rfl ?_
  refine r_iadd C dX7_comingIn_27 (pc' := 28) rfl ?_
  obtain ⟨c_11, h⟩ := h
  refine r_irem C dX7_comingIn_28 (pc' := 29) rfl c_11 ?_
  exact r_iret C hE (Nat.le_of_ble_eq_true rfl) (Nat.le_of_ble_eq_true rfl) dX7_comingIn_29 ⟨_, rfl, h⟩
set_option maxHeartbeats 4000000 in
theorem B_X7_comings_4 {E : mE} {x0 : Int32} {x1 : Int32} {X34 : MM → Int32 → Prop} {Post : Int32 → MM → Prop} (C : mC E yX7_comings cX7_comings 4 ((some .int)) { frames := 1, cells := 0, slots := 0, locals := 24 }) (hE : mEnd E { frames := 1, cells := 0, slots := 0, locals := 24 } (pI_ Post)) : ∀ (n_ : Nat) (M : MM) (x2 : Int32) (x3 : Int32), wl_X7_comings_4 x0 x1 X34 n_ M x2 x3 → (∀ (M' : MM) (x2' : Int32), mMo M M' → X34 M' x2' → mV E M' 0 0 34 [(2, .int x2')] []) → mV E M 0 0 4 [(0, .int x0), (1, .int x1), (2, .int x2), (3, .int x3)] [] := by
  intro n_
  induction n_ with
  | zero =>
    intro M x2 x3 h hX34
    exact absurd h (by rw [wl_X7_comings_4]; exact fun q => q)
  | succ n_ ih =>
    intro M x2 x3 h hX34
    rw [wl_X7_comings_4] at h
    refine r_iload_n C dX7_comings_4 (pc' := 5) rfl (j := 3) rfl ?_
    refine r_bipush C dX7_comings_5 (pc' := 7) rfl (v := 7) rfl ?_
    refine r_icmp_ge C dX7_comings_7 (pc' := 10) rfl (tgt := 34) (by decide) (fun c_1 => ?_) (fun c_1 => ?_)
    · have h := it_t h c_1
      refine r_sub (lv' := [(2, .int x2)]) [2] rfl ?_
      exact hX34 M x2 mMo.rf h
    · have h := it_f h c_1
      refine r_iload_n C dX7_comings_10 (pc' := 11) rfl (j := 2) rfl ?_
      refine r_iload_n C dX7_comings_11 (pc' := 12) rfl (j := 0) rfl ?_
      refine r_iload_n C dX7_comings_12 (pc' := 13) rfl (j := 1) rfl ?_
      refine r_iload_n C dX7_comings_13 (pc' := 14) rfl (j := 3) rfl ?_
      refine r_callSi (As := [.int x0, .int x1, .int x3]) (rest := [.int x2]) C (S_X7_comingIn h) (lw_S q1702 q1703 q112 q1704) hd_X7_comingIn rfl rfl (Nat.le_of_ble_eq_true rfl) (Nat.le_of_ble_eq_true rfl) (Nat.le_of_ble_eq_true rfl) rfl rfl (Nat.le_of_ble_eq_true rfl) (Nat.le_of_ble_eq_true rfl) dX7_comings_14 (pc' := 17) rfl (fun r_3 M_2 h m_4 => ?_)
      refine r_iload_n C dX7_comings_17 (pc' := 18) rfl (j := 1) rfl ?_
      refine r_icmp_ge C dX7_comings_18 (pc' := 21) rfl (tgt := 25) (by decide) (fun c_5 => ?_) (fun c_5 => ?_)
      · have h := it_t h c_5
        refine r_iconst C dX7_comings_25 (pc' := 26) rfl (v := 0) rfl ?_
        refine r_iadd C dX7_comings_26 (pc' := 27) rfl ?_
        obtain ⟨x2_6, e_7, h⟩ := bn_ h
        refine r_istore_n C (lv' := [(2, .int x2_6), (0, .int x0), (1, .int x1), (3, .int x3)]) dX7_comings_27 (pc' := 28) rfl rfl x2_6 e_7 (Nat.le_of_ble_eq_true rfl) rfl ?_
        obtain ⟨x3_8, e_9, h⟩ := bn_ h
        refine r_iinc C (lv' := [(3, .int x3_8), (2, .int x2_6), (0, .int x0), (1, .int x1)]) dX7_comings_28 (pc' := 31) rfl (j := 3) rfl x3_8 (by rw [e_9]; rfl) (Nat.le_of_ble_eq_true rfl) rfl ?_
        refine r_goto C dX7_comings_31 (tgt := 4) (by decide) ?_
        refine r_sub (lv' := [(0, .int x0), (1, .int x1), (2, .int x2_6), (3, .int x3_8)]) [2, 3, 1, 0] rfl ?_
        exact ih M_2 x2_6 x3_8 h (fun M9 w0 hm9 h9 => hX34 M9 w0 (mMo.tr m_4 hm9) h9)
      · have h := it_f h c_5
        refine r_iconst C dX7_comings_21 (pc' := 22) rfl (v := 1) rfl ?_
        refine r_goto C dX7_comings_22 (tgt := 26) (by decide) ?_
        refine r_iadd C dX7_comings_26 (pc' := 27) rfl ?_
        obtain ⟨x2_10, e_11, h⟩ := bn_ h
        refine r_istore_n C (lv' := [(2, .int x2_10), (0, .int x0), (1, .int x1), (3, .int x3)]) dX7_comings_27 (pc' := 28) rfl rfl x2_10 e_11 (Nat.le_of_ble_eq_true rfl) rfl ?_
        obtain ⟨x3_12, e_13, h⟩ := bn_ h
        refine r_iinc C (lv' := [(3, .int x3_12), (2, .int x2_10), (0, .int x0), (1, .int x1)]) dX7_comings_28 (pc' := 31) rfl (j := 3) rfl x3_12 (by rw [e_13]; rfl) (Nat.le_of_ble_eq_true rfl) rfl ?_
        refine r_goto C dX7_comings_31 (tgt := 4) (by decide) ?_
        refine r_sub (lv' := [(0, .int x0), (1, .int x1), (2, .int x2_10), (3, .int x3_12)]) [2, 3, 1, 0] rfl ?_
        exact ih M_2 x2_10 x3_12 h (fun M9 w0 hm9 h9 => hX34 M9 w0 (mMo.tr m_4 hm9) h9)
set_option maxHeartbeats 4000000 in
theorem S_X7_comings {D : DD} {l : Launch} {M : MM} {x0 : Int32} {x1 : Int32} {Post : Int32 → MM → Prop} (h : wp_X7_comings M x0 x1 Post) : mMet D l yX7_comings cX7_comings 4 ((some .int)) { frames := 1, cells := 0, slots := 0, locals := 24 } M [.int x0, .int x1] (pI_ Post) := by
  refine m_of2 [(0, .int x0), (1, .int x1)] (by decide +kernel) (Nat.le_of_ble_eq_true rfl) rfl (fun E hED hEl C hE => ?_)
  subst hED
  subst hEl
  unfold wp_X7_comings at h
  refine r_iconst C dX7_comings_0 (pc' := 1) rfl (v := 0) rfl ?_
  refine r_istore_n C (lv' := [(2, .int (0 : Int32)), (0, .int x0), (1, .int x1)]) dX7_comings_1 (pc' := 2) rfl rfl (0 : Int32) rfl (Nat.le_of_ble_eq_true rfl) rfl ?_
  refine r_iconst C dX7_comings_2 (pc' := 3) rfl (v := 0) rfl ?_
  refine r_istore_n C (lv' := [(3, .int (0 : Int32)), (2, .int (0 : Int32)), (0, .int x0), (1, .int x1)]) dX7_comings_3 (pc' := 4) rfl rfl (0 : Int32) rfl (Nat.le_of_ble_eq_true rfl) rfl ?_
  obtain ⟨n_14, h⟩ := h
  refine r_sub (lv' := [(0, .int x0), (1, .int x1), (2, .int (0 : Int32)), (3, .int (0 : Int32))]) [2, 3, 1, 0] rfl ?_
  refine B_X7_comings_4 C hE n_14 M (0 : Int32) (0 : Int32) h (fun M_15 x2_17 m_16 h => ?_)
  refine r_iload_n C dX7_comings_34 (pc' := 35) rfl (j := 0) rfl ?_
  exact r_iret C hE (Nat.le_of_ble_eq_true rfl) (Nat.le_of_ble_eq_true rfl) dX7_comings_35 ⟨_, rfl, h⟩
set_option maxHeartbeats 4000000 in
theorem B_X7_wetBehind_56 {E : mE} {M : MM} {a0 : Nat} {x1 : Int32} {x2 : Int32} {x3 : Int32} {x4 : Int32} {R : MM → Int32 → Prop} {X84 : MM → Prop} {Post : Int32 → MM → Prop} (C : mC E yX7_wetBehind cX7_wetBehind 6 ((some .int)) { frames := 5, cells := 0, slots := 0, locals := 120 }) (hE : mEnd E { frames := 5, cells := 0, slots := 0, locals := 120 } (pI_ Post)) (k_a0 : mkd M a0 = 7) (h : wb_X7_wetBehind_56 M a0 x1 x2 x3 x4 R X84) (hR : ∀ (M' : MM) (x4' : Int32), mMo M M' → mkd M' a0 = 7 → R M' x4' → mV E M' 0 0 14 [(0, .ref a0), (1, .int x1), (2, .int x2), (3, .int x3), (4, .int x4')] []) (hX84 : ∀ (M' : MM), mMo M M' → X84 M' → mV E M' 0 0 84 [(0, .ref a0), (1, .int x1)] []) : mV E M 0 0 56 [(0, .ref a0), (1, .int x1), (2, .int x2), (3, .int x3), (4, .int x4)] [] := by
  unfold wb_X7_wetBehind_56 at h
  refine r_aload_n C dX7_wetBehind_56 (pc' := 57) rfl (j := 0) rfl ?_
  refine r_iload_n C dX7_wetBehind_57 (pc' := 58) rfl (j := 1) rfl ?_
  refine r_iconst C dX7_wetBehind_58 (pc' := 59) rfl (v := 0) rfl ?_
  refine r_callVv (As := [.int x1, .int (0 : Int32)]) (rest := []) (Cn := RX7) (T := TX7) C k_a0 (by decide) vc_X7 (S_X7_dries k_a0 h) (lw_V q1577 q1579 qs83 q112 q1580) rfl hd_X7_dries rfl rfl (Nat.le_of_ble_eq_true rfl) (Nat.le_of_ble_eq_true rfl) (Nat.le_of_ble_eq_true rfl) rfl rfl (Nat.le_of_ble_eq_true rfl) (Nat.le_of_ble_eq_true rfl) dX7_wetBehind_59 (pc' := 62) rfl (fun M_19 h m_21 => ?_)
  refine r_aload_n C dX7_wetBehind_62 (pc' := 63) rfl (j := 0) rfl ?_
  refine r_getf C (Cn := RX7) (T := TX7) 0 (mMo.kd m_21 k_a0 (by decide)) (by decide) vc_X7 in_X7 (by decide) q1224 dX7_wetBehind_63 (pc' := 66) rfl (v := va_rf (mgR M_19 a0 0)) rfl ?_
  obtain ⟨b_22, e_23, k_24, h⟩ := h
  refine r_ref [] e_23 ?_
  refine r_bipush C dX7_wetBehind_66 (pc' := 68) rfl (v := 79) rfl ?_
  refine r_aload_n C dX7_wetBehind_68 (pc' := 69) rfl (j := 0) rfl ?_
  refine r_getf C (Cn := RX7) (T := TX7) 0 (mMo.kd m_21 k_a0 (by decide)) (by decide) vc_X7 in_X7 (by decide) q1224 dX7_wetBehind_69 (pc' := 72) rfl (v := va_rf (mgR M_19 a0 0)) rfl ?_
  obtain ⟨b_25, e_26, k_27, h⟩ := h
  refine r_ref [] e_26 ?_
  refine r_bipush C dX7_wetBehind_72 (pc' := 74) rfl (v := 79) rfl ?_
  obtain ⟨c_28, h⟩ := h
  refine r_iald C (j := 79) k_27 (vp_l (by decide) (by decide) c_28) (by decide) dX7_wetBehind_74 (pc' := 75) rfl ?_
  refine r_iconst C dX7_wetBehind_75 (pc' := 76) rfl (v := 1) rfl ?_
  refine r_iadd C dX7_wetBehind_76 (pc' := 77) rfl ?_
  obtain ⟨c_29, h⟩ := h
  obtain ⟨M_30, e_31, h⟩ := bn_ h
  refine r_iast C (j := 79) k_24 (vp_l (by decide) (by decide) c_29) (by decide) dX7_wetBehind_77 (pc' := 78) rfl M_30 e_31 ?_
  obtain ⟨x4_32, e_33, h⟩ := bn_ h
  refine r_iinc C (lv' := [(4, .int x4_32), (0, .ref a0), (1, .int x1), (2, .int x2), (3, .int x3)]) dX7_wetBehind_78 (pc' := 81) rfl (j := 4) rfl x4_32 (by rw [e_33]; rfl) (Nat.le_of_ble_eq_true rfl) rfl ?_
  refine r_goto C dX7_wetBehind_81 (tgt := 14) (by decide) ?_
  refine r_sub (lv' := [(0, .ref a0), (1, .int x1), (2, .int x2), (3, .int x3), (4, .int x4_32)]) [1, 2, 3, 4, 0] rfl ?_
  exact hR M_30 x4_32 (mMo.tr m_21 (mo_I e_31)) (mMo.kd (mo_I e_31) (mMo.kd m_21 k_a0 (by decide)) (by decide)) h
set_option maxHeartbeats 4000000 in
theorem B_X7_wetBehind_14 {E : mE} {a0 : Nat} {x1 : Int32} {x2 : Int32} {x3 : Int32} {X84 : MM → Prop} {Post : Int32 → MM → Prop} (C : mC E yX7_wetBehind cX7_wetBehind 6 ((some .int)) { frames := 5, cells := 0, slots := 0, locals := 120 }) (hE : mEnd E { frames := 5, cells := 0, slots := 0, locals := 120 } (pI_ Post)) : ∀ (n_ : Nat) (M : MM) (x4 : Int32), mkd M a0 = 7 → wl_X7_wetBehind_14 a0 x1 x2 x3 X84 n_ M x4 → (∀ (M' : MM), mMo M M' → X84 M' → mV E M' 0 0 84 [(0, .ref a0), (1, .int x1)] []) → mV E M 0 0 14 [(0, .ref a0), (1, .int x1), (2, .int x2), (3, .int x3), (4, .int x4)] [] := by
  intro n_
  induction n_ with
  | zero =>
    intro M x4 k_a0 h hX84
    exact absurd h (by rw [wl_X7_wetBehind_14]; exact fun q => q)
  | succ n_ ih =>
    intro M x4 k_a0 h hX84
    rw [wl_X7_wetBehind_14] at h
    refine r_iload C dX7_wetBehind_14 (pc' := 16) rfl (j := 4) rfl ?_
    refine r_bipush C dX7_wetBehind_16 (pc' := 18) rfl (v := 7) rfl ?_
    refine r_icmp_ge C dX7_wetBehind_18 (pc' := 21) rfl (tgt := 84) (by decide) (fun c_10 => ?_) (fun c_10 => ?_)
    · have h := it_t h c_10
      refine r_sub (lv' := [(0, .ref a0), (1, .int x1)]) [0, 1] rfl ?_
      exact hX84 M mMo.rf h
    · have h := it_f h c_10
      refine r_aload_n C dX7_wetBehind_21 (pc' := 22) rfl (j := 0) rfl ?_
      refine r_iload_n C dX7_wetBehind_22 (pc' := 23) rfl (j := 1) rfl ?_
      refine r_callVi (As := [.int x1]) (rest := []) (Cn := RX7) (T := TX7) C k_a0 (by decide) vc_X7 (S_X7_lives k_a0 h) (lw_V q1413 q1415 qs52 q112 q1416) rfl hd_X7_lives rfl rfl (Nat.le_of_ble_eq_true rfl) (Nat.le_of_ble_eq_true rfl) (Nat.le_of_ble_eq_true rfl) rfl rfl (Nat.le_of_ble_eq_true rfl) (Nat.le_of_ble_eq_true rfl) dX7_wetBehind_23 (pc' := 26) rfl (fun r_12 M_11 h m_13 => ?_)
      refine r_if_eq C dX7_wetBehind_26 (pc' := 29) rfl (tgt := 84) (by decide) (fun c_14 => ?_) (fun c_14 => ?_)
      · have h := it_t h c_14
        refine r_sub (lv' := [(0, .ref a0), (1, .int x1)]) [0, 1] rfl ?_
        exact hX84 M_11 m_13 h
      · have h := it_f h c_14
        refine r_iload_n C dX7_wetBehind_29 (pc' := 30) rfl (j := 3) rfl ?_
        refine r_iload_n C dX7_wetBehind_30 (pc' := 31) rfl (j := 2) rfl ?_
        refine r_iload C dX7_wetBehind_31 (pc' := 33) rfl (j := 4) rfl ?_
        refine r_callSi (As := [.int x3, .int x2, .int x4]) (rest := []) C (S_X7_comingIn h) (lw_S q1702 q1703 q112 q1704) hd_X7_comingIn rfl rfl (Nat.le_of_ble_eq_true rfl) (Nat.le_of_ble_eq_true rfl) (Nat.le_of_ble_eq_true rfl) rfl rfl (Nat.le_of_ble_eq_true rfl) (Nat.le_of_ble_eq_true rfl) dX7_wetBehind_33 (pc' := 36) rfl (fun r_16 M_15 h m_17 => ?_)
        refine r_istore C (lv' := [(5, .int r_16), (0, .ref a0), (1, .int x1), (2, .int x2), (3, .int x3), (4, .int x4)]) dX7_wetBehind_36 (pc' := 38) rfl r_16 rfl (Nat.le_of_ble_eq_true rfl) rfl ?_
        refine r_iload C dX7_wetBehind_38 (pc' := 40) rfl (j := 0) rfl ?_
        refine r_iload_n C dX7_wetBehind_40 (pc' := 41) rfl (j := 3) rfl ?_
        refine r_icmp_ge C dX7_wetBehind_41 (pc' := 44) rfl (tgt := 56) (by decide) (fun c_18 => ?_) (fun c_18 => ?_)
        · have h := it_t h c_18
          refine r_sub (lv' := [(0, .ref a0), (1, .int x1), (2, .int x2), (3, .int x3), (4, .int x4)]) [1, 2, 3, 4, 5] rfl ?_
          exact B_X7_wetBehind_56 C hE (mMo.kd m_17 (mMo.kd m_13 k_a0 (by decide)) (by decide)) h (fun M8 v0 hm8 g0 h8 => ih M8 v0 g0 h8 (fun M9 hm9 h9 => hX84 M9 (mMo.tr (mMo.tr (mMo.tr m_13 m_17) hm8) hm9) h9)) (fun M9 hm9 h9 => hX84 M9 (mMo.tr (mMo.tr m_13 m_17) hm9) h9)
        · have h := it_f h c_18
          refine r_aload_n C dX7_wetBehind_44 (pc' := 45) rfl (j := 1) rfl ?_
          refine r_aload_n C dX7_wetBehind_45 (pc' := 46) rfl (j := 1) rfl ?_
          refine r_getf C (Cn := RX7) (T := TX7) 35 (mMo.kd m_17 (mMo.kd m_13 k_a0 (by decide)) (by decide)) (by decide) vc_X7 in_X7 (by decide) q1259 dX7_wetBehind_46 (pc' := 49) rfl (v := va_rf (mgR M_15 a0 35)) rfl ?_
          obtain ⟨b_34, e_35, k_36, h⟩ := h
          refine r_ref [] e_35 ?_
          refine r_iload C dX7_wetBehind_49 (pc' := 51) rfl (j := 0) rfl ?_
          obtain ⟨c_37, h⟩ := h
          refine r_iald C (j := (ix_ r_16)) k_36 c_37 rfl dX7_wetBehind_51 (pc' := 52) rfl ?_
          refine r_iload_n C dX7_wetBehind_52 (pc' := 53) rfl (j := 2) rfl ?_
          refine r_callVv (As := [.int (mgI M_15 b_34 (ix_ r_16)), .int x1]) (rest := []) (Cn := RX7) (T := TX7) C (mMo.kd m_17 (mMo.kd m_13 k_a0 (by decide)) (by decide)) (by decide) vc_X7 (S_X7_waters (mMo.kd m_17 (mMo.kd m_13 k_a0 (by decide)) (by decide)) h) (lw_V q1573 q1575 qs82 q112 q1576) rfl hd_X7_waters rfl rfl (Nat.le_of_ble_eq_true rfl) (Nat.le_of_ble_eq_true rfl) (Nat.le_of_ble_eq_true rfl) rfl rfl (Nat.le_of_ble_eq_true rfl) (Nat.le_of_ble_eq_true rfl) dX7_wetBehind_53 (pc' := 56) rfl (fun M_38 h m_40 => ?_)
          refine r_sub (lv' := [(0, .ref a0), (1, .int x1), (2, .int x2), (3, .int x3), (4, .int x4)]) [1, 2, 3, 4, 5] rfl ?_
          exact B_X7_wetBehind_56 C hE (mMo.kd m_40 (mMo.kd m_17 (mMo.kd m_13 k_a0 (by decide)) (by decide)) (by decide)) h (fun M8 v0 hm8 g0 h8 => ih M8 v0 g0 h8 (fun M9 hm9 h9 => hX84 M9 (mMo.tr (mMo.tr (mMo.tr (mMo.tr m_13 m_17) m_40) hm8) hm9) h9)) (fun M9 hm9 h9 => hX84 M9 (mMo.tr (mMo.tr (mMo.tr m_13 m_17) m_40) hm9) h9)
set_option maxHeartbeats 4000000 in
theorem B_X7_wetBehind_104 {E : mE} {M : MM} {a0 : Nat} {xs0 : Int32} {Post : Int32 → MM → Prop} (C : mC E yX7_wetBehind cX7_wetBehind 6 ((some .int)) { frames := 5, cells := 0, slots := 0, locals := 120 }) (hE : mEnd E { frames := 5, cells := 0, slots := 0, locals := 120 } (pI_ Post)) (k_a0 : mkd M a0 = 7) (h : wb_X7_wetBehind_104 M a0 xs0 Post) : mV E M 0 0 104 [(0, .ref a0)] [.int xs0] := by
  unfold wb_X7_wetBehind_104 at h
  refine r_istore C (lv' := [(4, .int xs0), (0, .ref a0)]) dX7_wetBehind_104 (pc' := 106) rfl xs0 rfl (Nat.le_of_ble_eq_true rfl) rfl ?_
  refine r_aload_n C dX7_wetBehind_106 (pc' := 107) rfl (j := 1) rfl ?_
  refine r_getf C (Cn := RX7) (T := TX7) 1 k_a0 (by decide) vc_X7 in_X7 (by decide) q1225 dX7_wetBehind_107 (pc' := 110) rfl (v := va_rf (mgR M a0 1)) rfl ?_
  obtain ⟨b_48, e_49, k_50, h⟩ := h
  refine r_ref [] e_49 ?_
  refine r_aload_n C dX7_wetBehind_110 (pc' := 111) rfl (j := 1) rfl ?_
  refine r_getf C (Cn := RX7) (T := TX7) 0 k_a0 (by decide) vc_X7 in_X7 (by decide) q1224 dX7_wetBehind_111 (pc' := 114) rfl (v := va_rf (mgR M a0 0)) rfl ?_
  obtain ⟨b_51, e_52, k_53, h⟩ := h
  refine r_ref [] e_52 ?_
  refine r_callSv (As := [.ref b_48, .ref b_51]) (rest := []) C (S_X7_copies k_50 k_53 h) (lw_S q1588 q1589 q112 q1590) hd_X7_copies rfl rfl (Nat.le_of_ble_eq_true rfl) (Nat.le_of_ble_eq_true rfl) (Nat.le_of_ble_eq_true rfl) rfl rfl (Nat.le_of_ble_eq_true rfl) (Nat.le_of_ble_eq_true rfl) dX7_wetBehind_114 (pc' := 117) rfl (fun M_54 h m_56 => ?_)
  refine r_iload C dX7_wetBehind_117 (pc' := 119) rfl (j := 0) rfl ?_
  exact r_iret C hE (Nat.le_of_ble_eq_true rfl) (Nat.le_of_ble_eq_true rfl) dX7_wetBehind_119 ⟨_, rfl, h⟩
set_option maxHeartbeats 4000000 in
theorem B_X7_wetBehind_84 {E : mE} {M : MM} {a0 : Nat} {x1 : Int32} {Post : Int32 → MM → Prop} (C : mC E yX7_wetBehind cX7_wetBehind 6 ((some .int)) { frames := 5, cells := 0, slots := 0, locals := 120 }) (hE : mEnd E { frames := 5, cells := 0, slots := 0, locals := 120 } (pI_ Post)) (k_a0 : mkd M a0 = 7) (h : wb_X7_wetBehind_84 M a0 x1 Post) : mV E M 0 0 84 [(0, .ref a0), (1, .int x1)] [] := by
  unfold wb_X7_wetBehind_84 at h
  refine r_aload_n C dX7_wetBehind_84 (pc' := 85) rfl (j := 0) rfl ?_
  refine r_iload_n C dX7_wetBehind_85 (pc' := 86) rfl (j := 1) rfl ?_
  refine r_callVi (As := [.int x1]) (rest := []) (Cn := RX7) (T := TX7) C k_a0 (by decide) vc_X7 (S_X7_lives k_a0 h) (lw_V q1413 q1415 qs52 q112 q1416) rfl hd_X7_lives rfl rfl (Nat.le_of_ble_eq_true rfl) (Nat.le_of_ble_eq_true rfl) (Nat.le_of_ble_eq_true rfl) rfl rfl (Nat.le_of_ble_eq_true rfl) (Nat.le_of_ble_eq_true rfl) dX7_wetBehind_86 (pc' := 89) rfl (fun r_45 M_44 h m_46 => ?_)
  refine r_if_eq C dX7_wetBehind_89 (pc' := 92) rfl (tgt := 103) (by decide) (fun c_47 => ?_) (fun c_47 => ?_)
  · have h := it_t h c_47
    refine r_iconst C dX7_wetBehind_103 (pc' := 104) rfl (v := -1) rfl ?_
    refine r_sub (lv' := [(0, .ref a0)]) [0] rfl ?_
    exact B_X7_wetBehind_104 C hE (mMo.kd m_46 k_a0 (by decide)) h
  · have h := it_f h c_47
    refine r_aload_n C dX7_wetBehind_92 (pc' := 93) rfl (j := 0) rfl ?_
    refine r_getf C (Cn := RX7) (T := TX7) 0 (mMo.kd m_46 k_a0 (by decide)) (by decide) vc_X7 in_X7 (by decide) q1224 dX7_wetBehind_93 (pc' := 96) rfl (v := va_rf (mgR M_44 a0 0)) rfl ?_
    obtain ⟨b_57, e_58, k_59, h⟩ := h
    refine r_ref [] e_58 ?_
    refine r_iconst C dX7_wetBehind_96 (pc' := 97) rfl (v := 4) rfl ?_
    refine r_iload_n C dX7_wetBehind_97 (pc' := 98) rfl (j := 1) rfl ?_
    refine r_iadd C dX7_wetBehind_98 (pc' := 99) rfl ?_
    obtain ⟨c_60, h⟩ := h
    refine r_iald C (j := (ix_ ((4 : Int32) + x1))) k_59 c_60 rfl dX7_wetBehind_99 (pc' := 100) rfl ?_
    refine r_goto C dX7_wetBehind_100 (tgt := 104) (by decide) ?_
    refine r_sub (lv' := [(0, .ref a0)]) [0] rfl ?_
    exact B_X7_wetBehind_104 C hE (mMo.kd m_46 k_a0 (by decide)) h
set_option maxHeartbeats 4000000 in
theorem S_X7_wetBehind {D : DD} {l : Launch} {M : MM} {a0 : Nat} {x1 : Int32} {x2 : Int32} {x3 : Int32} {Post : Int32 → MM → Prop} (k_a0 : mkd M a0 = 7) (h : wp_X7_wetBehind M a0 x1 x2 x3 Post) : mMet D l yX7_wetBehind cX7_wetBehind 6 ((some .int)) { frames := 5, cells := 0, slots := 0, locals := 120 } M [.ref a0, .int x1, .int x2, .int x3] (pI_ Post) := by
  refine m_of2 [(0, .ref a0), (1, .int x1), (2, .int x2), (3, .int x3)] (by decide +kernel) (Nat.le_of_ble_eq_true rfl) rfl (fun E hED hEl C hE => ?_)
  subst hED
  subst hEl
  unfold wp_X7_wetBehind at h
  refine r_aload_n C dX7_wetBehind_0 (pc' := 1) rfl (j := 0) rfl ?_
  refine r_getf C (Cn := RX7) (T := TX7) 0 k_a0 (by decide) vc_X7 in_X7 (by decide) q1224 dX7_wetBehind_1 (pc' := 4) rfl (v := va_rf (mgR M a0 0)) rfl ?_
  obtain ⟨b_1, e_2, k_3, h⟩ := h
  refine r_ref [] e_2 ?_
  refine r_aload_n C dX7_wetBehind_4 (pc' := 5) rfl (j := 0) rfl ?_
  refine r_getf C (Cn := RX7) (T := TX7) 1 k_a0 (by decide) vc_X7 in_X7 (by decide) q1225 dX7_wetBehind_5 (pc' := 8) rfl (v := va_rf (mgR M a0 1)) rfl ?_
  obtain ⟨b_4, e_5, k_6, h⟩ := h
  refine r_ref [] e_5 ?_
  refine r_callSv (As := [.ref b_1, .ref b_4]) (rest := []) C (S_X7_copies k_3 k_6 h) (lw_S q1588 q1589 q112 q1590) hd_X7_copies rfl rfl (Nat.le_of_ble_eq_true rfl) (Nat.le_of_ble_eq_true rfl) (Nat.le_of_ble_eq_true rfl) rfl rfl (Nat.le_of_ble_eq_true rfl) (Nat.le_of_ble_eq_true rfl) dX7_wetBehind_8 (pc' := 11) rfl (fun M_7 h m_9 => ?_)
  refine r_iconst C dX7_wetBehind_11 (pc' := 12) rfl (v := 0) rfl ?_
  refine r_istore C (lv' := [(4, .int (0 : Int32)), (0, .ref a0), (1, .int x1), (2, .int x2), (3, .int x3)]) dX7_wetBehind_12 (pc' := 14) rfl (0 : Int32) rfl (Nat.le_of_ble_eq_true rfl) rfl ?_
  obtain ⟨n_41, h⟩ := h
  refine r_sub (lv' := [(0, .ref a0), (1, .int x1), (2, .int x2), (3, .int x3), (4, .int (0 : Int32))]) [1, 2, 3, 4, 0] rfl ?_
  refine B_X7_wetBehind_14 C hE n_41 M_7 (0 : Int32) (mMo.kd m_9 k_a0 (by decide)) h (fun M_42 m_43 h => ?_)
  refine r_sub (lv' := [(0, .ref a0), (1, .int x1)]) [0, 1] rfl ?_
  exact B_X7_wetBehind_84 C hE (mMo.kd m_43 (mMo.kd m_9 k_a0 (by decide)) (by decide)) h
set_option maxHeartbeats 4000000 in
theorem B_X7_week_54 {E : mE} {a0 : Nat} {x1 : Int32} {x2 : Int32} {x3 : Int32} {X75 : MM → Int32 → Prop} {Post : Int32 → MM → Prop} (C : mC E yX7_week cX7_week 7 ((some .int)) { frames := 6, cells := 0, slots := 0, locals := 145 }) (hE : mEnd E { frames := 6, cells := 0, slots := 0, locals := 145 } (pI_ Post)) : ∀ (n_ : Nat) (M : MM) (x4 : Int32) (x5 : Int32), mkd M a0 = 7 → wl_X7_week_54 a0 x1 x2 x3 X75 n_ M x4 x5 → (∀ (M' : MM) (x4' : Int32), mMo M M' → X75 M' x4' → mV E M' 0 0 75 [(0, .ref a0), (1, .int x1), (2, .int x2), (3, .int x3), (4, .int x4')] []) → mV E M 0 0 54 [(0, .ref a0), (1, .int x1), (2, .int x2), (3, .int x3), (4, .int x4), (5, .int x5)] [] := by
  intro n_
  induction n_ with
  | zero =>
    intro M x4 x5 k_a0 h hX75
    exact absurd h (by rw [wl_X7_week_54]; exact fun q => q)
  | succ n_ ih =>
    intro M x4 x5 k_a0 h hX75
    rw [wl_X7_week_54] at h
    refine r_iload C dX7_week_54 (pc' := 56) rfl (j := 5) rfl ?_
    refine r_bipush C dX7_week_56 (pc' := 58) rfl (v := 7) rfl ?_
    refine r_icmp_ge C dX7_week_58 (pc' := 61) rfl (tgt := 75) (by decide) (fun c_17 => ?_) (fun c_17 => ?_)
    · have h := it_t h c_17
      refine r_sub (lv' := [(0, .ref a0), (1, .int x1), (2, .int x2), (3, .int x3), (4, .int x4)]) [0, 1, 2, 3, 4] rfl ?_
      exact hX75 M x4 mMo.rf h
    · have h := it_f h c_17
      refine r_iload C dX7_week_61 (pc' := 63) rfl (j := 4) rfl ?_
      refine r_iload_n C dX7_week_63 (pc' := 64) rfl (j := 2) rfl ?_
      refine r_iconst C dX7_week_64 (pc' := 65) rfl (v := 1) rfl ?_
      refine r_iadd C dX7_week_65 (pc' := 66) rfl ?_
      refine r_imul C dX7_week_66 (pc' := 67) rfl ?_
      obtain ⟨x4_18, e_19, h⟩ := bn_ h
      refine r_istore C (lv' := [(4, .int x4_18), (0, .ref a0), (1, .int x1), (2, .int x2), (3, .int x3), (5, .int x5)]) dX7_week_67 (pc' := 69) rfl x4_18 e_19 (Nat.le_of_ble_eq_true rfl) rfl ?_
      obtain ⟨x5_20, e_21, h⟩ := bn_ h
      refine r_iinc C (lv' := [(5, .int x5_20), (4, .int x4_18), (0, .ref a0), (1, .int x1), (2, .int x2), (3, .int x3)]) dX7_week_69 (pc' := 72) rfl (j := 5) rfl x5_20 (by rw [e_21]; rfl) (Nat.le_of_ble_eq_true rfl) rfl ?_
      refine r_goto C dX7_week_72 (tgt := 54) (by decide) ?_
      refine r_sub (lv' := [(0, .ref a0), (1, .int x1), (2, .int x2), (3, .int x3), (4, .int x4_18), (5, .int x5_20)]) [2, 3, 4, 5, 1, 0] rfl ?_
      exact ih M x4_18 x5_20 k_a0 h (fun M9 w0 hm9 h9 => hX75 M9 w0 hm9 h9)
set_option maxHeartbeats 4000000 in
theorem B_X7_week_112 {E : mE} {M : MM} {a0 : Nat} {x1 : Int32} {x2 : Int32} {x3 : Int32} {x4 : Int32} {x5 : Int32} {x6 : Int32} {R : MM → Int32 → Int32 → Prop} {X134 : MM → Int32 → Prop} {Post : Int32 → MM → Prop} (C : mC E yX7_week cX7_week 7 ((some .int)) { frames := 6, cells := 0, slots := 0, locals := 145 }) (hE : mEnd E { frames := 6, cells := 0, slots := 0, locals := 145 } (pI_ Post)) (k_a0 : mkd M a0 = 7) (h : wb_X7_week_112 M a0 x1 x2 x3 x4 x5 x6 R X134) (hR : ∀ (M' : MM) (x5' : Int32) (x6' : Int32), mMo M M' → mkd M' a0 = 7 → R M' x5' x6' → mV E M' 0 0 81 [(0, .ref a0), (1, .int x1), (2, .int x2), (3, .int x3), (4, .int x4), (5, .int x5'), (6, .int x6')] []) (hX134 : ∀ (M' : MM) (x5' : Int32), mMo M M' → X134 M' x5' → mV E M' 0 0 134 [(0, .ref a0), (1, .int x1), (2, .int x2), (3, .int x3), (5, .int x5')] []) : mV E M 0 0 112 [(0, .ref a0), (1, .int x1), (2, .int x2), (3, .int x3), (4, .int x4), (5, .int x5), (6, .int x6)] [] := by
  unfold wb_X7_week_112 at h
  refine r_aload_n C dX7_week_112 (pc' := 113) rfl (j := 0) rfl ?_
  refine r_iload_n C dX7_week_113 (pc' := 114) rfl (j := 1) rfl ?_
  refine r_iload_n C dX7_week_114 (pc' := 115) rfl (j := 2) rfl ?_
  refine r_iload C dX7_week_115 (pc' := 117) rfl (j := 6) rfl ?_
  refine r_callVi (As := [.int x1, .int x2, .int x6]) (rest := []) (Cn := RX7) (T := TX7) C k_a0 (by decide) vc_X7 (S_X7_wetBehind k_a0 h) (lw_V q1705 q1707 qs95 q112 q1708) rfl hd_X7_wetBehind rfl rfl (Nat.le_of_ble_eq_true rfl) (Nat.le_of_ble_eq_true rfl) (Nat.le_of_ble_eq_true rfl) rfl rfl (Nat.le_of_ble_eq_true rfl) (Nat.le_of_ble_eq_true rfl) dX7_week_117 (pc' := 120) rfl (fun r_29 M_28 h m_30 => ?_)
  refine r_iconst C dX7_week_120 (pc' := 121) rfl (v := -1) rfl ?_
  refine r_icmp_eq C dX7_week_121 (pc' := 124) rfl (tgt := 128) (by decide) (fun c_31 => ?_) (fun c_31 => ?_)
  · have h := it_t h c_31
    obtain ⟨x6_32, e_33, h⟩ := bn_ h
    refine r_iinc C (lv' := [(6, .int x6_32), (0, .ref a0), (1, .int x1), (2, .int x2), (3, .int x3), (4, .int x4), (5, .int x5)]) dX7_week_128 (pc' := 131) rfl (j := 6) rfl x6_32 (by rw [e_33]; rfl) (Nat.le_of_ble_eq_true rfl) rfl ?_
    refine r_goto C dX7_week_131 (tgt := 81) (by decide) ?_
    refine r_sub (lv' := [(0, .ref a0), (1, .int x1), (2, .int x2), (3, .int x3), (4, .int x4), (5, .int x5), (6, .int x6_32)]) [1, 2, 3, 4, 5, 6, 0] rfl ?_
    exact hR M_28 x5 x6_32 m_30 (mMo.kd m_30 k_a0 (by decide)) h
  · have h := it_f h c_31
    refine r_iload C dX7_week_124 (pc' := 126) rfl (j := 6) rfl ?_
    refine r_istore C (lv' := [(5, .int x6), (0, .ref a0), (1, .int x1), (2, .int x2), (3, .int x3), (4, .int x4), (6, .int x6)]) dX7_week_126 (pc' := 128) rfl x6 rfl (Nat.le_of_ble_eq_true rfl) rfl ?_
    obtain ⟨x6_34, e_35, h⟩ := bn_ h
    refine r_iinc C (lv' := [(6, .int x6_34), (5, .int x6), (0, .ref a0), (1, .int x1), (2, .int x2), (3, .int x3), (4, .int x4)]) dX7_week_128 (pc' := 131) rfl (j := 6) rfl x6_34 (by rw [e_35]; rfl) (Nat.le_of_ble_eq_true rfl) rfl ?_
    refine r_goto C dX7_week_131 (tgt := 81) (by decide) ?_
    refine r_sub (lv' := [(0, .ref a0), (1, .int x1), (2, .int x2), (3, .int x3), (4, .int x4), (5, .int x6), (6, .int x6_34)]) [2, 3, 4, 5, 6, 1, 0] rfl ?_
    exact hR M_28 x6 x6_34 m_30 (mMo.kd m_30 k_a0 (by decide)) h
set_option maxHeartbeats 4000000 in
theorem B_X7_week_81 {E : mE} {a0 : Nat} {x1 : Int32} {x2 : Int32} {x3 : Int32} {x4 : Int32} {X134 : MM → Int32 → Prop} {Post : Int32 → MM → Prop} (C : mC E yX7_week cX7_week 7 ((some .int)) { frames := 6, cells := 0, slots := 0, locals := 145 }) (hE : mEnd E { frames := 6, cells := 0, slots := 0, locals := 145 } (pI_ Post)) : ∀ (n_ : Nat) (M : MM) (x5 : Int32) (x6 : Int32), mkd M a0 = 7 → wl_X7_week_81 a0 x1 x2 x3 x4 X134 n_ M x5 x6 → (∀ (M' : MM) (x5' : Int32), mMo M M' → X134 M' x5' → mV E M' 0 0 134 [(0, .ref a0), (1, .int x1), (2, .int x2), (3, .int x3), (5, .int x5')] []) → mV E M 0 0 81 [(0, .ref a0), (1, .int x1), (2, .int x2), (3, .int x3), (4, .int x4), (5, .int x5), (6, .int x6)] [] := by
  intro n_
  induction n_ with
  | zero =>
    intro M x5 x6 k_a0 h hX134
    exact absurd h (by rw [wl_X7_week_81]; exact fun q => q)
  | succ n_ ih =>
    intro M x5 x6 k_a0 h hX134
    rw [wl_X7_week_81] at h
    refine r_iload C dX7_week_81 (pc' := 83) rfl (j := 6) rfl ?_
    refine r_iload C dX7_week_83 (pc' := 85) rfl (j := 4) rfl ?_
    refine r_icmp_ge C dX7_week_85 (pc' := 88) rfl (tgt := 134) (by decide) (fun c_26 => ?_) (fun c_26 => ?_)
    · have h := it_t h c_26
      refine r_sub (lv' := [(0, .ref a0), (1, .int x1), (2, .int x2), (3, .int x3), (5, .int x5)]) [0, 1, 2, 3, 5] rfl ?_
      exact hX134 M x5 mMo.rf h
    · have h := it_f h c_26
      refine r_iload C dX7_week_88 (pc' := 90) rfl (j := 5) rfl ?_
      refine r_iconst C dX7_week_90 (pc' := 91) rfl (v := -1) rfl ?_
      refine r_icmp_eq C dX7_week_91 (pc' := 94) rfl (tgt := 112) (by decide) (fun c_27 => ?_) (fun c_27 => ?_)
      · have h := it_t h c_27
        refine r_sub (lv' := [(0, .ref a0), (1, .int x1), (2, .int x2), (3, .int x3), (4, .int x4), (5, .int x5), (6, .int x6)]) [0, 1, 2, 3, 4, 5, 6] rfl ?_
        exact B_X7_week_112 C hE k_a0 h (fun M8 v0 v1 hm8 g0 h8 => ih M8 v0 v1 g0 h8 (fun M9 w0 hm9 h9 => hX134 M9 w0 (mMo.tr hm8 hm9) h9)) (fun M9 w0 hm9 h9 => hX134 M9 w0 hm9 h9)
      · have h := it_f h c_27
        refine r_iload C dX7_week_94 (pc' := 96) rfl (j := 6) rfl ?_
        refine r_iload_n C dX7_week_96 (pc' := 97) rfl (j := 2) rfl ?_
        refine r_callSi (As := [.int x6, .int x2]) (rest := []) C (S_X7_comings h) (lw_S q1699 q1700 q112 q1701) hd_X7_comings rfl rfl (Nat.le_of_ble_eq_true rfl) (Nat.le_of_ble_eq_true rfl) (Nat.le_of_ble_eq_true rfl) rfl rfl (Nat.le_of_ble_eq_true rfl) (Nat.le_of_ble_eq_true rfl) dX7_week_97 (pc' := 100) rfl (fun r_37 M_36 h m_38 => ?_)
        refine r_iload C dX7_week_100 (pc' := 102) rfl (j := 5) rfl ?_
        refine r_iload_n C dX7_week_102 (pc' := 103) rfl (j := 2) rfl ?_
        refine r_callSi (As := [.int x5, .int x2]) (rest := [.int r_37]) C (S_X7_comings h) (lw_S q1699 q1700 q112 q1701) hd_X7_comings rfl rfl (Nat.le_of_ble_eq_true rfl) (Nat.le_of_ble_eq_true rfl) (Nat.le_of_ble_eq_true rfl) rfl rfl (Nat.le_of_ble_eq_true rfl) (Nat.le_of_ble_eq_true rfl) dX7_week_103 (pc' := 106) rfl (fun r_40 M_39 h m_41 => ?_)
        refine r_icmp_lt C dX7_week_106 (pc' := 109) rfl (tgt := 112) (by decide) (fun c_42 => ?_) (fun c_42 => ?_)
        · have h := it_t h c_42
          refine r_sub (lv' := [(0, .ref a0), (1, .int x1), (2, .int x2), (3, .int x3), (4, .int x4), (5, .int x5), (6, .int x6)]) [0, 1, 2, 3, 4, 5, 6] rfl ?_
          exact B_X7_week_112 C hE (mMo.kd m_41 (mMo.kd m_38 k_a0 (by decide)) (by decide)) h (fun M8 v0 v1 hm8 g0 h8 => ih M8 v0 v1 g0 h8 (fun M9 w0 hm9 h9 => hX134 M9 w0 (mMo.tr (mMo.tr (mMo.tr m_38 m_41) hm8) hm9) h9)) (fun M9 w0 hm9 h9 => hX134 M9 w0 (mMo.tr (mMo.tr m_38 m_41) hm9) h9)
        · have h := it_f h c_42
          refine r_goto C dX7_week_109 (tgt := 128) (by decide) ?_
          obtain ⟨x6_43, e_44, h⟩ := bn_ h
          refine r_iinc C (lv' := [(6, .int x6_43), (0, .ref a0), (1, .int x1), (2, .int x2), (3, .int x3), (4, .int x4), (5, .int x5)]) dX7_week_128 (pc' := 131) rfl (j := 6) rfl x6_43 (by rw [e_44]; rfl) (Nat.le_of_ble_eq_true rfl) rfl ?_
          refine r_goto C dX7_week_131 (tgt := 81) (by decide) ?_
          refine r_sub (lv' := [(0, .ref a0), (1, .int x1), (2, .int x2), (3, .int x3), (4, .int x4), (5, .int x5), (6, .int x6_43)]) [1, 2, 3, 4, 5, 6, 0] rfl ?_
          exact ih M_39 x5 x6_43 (mMo.kd m_41 (mMo.kd m_38 k_a0 (by decide)) (by decide)) h (fun M9 w0 hm9 h9 => hX134 M9 w0 (mMo.tr (mMo.tr m_38 m_41) hm9) h9)
set_option maxHeartbeats 4000000 in
theorem B_X7_week_38 {E : mE} {M : MM} {a0 : Nat} {x1 : Int32} {x2 : Int32} {x3 : Int32} {Post : Int32 → MM → Prop} (C : mC E yX7_week cX7_week 7 ((some .int)) { frames := 6, cells := 0, slots := 0, locals := 145 }) (hE : mEnd E { frames := 6, cells := 0, slots := 0, locals := 145 } (pI_ Post)) (k_a0 : mkd M a0 = 7) (h : wb_X7_week_38 M a0 x1 x2 x3 Post) : mV E M 0 0 38 [(0, .ref a0), (1, .int x1), (2, .int x2), (3, .int x3)] [] := by
  unfold wb_X7_week_38 at h
  refine r_aload_n C dX7_week_38 (pc' := 39) rfl (j := 0) rfl ?_
  refine r_iload_n C dX7_week_39 (pc' := 40) rfl (j := 2) rfl ?_
  refine r_callVi (As := [.int x2]) (rest := []) (Cn := RX7) (T := TX7) C k_a0 (by decide) vc_X7 (S_X7_laysSome k_a0 h) (lw_V q1603 q1605 qs85 q112 q1606) rfl hd_X7_laysSome rfl rfl (Nat.le_of_ble_eq_true rfl) (Nat.le_of_ble_eq_true rfl) (Nat.le_of_ble_eq_true rfl) rfl rfl (Nat.le_of_ble_eq_true rfl) (Nat.le_of_ble_eq_true rfl) dX7_week_40 (pc' := 43) rfl (fun r_14 M_13 h m_15 => ?_)
  refine r_if_ne C dX7_week_43 (pc' := 46) rfl (tgt := 48) (by decide) (fun c_16 => ?_) (fun c_16 => ?_)
  · have h := it_f h c_16
    refine r_iconst C dX7_week_48 (pc' := 49) rfl (v := 1) rfl ?_
    refine r_istore C (lv' := [(4, .int (1 : Int32)), (0, .ref a0), (1, .int x1), (2, .int x2), (3, .int x3)]) dX7_week_49 (pc' := 51) rfl (1 : Int32) rfl (Nat.le_of_ble_eq_true rfl) rfl ?_
    refine r_iconst C dX7_week_51 (pc' := 52) rfl (v := 0) rfl ?_
    refine r_istore C (lv' := [(5, .int (0 : Int32)), (4, .int (1 : Int32)), (0, .ref a0), (1, .int x1), (2, .int x2), (3, .int x3)]) dX7_week_52 (pc' := 54) rfl (0 : Int32) rfl (Nat.le_of_ble_eq_true rfl) rfl ?_
    obtain ⟨n_22, h⟩ := h
    refine r_sub (lv' := [(0, .ref a0), (1, .int x1), (2, .int x2), (3, .int x3), (4, .int (1 : Int32)), (5, .int (0 : Int32))]) [2, 3, 4, 5, 1, 0] rfl ?_
    refine B_X7_week_54 C hE n_22 M_13 (1 : Int32) (0 : Int32) (mMo.kd m_15 k_a0 (by decide)) h (fun M_23 x4_25 m_24 h => ?_)
    refine r_iconst C dX7_week_75 (pc' := 76) rfl (v := -1) rfl ?_
    refine r_istore C (lv' := [(5, .int (-1 : Int32)), (0, .ref a0), (1, .int x1), (2, .int x2), (3, .int x3), (4, .int x4_25)]) dX7_week_76 (pc' := 78) rfl (-1 : Int32) rfl (Nat.le_of_ble_eq_true rfl) rfl ?_
    refine r_iconst C dX7_week_78 (pc' := 79) rfl (v := 0) rfl ?_
    refine r_istore C (lv' := [(6, .int (0 : Int32)), (5, .int (-1 : Int32)), (0, .ref a0), (1, .int x1), (2, .int x2), (3, .int x3), (4, .int x4_25)]) dX7_week_79 (pc' := 81) rfl (0 : Int32) rfl (Nat.le_of_ble_eq_true rfl) rfl ?_
    obtain ⟨n_45, h⟩ := h
    refine r_sub (lv' := [(0, .ref a0), (1, .int x1), (2, .int x2), (3, .int x3), (4, .int x4_25), (5, .int (-1 : Int32)), (6, .int (0 : Int32))]) [2, 3, 4, 5, 6, 1, 0] rfl ?_
    refine B_X7_week_81 C hE n_45 M_23 (-1 : Int32) (0 : Int32) (mMo.kd m_24 (mMo.kd m_15 k_a0 (by decide)) (by decide)) h (fun M_46 x5_48 m_47 h => ?_)
    refine r_iload C dX7_week_134 (pc' := 136) rfl (j := 4) rfl ?_
    refine r_iconst C dX7_week_136 (pc' := 137) rfl (v := -1) rfl ?_
    refine r_icmp_ne C dX7_week_137 (pc' := 140) rfl (tgt := 143) (by decide) (fun c_49 => ?_) (fun c_49 => ?_)
    · have h := it_f h c_49
      refine r_iload_n C dX7_week_143 (pc' := 144) rfl (j := 3) rfl ?_
      refine r_bipush C dX7_week_144 (pc' := 146) rfl (v := 9) rfl ?_
      refine r_icmp_le C dX7_week_146 (pc' := 149) rfl (tgt := 173) (by decide) (fun c_50 => ?_) (fun c_50 => ?_)
      · have h := it_t h c_50
        refine r_iload C dX7_week_173 (pc' := 175) rfl (j := 4) rfl ?_
        refine r_iload_n C dX7_week_175 (pc' := 176) rfl (j := 2) rfl ?_
        refine r_iload_n C dX7_week_176 (pc' := 177) rfl (j := 3) rfl ?_
        refine r_callSi (As := [.int x5_48, .int x2, .int x3]) (rest := []) C (S_X7_comingIn h) (lw_S q1702 q1703 q112 q1704) hd_X7_comingIn rfl rfl (Nat.le_of_ble_eq_true rfl) (Nat.le_of_ble_eq_true rfl) (Nat.le_of_ble_eq_true rfl) rfl rfl (Nat.le_of_ble_eq_true rfl) (Nat.le_of_ble_eq_true rfl) dX7_week_177 (pc' := 180) rfl (fun r_52 M_51 h m_53 => ?_)
        refine r_istore C (lv' := [(6, .int r_52), (0, .ref a0), (1, .int x1), (2, .int x2), (3, .int x3), (5, .int x5_48)]) dX7_week_180 (pc' := 182) rfl r_52 rfl (Nat.le_of_ble_eq_true rfl) rfl ?_
        refine r_iload C dX7_week_182 (pc' := 184) rfl (j := 0) rfl ?_
        refine r_iload_n C dX7_week_184 (pc' := 185) rfl (j := 3) rfl ?_
        refine r_icmp_ne C dX7_week_185 (pc' := 188) rfl (tgt := 193) (by decide) (fun c_54 => ?_) (fun c_54 => ?_)
        · have h := it_f h c_54
          refine r_aload_n C dX7_week_193 (pc' := 194) rfl (j := 1) rfl ?_
          refine r_getf C (Cn := RX7) (T := TX7) 35 (mMo.kd m_53 (mMo.kd m_47 (mMo.kd m_24 (mMo.kd m_15 k_a0 (by decide)) (by decide)) (by decide)) (by decide)) (by decide) vc_X7 in_X7 (by decide) q1259 dX7_week_194 (pc' := 197) rfl (v := va_rf (mgR M_51 a0 35)) rfl ?_
          obtain ⟨b_55, e_56, k_57, h⟩ := h
          refine r_ref [] e_56 ?_
          refine r_iload C dX7_week_197 (pc' := 199) rfl (j := 0) rfl ?_
          obtain ⟨c_58, h⟩ := h
          refine r_iald C (j := (ix_ r_52)) k_57 c_58 rfl dX7_week_199 (pc' := 200) rfl ?_
          exact r_iret C hE (Nat.le_of_ble_eq_true rfl) (Nat.le_of_ble_eq_true rfl) dX7_week_200 ⟨_, rfl, h⟩
        · have h := it_t h c_54
          refine r_bipush C dX7_week_188 (pc' := 190) rfl (v := -3) rfl ?_
          refine r_goto C dX7_week_190 (tgt := 200) (by decide) ?_
          exact r_iret C hE (Nat.le_of_ble_eq_true rfl) (Nat.le_of_ble_eq_true rfl) dX7_week_200 ⟨_, rfl, h⟩
      · have h := it_f h c_50
        refine r_iload_n C dX7_week_149 (pc' := 150) rfl (j := 3) rfl ?_
        refine r_bipush C dX7_week_150 (pc' := 152) rfl (v := 10) rfl ?_
        refine r_icmp_ne C dX7_week_152 (pc' := 155) rfl (tgt := 164) (by decide) (fun c_59 => ?_) (fun c_59 => ?_)
        · have h := it_f h c_59
          refine r_aload_n C dX7_week_164 (pc' := 165) rfl (j := 0) rfl ?_
          refine r_iload_n C dX7_week_165 (pc' := 166) rfl (j := 1) rfl ?_
          refine r_iload_n C dX7_week_166 (pc' := 167) rfl (j := 2) rfl ?_
          refine r_iload C dX7_week_167 (pc' := 169) rfl (j := 4) rfl ?_
          refine r_callVi (As := [.int x1, .int x2, .int x5_48]) (rest := []) (Cn := RX7) (T := TX7) C (mMo.kd m_47 (mMo.kd m_24 (mMo.kd m_15 k_a0 (by decide)) (by decide)) (by decide)) (by decide) vc_X7 (S_X7_wetBehind (mMo.kd m_47 (mMo.kd m_24 (mMo.kd m_15 k_a0 (by decide)) (by decide)) (by decide)) h) (lw_V q1705 q1707 qs95 q112 q1708) rfl hd_X7_wetBehind rfl rfl (Nat.le_of_ble_eq_true rfl) (Nat.le_of_ble_eq_true rfl) (Nat.le_of_ble_eq_true rfl) rfl rfl (Nat.le_of_ble_eq_true rfl) (Nat.le_of_ble_eq_true rfl) dX7_week_169 (pc' := 172) rfl (fun r_61 M_60 h m_62 => ?_)
          exact r_iret C hE (Nat.le_of_ble_eq_true rfl) (Nat.le_of_ble_eq_true rfl) dX7_week_172 ⟨_, rfl, h⟩
        · have h := it_t h c_59
          refine r_iload C dX7_week_155 (pc' := 157) rfl (j := 4) rfl ?_
          refine r_iload_n C dX7_week_157 (pc' := 158) rfl (j := 2) rfl ?_
          refine r_callSi (As := [.int x5_48, .int x2]) (rest := []) C (S_X7_comings h) (lw_S q1699 q1700 q112 q1701) hd_X7_comings rfl rfl (Nat.le_of_ble_eq_true rfl) (Nat.le_of_ble_eq_true rfl) (Nat.le_of_ble_eq_true rfl) rfl rfl (Nat.le_of_ble_eq_true rfl) (Nat.le_of_ble_eq_true rfl) dX7_week_158 (pc' := 161) rfl (fun r_64 M_63 h m_65 => ?_)
          refine r_goto C dX7_week_161 (tgt := 172) (by decide) ?_
          exact r_iret C hE (Nat.le_of_ble_eq_true rfl) (Nat.le_of_ble_eq_true rfl) dX7_week_172 ⟨_, rfl, h⟩
    · have h := it_t h c_49
      refine r_bipush C dX7_week_140 (pc' := 142) rfl (v := -2) rfl ?_
      exact r_iret C hE (Nat.le_of_ble_eq_true rfl) (Nat.le_of_ble_eq_true rfl) dX7_week_142 ⟨_, rfl, h⟩
  · have h := it_t h c_16
    refine r_iconst C dX7_week_46 (pc' := 47) rfl (v := -1) rfl ?_
    exact r_iret C hE (Nat.le_of_ble_eq_true rfl) (Nat.le_of_ble_eq_true rfl) dX7_week_47 ⟨_, rfl, h⟩
set_option maxHeartbeats 4000000 in
theorem S_X7_week {D : DD} {l : Launch} {M : MM} {a0 : Nat} {x1 : Int32} {x2 : Int32} {x3 : Int32} {Post : Int32 → MM → Prop} (k_a0 : mkd M a0 = 7) (h : wp_X7_week M a0 x1 x2 x3 Post) : mMet D l yX7_week cX7_week 7 ((some .int)) { frames := 6, cells := 0, slots := 0, locals := 145 } M [.ref a0, .int x1, .int x2, .int x3] (pI_ Post) := by
  refine m_of2 [(0, .ref a0), (1, .int x1), (2, .int x2), (3, .int x3)] (by decide +kernel) (Nat.le_of_ble_eq_true rfl) rfl (fun E hED hEl C hE => ?_)
  subst hED
  subst hEl
  unfold wp_X7_week at h
  refine r_aload_n C dX7_week_0 (pc' := 1) rfl (j := 0) rfl ?_
  refine r_iload_n C dX7_week_1 (pc' := 2) rfl (j := 1) rfl ?_
  refine r_callVi (As := [.int x1]) (rest := []) (Cn := RX7) (T := TX7) C k_a0 (by decide) vc_X7 (S_X7_lives k_a0 h) (lw_V q1413 q1415 qs52 q112 q1416) rfl hd_X7_lives rfl rfl (Nat.le_of_ble_eq_true rfl) (Nat.le_of_ble_eq_true rfl) (Nat.le_of_ble_eq_true rfl) rfl rfl (Nat.le_of_ble_eq_true rfl) (Nat.le_of_ble_eq_true rfl) dX7_week_2 (pc' := 5) rfl (fun r_2 M_1 h m_3 => ?_)
  refine r_if_eq C dX7_week_5 (pc' := 8) rfl (tgt := 46) (by decide) (fun c_4 => ?_) (fun c_4 => ?_)
  · have h := it_t h c_4
    refine r_iconst C dX7_week_46 (pc' := 47) rfl (v := -1) rfl ?_
    exact r_iret C hE (Nat.le_of_ble_eq_true rfl) (Nat.le_of_ble_eq_true rfl) dX7_week_47 ⟨_, rfl, h⟩
  · have h := it_f h c_4
    refine r_iload_n C dX7_week_8 (pc' := 9) rfl (j := 2) rfl ?_
    refine r_iconst C dX7_week_9 (pc' := 10) rfl (v := 1) rfl ?_
    refine r_iconst C dX7_week_10 (pc' := 11) rfl (v := 3) rfl ?_
    refine r_callSi (As := [.int x2, .int (1 : Int32), .int (3 : Int32)]) (rest := []) C (S_X7_in h) (lw_S q1391 q1392 q112 q1393) hd_X7_in rfl rfl (Nat.le_of_ble_eq_true rfl) (Nat.le_of_ble_eq_true rfl) (Nat.le_of_ble_eq_true rfl) rfl rfl (Nat.le_of_ble_eq_true rfl) (Nat.le_of_ble_eq_true rfl) dX7_week_11 (pc' := 14) rfl (fun r_6 M_5 h m_7 => ?_)
    refine r_if_eq C dX7_week_14 (pc' := 17) rfl (tgt := 46) (by decide) (fun c_8 => ?_) (fun c_8 => ?_)
    · have h := it_t h c_8
      refine r_iconst C dX7_week_46 (pc' := 47) rfl (v := -1) rfl ?_
      exact r_iret C hE (Nat.le_of_ble_eq_true rfl) (Nat.le_of_ble_eq_true rfl) dX7_week_47 ⟨_, rfl, h⟩
    · have h := it_f h c_8
      refine r_iload_n C dX7_week_17 (pc' := 18) rfl (j := 3) rfl ?_
      refine r_bipush C dX7_week_18 (pc' := 20) rfl (v := 10) rfl ?_
      refine r_bipush C dX7_week_20 (pc' := 22) rfl (v := 11) rfl ?_
      refine r_callSi (As := [.int x3, .int (10 : Int32), .int (11 : Int32)]) (rest := []) C (S_X7_in h) (lw_S q1391 q1392 q112 q1393) hd_X7_in rfl rfl (Nat.le_of_ble_eq_true rfl) (Nat.le_of_ble_eq_true rfl) (Nat.le_of_ble_eq_true rfl) rfl rfl (Nat.le_of_ble_eq_true rfl) (Nat.le_of_ble_eq_true rfl) dX7_week_22 (pc' := 25) rfl (fun r_10 M_9 h m_11 => ?_)
      refine r_if_ne C dX7_week_25 (pc' := 28) rfl (tgt := 38) (by decide) (fun c_12 => ?_) (fun c_12 => ?_)
      · have h := it_f h c_12
        refine r_sub (lv' := [(0, .ref a0), (1, .int x1), (2, .int x2), (3, .int x3)]) [0, 1, 2, 3] rfl ?_
        exact B_X7_week_38 C hE (mMo.kd m_11 (mMo.kd m_7 (mMo.kd m_3 k_a0 (by decide)) (by decide)) (by decide)) h
      · have h := it_t h c_12
        refine r_iload_n C dX7_week_28 (pc' := 29) rfl (j := 3) rfl ?_
        refine r_iconst C dX7_week_29 (pc' := 30) rfl (v := 0) rfl ?_
        refine r_bipush C dX7_week_30 (pc' := 32) rfl (v := 6) rfl ?_
        refine r_callSi (As := [.int x3, .int (0 : Int32), .int (6 : Int32)]) (rest := []) C (S_X7_in h) (lw_S q1391 q1392 q112 q1393) hd_X7_in rfl rfl (Nat.le_of_ble_eq_true rfl) (Nat.le_of_ble_eq_true rfl) (Nat.le_of_ble_eq_true rfl) rfl rfl (Nat.le_of_ble_eq_true rfl) (Nat.le_of_ble_eq_true rfl) dX7_week_32 (pc' := 35) rfl (fun r_67 M_66 h m_68 => ?_)
        refine r_if_eq C dX7_week_35 (pc' := 38) rfl (tgt := 46) (by decide) (fun c_69 => ?_) (fun c_69 => ?_)
        · have h := it_t h c_69
          refine r_iconst C dX7_week_46 (pc' := 47) rfl (v := -1) rfl ?_
          exact r_iret C hE (Nat.le_of_ble_eq_true rfl) (Nat.le_of_ble_eq_true rfl) dX7_week_47 ⟨_, rfl, h⟩
        · have h := it_f h c_69
          refine r_sub (lv' := [(0, .ref a0), (1, .int x1), (2, .int x2), (3, .int x3)]) [0, 1, 2, 3] rfl ?_
          exact B_X7_week_38 C hE (mMo.kd m_68 (mMo.kd m_11 (mMo.kd m_7 (mMo.kd m_3 k_a0 (by decide)) (by decide)) (by decide)) (by decide)) h
set_option maxHeartbeats 4000000 in
theorem B_X7_areTenths_2 {E : mE} {a0 : Nat} {x1 : Int32} {X22 : MM → Prop} {X30 : MM → Prop} {Post : Int32 → MM → Prop} (C : mC E yX7_areTenths cX7_areTenths 3 ((some .boolean)) { frames := 1, cells := 0, slots := 0, locals := 22 }) (hE : mEnd E { frames := 1, cells := 0, slots := 0, locals := 22 } (pI_ Post)) : ∀ (n_ : Nat) (M : MM) (x2 : Int32), mkd M a0 = 7 → wl_X7_areTenths_2 a0 x1 X22 X30 n_ M x2 → (∀ (M' : MM), mMo M M' → X22 M' → mV E M' 0 0 22 [] []) → (∀ (M' : MM), mMo M M' → X30 M' → mV E M' 0 0 30 [] []) → mV E M 0 0 2 [(0, .ref a0), (1, .int x1), (2, .int x2)] [] := by
  intro n_
  induction n_ with
  | zero =>
    intro M x2 k_a0 h hX22 hX30
    exact absurd h (by rw [wl_X7_areTenths_2]; exact fun q => q)
  | succ n_ ih =>
    intro M x2 k_a0 h hX22 hX30
    rw [wl_X7_areTenths_2] at h
    refine r_iload_n C dX7_areTenths_2 (pc' := 3) rfl (j := 2) rfl ?_
    refine r_iload_n C dX7_areTenths_3 (pc' := 4) rfl (j := 1) rfl ?_
    refine r_icmp_ge C dX7_areTenths_4 (pc' := 7) rfl (tgt := 30) (by decide) (fun c_1 => ?_) (fun c_1 => ?_)
    · have h := it_t h c_1
      refine r_sub (lv' := []) [] rfl ?_
      exact hX30 M mMo.rf h
    · have h := it_f h c_1
      refine r_aload_n C dX7_areTenths_7 (pc' := 8) rfl (j := 0) rfl ?_
      refine r_getf C (Cn := RX7) (T := TX7) 3 k_a0 (by decide) vc_X7 in_X7 (by decide) q1227 dX7_areTenths_8 (pc' := 11) rfl (v := va_rf (mgR M a0 3)) rfl ?_
      obtain ⟨b_2, e_3, k_4, h⟩ := h
      refine r_ref [] e_3 ?_
      refine r_iload_n C dX7_areTenths_11 (pc' := 12) rfl (j := 2) rfl ?_
      obtain ⟨c_5, h⟩ := h
      refine r_bald C (j := (ix_ x2)) k_4 c_5 rfl dX7_areTenths_12 (pc' := 13) rfl ?_
      refine r_iconst C dX7_areTenths_13 (pc' := 14) rfl (v := 0) rfl ?_
      refine r_bipush C dX7_areTenths_14 (pc' := 16) rfl (v := 10) rfl ?_
      refine r_callSi (As := [.int (mgI M b_2 (ix_ x2)), .int (0 : Int32), .int (10 : Int32)]) (rest := []) C (S_X7_in h) (lw_S q1391 q1392 q112 q1393) hd_X7_in rfl rfl (Nat.le_of_ble_eq_true rfl) (Nat.le_of_ble_eq_true rfl) (Nat.le_of_ble_eq_true rfl) rfl rfl (Nat.le_of_ble_eq_true rfl) (Nat.le_of_ble_eq_true rfl) dX7_areTenths_16 (pc' := 19) rfl (fun r_7 M_6 h m_8 => ?_)
      refine r_if_ne C dX7_areTenths_19 (pc' := 22) rfl (tgt := 24) (by decide) (fun c_9 => ?_) (fun c_9 => ?_)
      · have h := it_f h c_9
        obtain ⟨x2_10, e_11, h⟩ := bn_ h
        refine r_iinc C (lv' := [(2, .int x2_10), (0, .ref a0), (1, .int x1)]) dX7_areTenths_24 (pc' := 27) rfl (j := 2) rfl x2_10 (by rw [e_11]; rfl) (Nat.le_of_ble_eq_true rfl) rfl ?_
        refine r_goto C dX7_areTenths_27 (tgt := 2) (by decide) ?_
        refine r_sub (lv' := [(0, .ref a0), (1, .int x1), (2, .int x2_10)]) [1, 2, 0] rfl ?_
        exact ih M_6 x2_10 (mMo.kd m_8 k_a0 (by decide)) h (fun M9 hm9 h9 => hX22 M9 (mMo.tr m_8 hm9) h9) (fun M9 hm9 h9 => hX30 M9 (mMo.tr m_8 hm9) h9)
      · have h := it_t h c_9
        refine r_sub (lv' := []) [] rfl ?_
        exact hX22 M_6 m_8 h
set_option maxHeartbeats 4000000 in
theorem S_X7_areTenths {D : DD} {l : Launch} {M : MM} {a0 : Nat} {x1 : Int32} {Post : Int32 → MM → Prop} (k_a0 : mkd M a0 = 7) (h : wp_X7_areTenths M a0 x1 Post) : mMet D l yX7_areTenths cX7_areTenths 3 ((some .boolean)) { frames := 1, cells := 0, slots := 0, locals := 22 } M [.ref a0, .int x1] (pI_ Post) := by
  refine m_of2 [(0, .ref a0), (1, .int x1)] (by decide +kernel) (Nat.le_of_ble_eq_true rfl) rfl (fun E hED hEl C hE => ?_)
  subst hED
  subst hEl
  unfold wp_X7_areTenths at h
  refine r_iconst C dX7_areTenths_0 (pc' := 1) rfl (v := 0) rfl ?_
  refine r_istore_n C (lv' := [(2, .int (0 : Int32)), (0, .ref a0), (1, .int x1)]) dX7_areTenths_1 (pc' := 2) rfl rfl (0 : Int32) rfl (Nat.le_of_ble_eq_true rfl) rfl ?_
  obtain ⟨n_12, h⟩ := h
  refine r_sub (lv' := [(0, .ref a0), (1, .int x1), (2, .int (0 : Int32))]) [1, 2, 0] rfl ?_
  refine B_X7_areTenths_2 C hE n_12 M (0 : Int32) k_a0 h (fun M_13 m_14 h => ?_) (fun M_15 m_16 h => ?_)
  · refine r_iconst C dX7_areTenths_22 (pc' := 23) rfl (v := 0) rfl ?_
    exact r_zret C hE (Or.inl rfl) (Nat.le_of_ble_eq_true rfl) (Nat.le_of_ble_eq_true rfl) dX7_areTenths_23 ⟨_, rfl, h⟩
  · refine r_iconst C dX7_areTenths_30 (pc' := 31) rfl (v := 1) rfl ?_
    exact r_zret C hE (Or.inr rfl) (Nat.le_of_ble_eq_true rfl) (Nat.le_of_ble_eq_true rfl) dX7_areTenths_31 ⟨_, rfl, h⟩
set_option maxHeartbeats 4000000 in
theorem B_X7_laysComes_22 {E : mE} {M : MM} {a0 : Nat} {x1 : Int32} {x2 : Int32} {as0 : Nat} {xs1 : Int32} {xs2 : Int64} {R : MM → Int32 → Prop} {X29 : MM → Prop} {Post : MM → Prop} (C : mC E yX7_laysComes cX7_laysComes 4 (none) { frames := 0, cells := 0, slots := 0, locals := 0 }) (hE : mEnd E { frames := 0, cells := 0, slots := 0, locals := 0 } (pV_ Post)) (k_a0 : mkd M a0 = 7) (k_as0 : mkd M as0 = 101) (h : wb_X7_laysComes_22 M a0 x1 x2 as0 xs1 xs2 R X29) (hR : ∀ (M' : MM) (x2' : Int32), mMo M M' → mkd M' a0 = 7 → R M' x2' → mV E M' 0 0 2 [(0, .ref a0), (1, .int x1), (2, .int x2')] []) (hX29 : ∀ (M' : MM), mMo M M' → X29 M' → mV E M' 0 0 29 [(0, .ref a0), (1, .int x1)] []) : mV E M 0 0 22 [(0, .ref a0), (1, .int x1), (2, .int x2)] [.long xs2, .int xs1, .ref as0] := by
  unfold wb_X7_laysComes_22 at h
  obtain ⟨c_6, h⟩ := h
  obtain ⟨M_7, e_8, h⟩ := bn_ h
  refine r_last C (j := (ix_ xs1)) k_as0 c_6 rfl dX7_laysComes_22 (pc' := 23) rfl M_7 e_8 ?_
  obtain ⟨x2_9, e_10, h⟩ := bn_ h
  refine r_iinc C (lv' := [(2, .int x2_9), (0, .ref a0), (1, .int x1)]) dX7_laysComes_23 (pc' := 26) rfl (j := 2) rfl x2_9 (by rw [e_10]; rfl) (Nat.le_of_ble_eq_true rfl) rfl ?_
  refine r_goto C dX7_laysComes_26 (tgt := 2) (by decide) ?_
  refine r_sub (lv' := [(0, .ref a0), (1, .int x1), (2, .int x2_9)]) [1, 2, 0] rfl ?_
  exact hR M_7 x2_9 (mo_L e_8) (mMo.kd (mo_L e_8) k_a0 (by decide)) h
set_option maxHeartbeats 4000000 in
theorem B_X7_laysComes_2 {E : mE} {a0 : Nat} {x1 : Int32} {X29 : MM → Prop} {Post : MM → Prop} (C : mC E yX7_laysComes cX7_laysComes 4 (none) { frames := 0, cells := 0, slots := 0, locals := 0 }) (hE : mEnd E { frames := 0, cells := 0, slots := 0, locals := 0 } (pV_ Post)) : ∀ (n_ : Nat) (M : MM) (x2 : Int32), mkd M a0 = 7 → wl_X7_laysComes_2 a0 x1 X29 n_ M x2 → (∀ (M' : MM), mMo M M' → X29 M' → mV E M' 0 0 29 [(0, .ref a0), (1, .int x1)] []) → mV E M 0 0 2 [(0, .ref a0), (1, .int x1), (2, .int x2)] [] := by
  intro n_
  induction n_ with
  | zero =>
    intro M x2 k_a0 h hX29
    exact absurd h (by rw [wl_X7_laysComes_2]; exact fun q => q)
  | succ n_ ih =>
    intro M x2 k_a0 h hX29
    rw [wl_X7_laysComes_2] at h
    refine r_iload_n C dX7_laysComes_2 (pc' := 3) rfl (j := 2) rfl ?_
    refine r_bipush C dX7_laysComes_3 (pc' := 5) rfl (v := 13) rfl ?_
    refine r_icmp_ge C dX7_laysComes_5 (pc' := 8) rfl (tgt := 29) (by decide) (fun c_1 => ?_) (fun c_1 => ?_)
    · have h := it_t h c_1
      refine r_sub (lv' := [(0, .ref a0), (1, .int x1)]) [0, 1] rfl ?_
      exact hX29 M mMo.rf h
    · have h := it_f h c_1
      refine r_aload_n C dX7_laysComes_8 (pc' := 9) rfl (j := 0) rfl ?_
      refine r_getf C (Cn := RX7) (T := TX7) 45 k_a0 (by decide) vc_X7 in_X7 (by decide) q1269 dX7_laysComes_9 (pc' := 12) rfl (v := va_rf (mgR M a0 45)) rfl ?_
      obtain ⟨b_2, e_3, k_4, h⟩ := h
      refine r_ref [] e_3 ?_
      refine r_iload_n C dX7_laysComes_12 (pc' := 13) rfl (j := 2) rfl ?_
      refine r_iload_n C dX7_laysComes_13 (pc' := 14) rfl (j := 2) rfl ?_
      refine r_if_ne C dX7_laysComes_14 (pc' := 17) rfl (tgt := 21) (by decide) (fun c_5 => ?_) (fun c_5 => ?_)
      · have h := it_f h c_5
        refine r_lconst C dX7_laysComes_21 (pc' := 22) rfl (v := 0) rfl ?_
        refine r_sub (lv' := [(0, .ref a0), (1, .int x1), (2, .int x2)]) [0, 1, 2] rfl ?_
        exact B_X7_laysComes_22 C hE k_a0 k_4 h (fun M8 v0 hm8 g0 h8 => ih M8 v0 g0 h8 (fun M9 hm9 h9 => hX29 M9 (mMo.tr hm8 hm9) h9)) (fun M9 hm9 h9 => hX29 M9 hm9 h9)
      · have h := it_t h c_5
        refine r_lconst C dX7_laysComes_17 (pc' := 18) rfl (v := 1) rfl ?_
        refine r_goto C dX7_laysComes_18 (tgt := 22) (by decide) ?_
        refine r_sub (lv' := [(0, .ref a0), (1, .int x1), (2, .int x2)]) [0, 1, 2] rfl ?_
        exact B_X7_laysComes_22 C hE k_a0 k_4 h (fun M8 v0 hm8 g0 h8 => ih M8 v0 g0 h8 (fun M9 hm9 h9 => hX29 M9 (mMo.tr hm8 hm9) h9)) (fun M9 hm9 h9 => hX29 M9 hm9 h9)
set_option maxHeartbeats 4000000 in
theorem B_X7_laysComes_90 {E : mE} {M : MM} {a0 : Nat} {x1 : Int32} {x2 : Int32} {x3 : Int32} {as0 : Nat} {xs1 : Int32} {xs2 : Int64} {xs3 : Int64} {R : MM → Int32 → Prop} {X98 : MM → Prop} {Post : MM → Prop} (C : mC E yX7_laysComes cX7_laysComes 4 (none) { frames := 0, cells := 0, slots := 0, locals := 0 }) (hE : mEnd E { frames := 0, cells := 0, slots := 0, locals := 0 } (pV_ Post)) (k_a0 : mkd M a0 = 7) (k_as0 : mkd M as0 = 101) (h : wb_X7_laysComes_90 M a0 x1 x2 x3 as0 xs1 xs2 xs3 R X98) (hR : ∀ (M' : MM) (x3' : Int32), mMo M M' → mkd M' a0 = 7 → R M' x3' → mV E M' 0 0 40 [(0, .ref a0), (1, .int x1), (2, .int x2), (3, .int x3')] []) (hX98 : ∀ (M' : MM), mMo M M' → X98 M' → mV E M' 0 0 98 [(0, .ref a0), (1, .int x1), (2, .int x2)] []) : mV E M 0 0 90 [(0, .ref a0), (1, .int x1), (2, .int x2), (3, .int x3)] [.long xs3, .long xs2, .int xs1, .ref as0] := by
  unfold wb_X7_laysComes_90 at h
  refine r_ladd C dX7_laysComes_90 (pc' := 91) rfl ?_
  obtain ⟨c_30, h⟩ := h
  obtain ⟨M_31, e_32, h⟩ := bn_ h
  refine r_last C (j := (ix_ xs1)) k_as0 c_30 rfl dX7_laysComes_91 (pc' := 92) rfl M_31 e_32 ?_
  obtain ⟨x3_33, e_34, h⟩ := bn_ h
  refine r_iinc C (lv' := [(3, .int x3_33), (0, .ref a0), (1, .int x1), (2, .int x2)]) dX7_laysComes_92 (pc' := 95) rfl (j := 3) rfl x3_33 (by rw [e_34]; rfl) (Nat.le_of_ble_eq_true rfl) rfl ?_
  refine r_goto C dX7_laysComes_95 (tgt := 40) (by decide) ?_
  refine r_sub (lv' := [(0, .ref a0), (1, .int x1), (2, .int x2), (3, .int x3_33)]) [1, 2, 3, 0] rfl ?_
  exact hR M_31 x3_33 (mo_L e_32) (mMo.kd (mo_L e_32) k_a0 (by decide)) h
set_option maxHeartbeats 4000000 in
theorem B_X7_laysComes_40 {E : mE} {a0 : Nat} {x1 : Int32} {x2 : Int32} {X98 : MM → Prop} {Post : MM → Prop} (C : mC E yX7_laysComes cX7_laysComes 4 (none) { frames := 0, cells := 0, slots := 0, locals := 0 }) (hE : mEnd E { frames := 0, cells := 0, slots := 0, locals := 0 } (pV_ Post)) : ∀ (n_ : Nat) (M : MM) (x3 : Int32), mkd M a0 = 7 → wl_X7_laysComes_40 a0 x1 x2 X98 n_ M x3 → (∀ (M' : MM), mMo M M' → X98 M' → mV E M' 0 0 98 [(0, .ref a0), (1, .int x1), (2, .int x2)] []) → mV E M 0 0 40 [(0, .ref a0), (1, .int x1), (2, .int x2), (3, .int x3)] [] := by
  intro n_
  induction n_ with
  | zero =>
    intro M x3 k_a0 h hX98
    exact absurd h (by rw [wl_X7_laysComes_40]; exact fun q => q)
  | succ n_ ih =>
    intro M x3 k_a0 h hX98
    rw [wl_X7_laysComes_40] at h
    refine r_iload_n C dX7_laysComes_40 (pc' := 41) rfl (j := 3) rfl ?_
    refine r_if_lt C dX7_laysComes_41 (pc' := 44) rfl (tgt := 98) (by decide) (fun c_17 => ?_) (fun c_17 => ?_)
    · have h := it_t h c_17
      refine r_sub (lv' := [(0, .ref a0), (1, .int x1), (2, .int x2)]) [0, 1, 2] rfl ?_
      exact hX98 M mMo.rf h
    · have h := it_f h c_17
      refine r_aload_n C dX7_laysComes_44 (pc' := 45) rfl (j := 0) rfl ?_
      refine r_getf C (Cn := RX7) (T := TX7) 45 k_a0 (by decide) vc_X7 in_X7 (by decide) q1269 dX7_laysComes_45 (pc' := 48) rfl (v := va_rf (mgR M a0 45)) rfl ?_
      obtain ⟨b_18, e_19, k_20, h⟩ := h
      refine r_ref [] e_19 ?_
      refine r_iload_n C dX7_laysComes_48 (pc' := 49) rfl (j := 3) rfl ?_
      refine r_aload_n C dX7_laysComes_49 (pc' := 50) rfl (j := 0) rfl ?_
      refine r_getf C (Cn := RX7) (T := TX7) 45 k_a0 (by decide) vc_X7 in_X7 (by decide) q1269 dX7_laysComes_50 (pc' := 53) rfl (v := va_rf (mgR M a0 45)) rfl ?_
      obtain ⟨b_21, e_22, k_23, h⟩ := h
      refine r_ref [] e_22 ?_
      refine r_iload_n C dX7_laysComes_53 (pc' := 54) rfl (j := 3) rfl ?_
      obtain ⟨c_24, h⟩ := h
      refine r_lald C (j := (ix_ x3)) k_23 c_24 rfl dX7_laysComes_54 (pc' := 55) rfl ?_
      refine r_bipush C dX7_laysComes_55 (pc' := 57) rfl (v := 10) rfl ?_
      refine r_aload_n C dX7_laysComes_57 (pc' := 58) rfl (j := 0) rfl ?_
      refine r_getf C (Cn := RX7) (T := TX7) 3 k_a0 (by decide) vc_X7 in_X7 (by decide) q1227 dX7_laysComes_58 (pc' := 61) rfl (v := va_rf (mgR M a0 3)) rfl ?_
      obtain ⟨b_25, e_26, k_27, h⟩ := h
      refine r_ref [] e_26 ?_
      refine r_iload_n C dX7_laysComes_61 (pc' := 62) rfl (j := 2) rfl ?_
      obtain ⟨c_28, h⟩ := h
      refine r_bald C (j := (ix_ x2)) k_27 c_28 rfl dX7_laysComes_62 (pc' := 63) rfl ?_
      refine r_isub C dX7_laysComes_63 (pc' := 64) rfl ?_
      refine r_i2l C dX7_laysComes_64 (pc' := 65) rfl ?_
      refine r_lmul C dX7_laysComes_65 (pc' := 66) rfl ?_
      refine r_iload_n C dX7_laysComes_66 (pc' := 67) rfl (j := 3) rfl ?_
      refine r_if_le C dX7_laysComes_67 (pc' := 70) rfl (tgt := 89) (by decide) (fun c_29 => ?_) (fun c_29 => ?_)
      · have h := it_t h c_29
        refine r_lconst C dX7_laysComes_89 (pc' := 90) rfl (v := 0) rfl ?_
        refine r_sub (lv' := [(0, .ref a0), (1, .int x1), (2, .int x2), (3, .int x3)]) [0, 1, 2, 3] rfl ?_
        exact B_X7_laysComes_90 C hE k_a0 k_20 h (fun M8 v0 hm8 g0 h8 => ih M8 v0 g0 h8 (fun M9 hm9 h9 => hX98 M9 (mMo.tr hm8 hm9) h9)) (fun M9 hm9 h9 => hX98 M9 hm9 h9)
      · have h := it_f h c_29
        refine r_aload_n C dX7_laysComes_70 (pc' := 71) rfl (j := 0) rfl ?_
        refine r_getf C (Cn := RX7) (T := TX7) 45 k_a0 (by decide) vc_X7 in_X7 (by decide) q1269 dX7_laysComes_71 (pc' := 74) rfl (v := va_rf (mgR M a0 45)) rfl ?_
        obtain ⟨b_35, e_36, k_37, h⟩ := h
        refine r_ref [] e_36 ?_
        refine r_iload_n C dX7_laysComes_74 (pc' := 75) rfl (j := 3) rfl ?_
        refine r_iconst C dX7_laysComes_75 (pc' := 76) rfl (v := 1) rfl ?_
        refine r_isub C dX7_laysComes_76 (pc' := 77) rfl ?_
        obtain ⟨c_38, h⟩ := h
        refine r_lald C (j := (ix_ (x3 - (1 : Int32)))) k_37 c_38 rfl dX7_laysComes_77 (pc' := 78) rfl ?_
        refine r_aload_n C dX7_laysComes_78 (pc' := 79) rfl (j := 0) rfl ?_
        refine r_getf C (Cn := RX7) (T := TX7) 3 k_a0 (by decide) vc_X7 in_X7 (by decide) q1227 dX7_laysComes_79 (pc' := 82) rfl (v := va_rf (mgR M a0 3)) rfl ?_
        obtain ⟨b_39, e_40, k_41, h⟩ := h
        refine r_ref [] e_40 ?_
        refine r_iload_n C dX7_laysComes_82 (pc' := 83) rfl (j := 2) rfl ?_
        obtain ⟨c_42, h⟩ := h
        refine r_bald C (j := (ix_ x2)) k_41 c_42 rfl dX7_laysComes_83 (pc' := 84) rfl ?_
        refine r_i2l C dX7_laysComes_84 (pc' := 85) rfl ?_
        refine r_lmul C dX7_laysComes_85 (pc' := 86) rfl ?_
        refine r_goto C dX7_laysComes_86 (tgt := 90) (by decide) ?_
        refine r_sub (lv' := [(0, .ref a0), (1, .int x1), (2, .int x2), (3, .int x3)]) [0, 1, 2, 3] rfl ?_
        exact B_X7_laysComes_90 C hE k_a0 k_20 h (fun M8 v0 hm8 g0 h8 => ih M8 v0 g0 h8 (fun M9 hm9 h9 => hX98 M9 (mMo.tr hm8 hm9) h9)) (fun M9 hm9 h9 => hX98 M9 hm9 h9)
set_option maxHeartbeats 4000000 in
theorem B_X7_laysComes_31 {E : mE} {a0 : Nat} {x1 : Int32} {X104 : MM → Prop} {Post : MM → Prop} (C : mC E yX7_laysComes cX7_laysComes 4 (none) { frames := 0, cells := 0, slots := 0, locals := 0 }) (hE : mEnd E { frames := 0, cells := 0, slots := 0, locals := 0 } (pV_ Post)) : ∀ (n_ : Nat) (M : MM) (x2 : Int32), mkd M a0 = 7 → wl_X7_laysComes_31 a0 x1 X104 n_ M x2 → (∀ (M' : MM), mMo M M' → X104 M' → mV E M' 0 0 104 [] []) → mV E M 0 0 31 [(0, .ref a0), (1, .int x1), (2, .int x2)] [] := by
  intro n_
  induction n_ with
  | zero =>
    intro M x2 k_a0 h hX104
    exact absurd h (by rw [wl_X7_laysComes_31]; exact fun q => q)
  | succ n_ ih =>
    intro M x2 k_a0 h hX104
    rw [wl_X7_laysComes_31] at h
    refine r_iload_n C dX7_laysComes_31 (pc' := 32) rfl (j := 2) rfl ?_
    refine r_iload_n C dX7_laysComes_32 (pc' := 33) rfl (j := 1) rfl ?_
    refine r_icmp_ge C dX7_laysComes_33 (pc' := 36) rfl (tgt := 104) (by decide) (fun c_14 => ?_) (fun c_14 => ?_)
    · have h := it_t h c_14
      refine r_sub (lv' := []) [] rfl ?_
      exact hX104 M mMo.rf h
    · have h := it_f h c_14
      refine r_iload_n C dX7_laysComes_36 (pc' := 37) rfl (j := 2) rfl ?_
      refine r_iconst C dX7_laysComes_37 (pc' := 38) rfl (v := 1) rfl ?_
      refine r_iadd C dX7_laysComes_38 (pc' := 39) rfl ?_
      obtain ⟨x3_15, e_16, h⟩ := bn_ h
      refine r_istore_n C (lv' := [(3, .int x3_15), (0, .ref a0), (1, .int x1), (2, .int x2)]) dX7_laysComes_39 (pc' := 40) rfl rfl x3_15 e_16 (Nat.le_of_ble_eq_true rfl) rfl ?_
      obtain ⟨n_43, h⟩ := h
      refine r_sub (lv' := [(0, .ref a0), (1, .int x1), (2, .int x2), (3, .int x3_15)]) [1, 2, 3, 0] rfl ?_
      refine B_X7_laysComes_40 C hE n_43 M x3_15 k_a0 h (fun M_44 m_45 h => ?_)
      obtain ⟨x2_46, e_47, h⟩ := bn_ h
      refine r_iinc C (lv' := [(2, .int x2_46), (0, .ref a0), (1, .int x1)]) dX7_laysComes_98 (pc' := 101) rfl (j := 2) rfl x2_46 (by rw [e_47]; rfl) (Nat.le_of_ble_eq_true rfl) rfl ?_
      refine r_goto C dX7_laysComes_101 (tgt := 31) (by decide) ?_
      refine r_sub (lv' := [(0, .ref a0), (1, .int x1), (2, .int x2_46)]) [1, 2, 0] rfl ?_
      exact ih M_44 x2_46 (mMo.kd m_45 k_a0 (by decide)) h (fun M9 hm9 h9 => hX104 M9 (mMo.tr m_45 hm9) h9)
set_option maxHeartbeats 4000000 in
theorem S_X7_laysComes {D : DD} {l : Launch} {M : MM} {a0 : Nat} {x1 : Int32} {Post : MM → Prop} (k_a0 : mkd M a0 = 7) (h : wp_X7_laysComes M a0 x1 Post) : mMet D l yX7_laysComes cX7_laysComes 4 (none) { frames := 0, cells := 0, slots := 0, locals := 0 } M [.ref a0, .int x1] (pV_ Post) := by
  refine m_of2 [(0, .ref a0), (1, .int x1)] (by decide +kernel) (Nat.le_of_ble_eq_true rfl) rfl (fun E hED hEl C hE => ?_)
  subst hED
  subst hEl
  unfold wp_X7_laysComes at h
  refine r_iconst C dX7_laysComes_0 (pc' := 1) rfl (v := 0) rfl ?_
  refine r_istore_n C (lv' := [(2, .int (0 : Int32)), (0, .ref a0), (1, .int x1)]) dX7_laysComes_1 (pc' := 2) rfl rfl (0 : Int32) rfl (Nat.le_of_ble_eq_true rfl) rfl ?_
  obtain ⟨n_11, h⟩ := h
  refine r_sub (lv' := [(0, .ref a0), (1, .int x1), (2, .int (0 : Int32))]) [1, 2, 0] rfl ?_
  refine B_X7_laysComes_2 C hE n_11 M (0 : Int32) k_a0 h (fun M_12 m_13 h => ?_)
  refine r_iconst C dX7_laysComes_29 (pc' := 30) rfl (v := 0) rfl ?_
  refine r_istore_n C (lv' := [(2, .int (0 : Int32)), (0, .ref a0), (1, .int x1)]) dX7_laysComes_30 (pc' := 31) rfl rfl (0 : Int32) rfl (Nat.le_of_ble_eq_true rfl) rfl ?_
  obtain ⟨n_48, h⟩ := h
  refine r_sub (lv' := [(0, .ref a0), (1, .int x1), (2, .int (0 : Int32))]) [1, 2, 0] rfl ?_
  refine B_X7_laysComes_31 C hE n_48 M_12 (0 : Int32) (mMo.kd m_13 k_a0 (by decide)) h (fun M_49 m_50 h => ?_)
  exact r_vret C hE (Nat.le_of_ble_eq_true rfl) (Nat.le_of_ble_eq_true rfl) dX7_laysComes_104 ⟨rfl, h⟩
set_option maxHeartbeats 4000000 in
theorem B_X7_gcd_6 {E : mE} {X31 : MM → Int64 → Prop} {Post : Int64 → MM → Prop} (C : mC E yX7_gcd cX7_gcd 10 ((some .long)) { frames := 0, cells := 0, slots := 0, locals := 0 }) (hE : mEnd E { frames := 0, cells := 0, slots := 0, locals := 0 } (pL_ Post)) : ∀ (n_ : Nat) (M : MM) (x4 : Int64) (x6 : Int64), wl_X7_gcd_6 X31 n_ M x4 x6 → (∀ (M' : MM) (x4' : Int64), mMo M M' → X31 M' x4' → mV E M' 0 0 31 [(4, .long x4')] []) → mV E M 0 0 6 [(4, .long x4), (6, .long x6)] [] := by
  intro n_
  induction n_ with
  | zero =>
    intro M x4 x6 h hX31
    exact absurd h (by rw [wl_X7_gcd_6]; exact fun q => q)
  | succ n_ ih =>
    intro M x4 x6 h hX31
    rw [wl_X7_gcd_6] at h
    refine r_lload C dX7_gcd_6 (pc' := 8) rfl (j := 1) rfl ?_
    refine r_lconst C dX7_gcd_8 (pc' := 9) rfl (v := 0) rfl ?_
    refine r_lc_eq C dX7_gcd_9 (pc1 := 10) (pc' := 13) rfl dX7_gcd_10 rfl (tgt := 31) (by decide) (fun c_1 => ?_) (fun c_1 => ?_)
    · have h := it_t h c_1
      refine r_sub (lv' := [(4, .long x4)]) [0] rfl ?_
      exact hX31 M x4 mMo.rf h
    · have h := it_f h c_1
      refine r_lload C dX7_gcd_13 (pc' := 15) rfl (j := 0) rfl ?_
      refine r_lload C dX7_gcd_15 (pc' := 17) rfl (j := 1) rfl ?_
      obtain ⟨c_2, h⟩ := h
      refine r_lrem C dX7_gcd_17 (pc' := 18) rfl c_2 ?_
      obtain ⟨x8_3, e_4, h⟩ := bn_ h
      refine r_lstore C (lv' := [(8, .long x8_3), (4, .long x4), (6, .long x6)]) dX7_gcd_18 (pc' := 20) rfl x8_3 e_4 (Nat.le_of_ble_eq_true rfl) rfl ?_
      refine r_lload C dX7_gcd_20 (pc' := 22) rfl (j := 2) rfl ?_
      refine r_lstore C (lv' := [(4, .long x6), (8, .long x8_3), (6, .long x6)]) dX7_gcd_22 (pc' := 24) rfl x6 rfl (Nat.le_of_ble_eq_true rfl) rfl ?_
      refine r_lload C dX7_gcd_24 (pc' := 26) rfl (j := 1) rfl ?_
      refine r_lstore C (lv' := [(6, .long x8_3), (4, .long x6), (8, .long x8_3)]) dX7_gcd_26 (pc' := 28) rfl x8_3 rfl (Nat.le_of_ble_eq_true rfl) rfl ?_
      refine r_goto C dX7_gcd_28 (tgt := 6) (by decide) ?_
      refine r_sub (lv' := [(4, .long x6), (6, .long x8_3)]) [1, 0] rfl ?_
      exact ih M x6 x8_3 h (fun M9 w0 hm9 h9 => hX31 M9 w0 hm9 h9)
set_option maxHeartbeats 4000000 in
theorem S_X7_gcd {D : DD} {l : Launch} {M : MM} {x0 : Int64} {x2 : Int64} {Post : Int64 → MM → Prop} (h : wp_X7_gcd M x0 x2 Post) : mMet D l yX7_gcd cX7_gcd 10 ((some .long)) { frames := 0, cells := 0, slots := 0, locals := 0 } M [.long x0, .long x2] (pL_ Post) := by
  refine m_of2 [(0, .long x0), (2, .long x2)] (by decide +kernel) (Nat.le_of_ble_eq_true rfl) rfl (fun E hED hEl C hE => ?_)
  subst hED
  subst hEl
  unfold wp_X7_gcd at h
  refine r_lload_n C dX7_gcd_0 (pc' := 1) rfl (j := 0) rfl ?_
  refine r_lstore C (lv' := [(4, .long x0), (0, .long x0), (2, .long x2)]) dX7_gcd_1 (pc' := 3) rfl x0 rfl (Nat.le_of_ble_eq_true rfl) rfl ?_
  refine r_lload_n C dX7_gcd_3 (pc' := 4) rfl (j := 2) rfl ?_
  refine r_lstore C (lv' := [(6, .long x2), (4, .long x0), (0, .long x0), (2, .long x2)]) dX7_gcd_4 (pc' := 6) rfl x2 rfl (Nat.le_of_ble_eq_true rfl) rfl ?_
  obtain ⟨n_5, h⟩ := h
  refine r_sub (lv' := [(4, .long x0), (6, .long x2)]) [1, 0] rfl ?_
  refine B_X7_gcd_6 C hE n_5 M x0 x2 h (fun M_6 x4_8 m_7 h => ?_)
  refine r_lload C dX7_gcd_31 (pc' := 33) rfl (j := 0) rfl ?_
  exact r_lret C hE (Nat.le_of_ble_eq_true rfl) (Nat.le_of_ble_eq_true rfl) dX7_gcd_33 ⟨_, rfl, h⟩
set_option maxHeartbeats 4000000 in
theorem S_X7_through {D : DD} {l : Launch} {M : MM} {x0 : Int64} {x2 : Int64} {x4 : Int32} {Post : Int64 → MM → Prop} (h : wp_X7_through M x0 x2 x4 Post) : mMet D l yX7_through cX7_through 7 ((some .long)) { frames := 1, cells := 0, slots := 0, locals := 29 } M [.long x0, .long x2, .int x4] (pL_ Post) := by
  refine m_of2 [(0, .long x0), (2, .long x2), (4, .int x4)] (by decide +kernel) (Nat.le_of_ble_eq_true rfl) rfl (fun E hED hEl C hE => ?_)
  subst hED
  subst hEl
  unfold wp_X7_through at h
  refine r_lload_n C dX7_through_0 (pc' := 1) rfl (j := 0) rfl ?_
  refine r_lload_n C dX7_through_1 (pc' := 2) rfl (j := 1) rfl ?_
  refine r_callSl (As := [.long x0, .long x2]) (rest := []) C (S_X7_gcd h) (lw_S q1725 q1726 q112 q1727) hd_X7_gcd rfl rfl (Nat.le_of_ble_eq_true rfl) (Nat.le_of_ble_eq_true rfl) (Nat.le_of_ble_eq_true rfl) rfl rfl (Nat.le_of_ble_eq_true rfl) (Nat.le_of_ble_eq_true rfl) dX7_through_2 (pc' := 5) rfl (fun r_2 M_1 h m_3 => ?_)
  refine r_lstore C (lv' := [(5, .long r_2), (0, .long x0), (2, .long x2), (4, .int x4)]) dX7_through_5 (pc' := 7) rfl r_2 rfl (Nat.le_of_ble_eq_true rfl) rfl ?_
  refine r_iload C dX7_through_7 (pc' := 9) rfl (j := 3) rfl ?_
  refine r_if_ne C dX7_through_9 (pc' := 12) rfl (tgt := 19) (by decide) (fun c_4 => ?_) (fun c_4 => ?_)
  · have h := it_f h c_4
    refine r_lload_n C dX7_through_19 (pc' := 20) rfl (j := 2) rfl ?_
    refine r_lload C dX7_through_20 (pc' := 22) rfl (j := 0) rfl ?_
    obtain ⟨c_5, h⟩ := h
    refine r_ldiv C dX7_through_22 (pc' := 23) rfl c_5 ?_
    exact r_lret C hE (Nat.le_of_ble_eq_true rfl) (Nat.le_of_ble_eq_true rfl) dX7_through_23 ⟨_, rfl, h⟩
  · have h := it_t h c_4
    refine r_lload_n C dX7_through_12 (pc' := 13) rfl (j := 1) rfl ?_
    refine r_lload C dX7_through_13 (pc' := 15) rfl (j := 0) rfl ?_
    obtain ⟨c_6, h⟩ := h
    refine r_ldiv C dX7_through_15 (pc' := 16) rfl c_6 ?_
    refine r_goto C dX7_through_16 (tgt := 23) (by decide) ?_
    exact r_lret C hE (Nat.le_of_ble_eq_true rfl) (Nat.le_of_ble_eq_true rfl) dX7_through_23 ⟨_, rfl, h⟩
set_option maxHeartbeats 4000000 in
theorem S_X7_comes {D : DD} {l : Launch} {M : MM} {a0 : Nat} {x1 : Int32} {x2 : Int32} {x3 : Int32} {Post : Int64 → MM → Prop} (k_a0 : mkd M a0 = 7) (h : wp_X7_comes M a0 x1 x2 x3 Post) : mMet D l yX7_comes cX7_comes 4 ((some .long)) { frames := 2, cells := 0, slots := 0, locals := 55 } M [.ref a0, .int x1, .int x2, .int x3] (pL_ Post) := by
  refine m_of2 [(0, .ref a0), (1, .int x1), (2, .int x2), (3, .int x3)] (by decide +kernel) (Nat.le_of_ble_eq_true rfl) rfl (fun E hED hEl C hE => ?_)
  subst hED
  subst hEl
  unfold wp_X7_comes at h
  refine r_iload_n C dX7_comes_0 (pc' := 1) rfl (j := 1) rfl ?_
  refine r_iconst C dX7_comes_1 (pc' := 2) rfl (v := 1) rfl ?_
  refine r_bipush C dX7_comes_2 (pc' := 4) rfl (v := 12) rfl ?_
  refine r_callSi (As := [.int x1, .int (1 : Int32), .int (12 : Int32)]) (rest := []) C (S_X7_in h) (lw_S q1391 q1392 q112 q1393) hd_X7_in rfl rfl (Nat.le_of_ble_eq_true rfl) (Nat.le_of_ble_eq_true rfl) (Nat.le_of_ble_eq_true rfl) rfl rfl (Nat.le_of_ble_eq_true rfl) (Nat.le_of_ble_eq_true rfl) dX7_comes_4 (pc' := 7) rfl (fun r_2 M_1 h m_3 => ?_)
  refine r_if_eq C dX7_comes_7 (pc' := 10) rfl (tgt := 37) (by decide) (fun c_4 => ?_) (fun c_4 => ?_)
  · have h := it_t h c_4
    refine r_ldc2 C dX7_comes_37 (pc' := 40) rfl q1607 ?_
    exact r_lret C hE (Nat.le_of_ble_eq_true rfl) (Nat.le_of_ble_eq_true rfl) dX7_comes_40 ⟨_, rfl, h⟩
  · have h := it_f h c_4
    refine r_iload_n C dX7_comes_10 (pc' := 11) rfl (j := 2) rfl ?_
    refine r_iconst C dX7_comes_11 (pc' := 12) rfl (v := 0) rfl ?_
    refine r_bipush C dX7_comes_12 (pc' := 14) rfl (v := 12) rfl ?_
    refine r_callSi (As := [.int x2, .int (0 : Int32), .int (12 : Int32)]) (rest := []) C (S_X7_in h) (lw_S q1391 q1392 q112 q1393) hd_X7_in rfl rfl (Nat.le_of_ble_eq_true rfl) (Nat.le_of_ble_eq_true rfl) (Nat.le_of_ble_eq_true rfl) rfl rfl (Nat.le_of_ble_eq_true rfl) (Nat.le_of_ble_eq_true rfl) dX7_comes_14 (pc' := 17) rfl (fun r_6 M_5 h m_7 => ?_)
    refine r_if_eq C dX7_comes_17 (pc' := 20) rfl (tgt := 37) (by decide) (fun c_8 => ?_) (fun c_8 => ?_)
    · have h := it_t h c_8
      refine r_ldc2 C dX7_comes_37 (pc' := 40) rfl q1607 ?_
      exact r_lret C hE (Nat.le_of_ble_eq_true rfl) (Nat.le_of_ble_eq_true rfl) dX7_comes_40 ⟨_, rfl, h⟩
    · have h := it_f h c_8
      refine r_iload_n C dX7_comes_20 (pc' := 21) rfl (j := 3) rfl ?_
      refine r_iconst C dX7_comes_21 (pc' := 22) rfl (v := 0) rfl ?_
      refine r_iconst C dX7_comes_22 (pc' := 23) rfl (v := 1) rfl ?_
      refine r_callSi (As := [.int x3, .int (0 : Int32), .int (1 : Int32)]) (rest := []) C (S_X7_in h) (lw_S q1391 q1392 q112 q1393) hd_X7_in rfl rfl (Nat.le_of_ble_eq_true rfl) (Nat.le_of_ble_eq_true rfl) (Nat.le_of_ble_eq_true rfl) rfl rfl (Nat.le_of_ble_eq_true rfl) (Nat.le_of_ble_eq_true rfl) dX7_comes_23 (pc' := 26) rfl (fun r_10 M_9 h m_11 => ?_)
      refine r_if_eq C dX7_comes_26 (pc' := 29) rfl (tgt := 37) (by decide) (fun c_12 => ?_) (fun c_12 => ?_)
      · have h := it_t h c_12
        refine r_ldc2 C dX7_comes_37 (pc' := 40) rfl q1607 ?_
        exact r_lret C hE (Nat.le_of_ble_eq_true rfl) (Nat.le_of_ble_eq_true rfl) dX7_comes_40 ⟨_, rfl, h⟩
      · have h := it_f h c_12
        refine r_iload_n C dX7_comes_29 (pc' := 30) rfl (j := 1) rfl ?_
        refine r_aload_n C dX7_comes_30 (pc' := 31) rfl (j := 0) rfl ?_
        refine r_getf C (Cn := RX7) (T := TX7) 4 (mMo.kd m_11 (mMo.kd m_7 (mMo.kd m_3 k_a0 (by decide)) (by decide)) (by decide)) (by decide) vc_X7 in_X7 (by decide) q1228 dX7_comes_31 (pc' := 34) rfl (v := .int (mgI M_9 a0 4)) rfl ?_
        refine r_icmp_le C dX7_comes_34 (pc' := 37) rfl (tgt := 41) (by decide) (fun c_13 => ?_) (fun c_13 => ?_)
        · have h := it_t h c_13
          refine r_aload_n C dX7_comes_41 (pc' := 42) rfl (j := 0) rfl ?_
          refine r_iconst C dX7_comes_42 (pc' := 43) rfl (v := 0) rfl ?_
          obtain ⟨M_14, e_15, h⟩ := bn_ h
          refine r_putI C (Cn := RX7) (T := TX7) tyX7 4 (mMo.kd m_11 (mMo.kd m_7 (mMo.kd m_3 k_a0 (by decide)) (by decide)) (by decide)) (by decide) vc_X7 in_X7 tyX7_ok nmX7 (by decide) q1228 rfl rfl dX7_comes_43 (pc' := 46) rfl rfl rfl M_14 e_15 ?_
          refine r_aload_n C dX7_comes_46 (pc' := 47) rfl (j := 0) rfl ?_
          refine r_iload_n C dX7_comes_47 (pc' := 48) rfl (j := 1) rfl ?_
          refine r_callVi (As := [.int x1]) (rest := []) (Cn := RX7) (T := TX7) C (mMo.kd (mo_I e_15) (mMo.kd m_11 (mMo.kd m_7 (mMo.kd m_3 k_a0 (by decide)) (by decide)) (by decide)) (by decide)) (by decide) vc_X7 (S_X7_areTenths (mMo.kd (mo_I e_15) (mMo.kd m_11 (mMo.kd m_7 (mMo.kd m_3 k_a0 (by decide)) (by decide)) (by decide)) (by decide)) h) (lw_V q1713 q1715 qs96 q112 q1716) rfl hd_X7_areTenths rfl rfl (Nat.le_of_ble_eq_true rfl) (Nat.le_of_ble_eq_true rfl) (Nat.le_of_ble_eq_true rfl) rfl rfl (Nat.le_of_ble_eq_true rfl) (Nat.le_of_ble_eq_true rfl) dX7_comes_48 (pc' := 51) rfl (fun r_17 M_16 h m_18 => ?_)
          refine r_if_ne C dX7_comes_51 (pc' := 54) rfl (tgt := 58) (by decide) (fun c_19 => ?_) (fun c_19 => ?_)
          · have h := it_f h c_19
            refine r_aload_n C dX7_comes_58 (pc' := 59) rfl (j := 0) rfl ?_
            refine r_iload_n C dX7_comes_59 (pc' := 60) rfl (j := 1) rfl ?_
            refine r_callVv (As := [.int x1]) (rest := []) (Cn := RX7) (T := TX7) C (mMo.kd m_18 (mMo.kd (mo_I e_15) (mMo.kd m_11 (mMo.kd m_7 (mMo.kd m_3 k_a0 (by decide)) (by decide)) (by decide)) (by decide)) (by decide)) (by decide) vc_X7 (S_X7_laysComes (mMo.kd m_18 (mMo.kd (mo_I e_15) (mMo.kd m_11 (mMo.kd m_7 (mMo.kd m_3 k_a0 (by decide)) (by decide)) (by decide)) (by decide)) (by decide)) h) (lw_V q1718 q1720 qs97 q112 q1721) rfl hd_X7_laysComes rfl rfl (Nat.le_of_ble_eq_true rfl) (Nat.le_of_ble_eq_true rfl) (Nat.le_of_ble_eq_true rfl) rfl rfl (Nat.le_of_ble_eq_true rfl) (Nat.le_of_ble_eq_true rfl) dX7_comes_60 (pc' := 63) rfl (fun M_20 h m_22 => ?_)
            refine r_aload_n C dX7_comes_63 (pc' := 64) rfl (j := 0) rfl ?_
            refine r_getf C (Cn := RX7) (T := TX7) 45 (mMo.kd m_22 (mMo.kd m_18 (mMo.kd (mo_I e_15) (mMo.kd m_11 (mMo.kd m_7 (mMo.kd m_3 k_a0 (by decide)) (by decide)) (by decide)) (by decide)) (by decide)) (by decide)) (by decide) vc_X7 in_X7 (by decide) q1269 dX7_comes_64 (pc' := 67) rfl (v := va_rf (mgR M_20 a0 45)) rfl ?_
            obtain ⟨b_23, e_24, k_25, h⟩ := h
            refine r_ref [] e_24 ?_
            refine r_iload_n C dX7_comes_67 (pc' := 68) rfl (j := 2) rfl ?_
            obtain ⟨c_26, h⟩ := h
            refine r_lald C (j := (ix_ x2)) k_25 c_26 rfl dX7_comes_68 (pc' := 69) rfl ?_
            refine r_iload_n C dX7_comes_69 (pc' := 70) rfl (j := 1) rfl ?_
            refine r_callSl (As := [.int x1]) (rest := [.long (mgL M_20 b_23 (ix_ x2))]) C (S_X7_tens h) (lw_S q1615 q1616 q112 q1617) hd_X7_tens rfl rfl (Nat.le_of_ble_eq_true rfl) (Nat.le_of_ble_eq_true rfl) (Nat.le_of_ble_eq_true rfl) rfl rfl (Nat.le_of_ble_eq_true rfl) (Nat.le_of_ble_eq_true rfl) dX7_comes_70 (pc' := 73) rfl (fun r_28 M_27 h m_29 => ?_)
            refine r_iload_n C dX7_comes_73 (pc' := 74) rfl (j := 3) rfl ?_
            refine r_callSl (As := [.long (mgL M_20 b_23 (ix_ x2)), .long r_28, .int x3]) (rest := []) C (S_X7_through h) (lw_S q1722 q1723 q112 q1724) hd_X7_through rfl rfl (Nat.le_of_ble_eq_true rfl) (Nat.le_of_ble_eq_true rfl) (Nat.le_of_ble_eq_true rfl) rfl rfl (Nat.le_of_ble_eq_true rfl) (Nat.le_of_ble_eq_true rfl) dX7_comes_74 (pc' := 77) rfl (fun r_31 M_30 h m_32 => ?_)
            exact r_lret C hE (Nat.le_of_ble_eq_true rfl) (Nat.le_of_ble_eq_true rfl) dX7_comes_77 ⟨_, rfl, h⟩
          · have h := it_t h c_19
            refine r_ldc2 C dX7_comes_54 (pc' := 57) rfl q1717 ?_
            exact r_lret C hE (Nat.le_of_ble_eq_true rfl) (Nat.le_of_ble_eq_true rfl) dX7_comes_57 ⟨_, rfl, h⟩
        · have h := it_f h c_13
          refine r_ldc2 C dX7_comes_37 (pc' := 40) rfl q1607 ?_
          exact r_lret C hE (Nat.le_of_ble_eq_true rfl) (Nat.le_of_ble_eq_true rfl) dX7_comes_40 ⟨_, rfl, h⟩
set_option maxHeartbeats 4000000 in
theorem B_X7_share_9 {E : mE} {a0 : Nat} {x1 : Int32} {x2 : Int32} {X94 : MM → Int32 → Int32 → Prop} {Post : Int32 → MM → Prop} (C : mC E yX7_share cX7_share 6 ((some .int)) { frames := 2, cells := 0, slots := 0, locals := 55 }) (hE : mEnd E { frames := 2, cells := 0, slots := 0, locals := 55 } (pI_ Post)) : ∀ (n_ : Nat) (M : MM) (x3 : Int32) (x4 : Int32) (x5 : Int32), mkd M a0 = 7 → wl_X7_share_9 a0 x1 x2 X94 n_ M x3 x4 x5 → (∀ (M' : MM) (x3' : Int32) (x4' : Int32), mMo M M' → X94 M' x3' x4' → mV E M' 0 0 94 [(0, .ref a0), (1, .int x1), (2, .int x2), (3, .int x3'), (4, .int x4')] []) → mV E M 0 0 9 [(0, .ref a0), (1, .int x1), (2, .int x2), (3, .int x3), (4, .int x4), (5, .int x5)] [] := by
  intro n_
  induction n_ with
  | zero =>
    intro M x3 x4 x5 k_a0 h hX94
    exact absurd h (by rw [wl_X7_share_9]; exact fun q => q)
  | succ n_ ih =>
    intro M x3 x4 x5 k_a0 h hX94
    rw [wl_X7_share_9] at h
    refine r_iload C dX7_share_9 (pc' := 11) rfl (j := 5) rfl ?_
    refine r_bipush C dX7_share_11 (pc' := 13) rfl (v := 8) rfl ?_
    refine r_icmp_ge C dX7_share_13 (pc' := 16) rfl (tgt := 94) (by decide) (fun c_1 => ?_) (fun c_1 => ?_)
    · have h := it_t h c_1
      refine r_sub (lv' := [(0, .ref a0), (1, .int x1), (2, .int x2), (3, .int x3), (4, .int x4)]) [0, 1, 2, 3, 4] rfl ?_
      exact hX94 M x3 x4 mMo.rf h
    · have h := it_f h c_1
      refine r_aload_n C dX7_share_16 (pc' := 17) rfl (j := 0) rfl ?_
      refine r_iload C dX7_share_17 (pc' := 19) rfl (j := 5) rfl ?_
      refine r_callVi (As := [.int x5]) (rest := []) (Cn := RX7) (T := TX7) C k_a0 (by decide) vc_X7 (S_X7_isPerson k_a0 h) (lw_V q1526 q1528 qs73 q112 q1529) rfl hd_X7_isPerson rfl rfl (Nat.le_of_ble_eq_true rfl) (Nat.le_of_ble_eq_true rfl) (Nat.le_of_ble_eq_true rfl) rfl rfl (Nat.le_of_ble_eq_true rfl) (Nat.le_of_ble_eq_true rfl) dX7_share_19 (pc' := 22) rfl (fun r_3 M_2 h m_4 => ?_)
      refine r_if_ne C dX7_share_22 (pc' := 25) rfl (tgt := 28) (by decide) (fun c_5 => ?_) (fun c_5 => ?_)
      · have h := it_f h c_5
        refine r_iload_n C dX7_share_28 (pc' := 29) rfl (j := 3) rfl ?_
        refine r_aload_n C dX7_share_29 (pc' := 30) rfl (j := 0) rfl ?_
        refine r_getf C (Cn := RX7) (T := TX7) 0 (mMo.kd m_4 k_a0 (by decide)) (by decide) vc_X7 in_X7 (by decide) q1224 dX7_share_30 (pc' := 33) rfl (v := va_rf (mgR M_2 a0 0)) rfl ?_
        obtain ⟨b_6, e_7, k_8, h⟩ := h
        refine r_ref [] e_7 ?_
        refine r_bipush C dX7_share_33 (pc' := 35) rfl (v := 68) rfl ?_
        refine r_iload C dX7_share_35 (pc' := 37) rfl (j := 5) rfl ?_
        refine r_iadd C dX7_share_37 (pc' := 38) rfl ?_
        obtain ⟨c_9, h⟩ := h
        refine r_iald C (j := (ix_ ((68 : Int32) + x5))) k_8 c_9 rfl dX7_share_38 (pc' := 39) rfl ?_
        refine r_iadd C dX7_share_39 (pc' := 40) rfl ?_
        obtain ⟨x3_10, e_11, h⟩ := bn_ h
        refine r_istore_n C (lv' := [(3, .int x3_10), (0, .ref a0), (1, .int x1), (2, .int x2), (4, .int x4), (5, .int x5)]) dX7_share_40 (pc' := 41) rfl rfl x3_10 e_11 (Nat.le_of_ble_eq_true rfl) rfl ?_
        refine r_aload_n C dX7_share_41 (pc' := 42) rfl (j := 1) rfl ?_
        refine r_getf C (Cn := RX7) (T := TX7) 0 (mMo.kd m_4 k_a0 (by decide)) (by decide) vc_X7 in_X7 (by decide) q1224 dX7_share_42 (pc' := 45) rfl (v := va_rf (mgR M_2 a0 0)) rfl ?_
        obtain ⟨b_12, e_13, k_14, h⟩ := h
        refine r_ref [] e_13 ?_
        refine r_bipush C dX7_share_45 (pc' := 47) rfl (v := 68) rfl ?_
        refine r_iload C dX7_share_47 (pc' := 49) rfl (j := 5) rfl ?_
        refine r_iadd C dX7_share_49 (pc' := 50) rfl ?_
        obtain ⟨c_15, h⟩ := h
        refine r_iald C (j := (ix_ ((68 : Int32) + x5))) k_14 c_15 rfl dX7_share_50 (pc' := 51) rfl ?_
        refine r_if_le C dX7_share_51 (pc' := 54) rfl (tgt := 88) (by decide) (fun c_16 => ?_) (fun c_16 => ?_)
        · have h := it_t h c_16
          obtain ⟨x5_17, e_18, h⟩ := bn_ h
          refine r_iinc C (lv' := [(5, .int x5_17), (3, .int x3_10), (0, .ref a0), (1, .int x1), (2, .int x2), (4, .int x4)]) dX7_share_88 (pc' := 91) rfl (j := 5) rfl x5_17 (by rw [e_18]; rfl) (Nat.le_of_ble_eq_true rfl) rfl ?_
          refine r_goto C dX7_share_91 (tgt := 9) (by decide) ?_
          refine r_sub (lv' := [(0, .ref a0), (1, .int x1), (2, .int x2), (3, .int x3_10), (4, .int x4), (5, .int x5_17)]) [2, 3, 4, 1, 5, 0] rfl ?_
          exact ih M_2 x3_10 x4 x5_17 (mMo.kd m_4 k_a0 (by decide)) h (fun M9 w0 w1 hm9 h9 => hX94 M9 w0 w1 (mMo.tr m_4 hm9) h9)
        · have h := it_f h c_16
          refine r_iload C dX7_share_54 (pc' := 56) rfl (j := 4) rfl ?_
          refine r_bipush C dX7_share_56 (pc' := 58) rfl (v := -2) rfl ?_
          refine r_icmp_eq C dX7_share_58 (pc' := 61) rfl (tgt := 84) (by decide) (fun c_19 => ?_) (fun c_19 => ?_)
          · have h := it_t h c_19
            refine r_iload C dX7_share_84 (pc' := 86) rfl (j := 5) rfl ?_
            refine r_istore C (lv' := [(4, .int x5), (3, .int x3_10), (0, .ref a0), (1, .int x1), (2, .int x2), (5, .int x5)]) dX7_share_86 (pc' := 88) rfl x5 rfl (Nat.le_of_ble_eq_true rfl) rfl ?_
            obtain ⟨x5_20, e_21, h⟩ := bn_ h
            refine r_iinc C (lv' := [(5, .int x5_20), (4, .int x5), (3, .int x3_10), (0, .ref a0), (1, .int x1), (2, .int x2)]) dX7_share_88 (pc' := 91) rfl (j := 5) rfl x5_20 (by rw [e_21]; rfl) (Nat.le_of_ble_eq_true rfl) rfl ?_
            refine r_goto C dX7_share_91 (tgt := 9) (by decide) ?_
            refine r_sub (lv' := [(0, .ref a0), (1, .int x1), (2, .int x2), (3, .int x3_10), (4, .int x5), (5, .int x5_20)]) [3, 4, 5, 2, 1, 0] rfl ?_
            exact ih M_2 x3_10 x5 x5_20 (mMo.kd m_4 k_a0 (by decide)) h (fun M9 w0 w1 hm9 h9 => hX94 M9 w0 w1 (mMo.tr m_4 hm9) h9)
          · have h := it_f h c_19
            refine r_aload_n C dX7_share_61 (pc' := 62) rfl (j := 1) rfl ?_
            refine r_getf C (Cn := RX7) (T := TX7) 0 (mMo.kd m_4 k_a0 (by decide)) (by decide) vc_X7 in_X7 (by decide) q1224 dX7_share_62 (pc' := 65) rfl (v := va_rf (mgR M_2 a0 0)) rfl ?_
            obtain ⟨b_22, e_23, k_24, h⟩ := h
            refine r_ref [] e_23 ?_
            refine r_bipush C dX7_share_65 (pc' := 67) rfl (v := 68) rfl ?_
            refine r_iload C dX7_share_67 (pc' := 69) rfl (j := 5) rfl ?_
            refine r_iadd C dX7_share_69 (pc' := 70) rfl ?_
            obtain ⟨c_25, h⟩ := h
            refine r_iald C (j := (ix_ ((68 : Int32) + x5))) k_24 c_25 rfl dX7_share_70 (pc' := 71) rfl ?_
            refine r_aload_n C dX7_share_71 (pc' := 72) rfl (j := 1) rfl ?_
            refine r_getf C (Cn := RX7) (T := TX7) 0 (mMo.kd m_4 k_a0 (by decide)) (by decide) vc_X7 in_X7 (by decide) q1224 dX7_share_72 (pc' := 75) rfl (v := va_rf (mgR M_2 a0 0)) rfl ?_
            obtain ⟨b_26, e_27, k_28, h⟩ := h
            refine r_ref [] e_27 ?_
            refine r_bipush C dX7_share_75 (pc' := 77) rfl (v := 68) rfl ?_
            refine r_iload C dX7_share_77 (pc' := 79) rfl (j := 4) rfl ?_
            refine r_iadd C dX7_share_79 (pc' := 80) rfl ?_
            obtain ⟨c_29, h⟩ := h
            refine r_iald C (j := (ix_ ((68 : Int32) + x4))) k_28 c_29 rfl dX7_share_80 (pc' := 81) rfl ?_
            refine r_icmp_le C dX7_share_81 (pc' := 84) rfl (tgt := 88) (by decide) (fun c_30 => ?_) (fun c_30 => ?_)
            · have h := it_t h c_30
              obtain ⟨x5_31, e_32, h⟩ := bn_ h
              refine r_iinc C (lv' := [(5, .int x5_31), (3, .int x3_10), (0, .ref a0), (1, .int x1), (2, .int x2), (4, .int x4)]) dX7_share_88 (pc' := 91) rfl (j := 5) rfl x5_31 (by rw [e_32]; rfl) (Nat.le_of_ble_eq_true rfl) rfl ?_
              refine r_goto C dX7_share_91 (tgt := 9) (by decide) ?_
              refine r_sub (lv' := [(0, .ref a0), (1, .int x1), (2, .int x2), (3, .int x3_10), (4, .int x4), (5, .int x5_31)]) [2, 3, 4, 1, 5, 0] rfl ?_
              exact ih M_2 x3_10 x4 x5_31 (mMo.kd m_4 k_a0 (by decide)) h (fun M9 w0 w1 hm9 h9 => hX94 M9 w0 w1 (mMo.tr m_4 hm9) h9)
            · have h := it_f h c_30
              refine r_iload C dX7_share_84 (pc' := 86) rfl (j := 5) rfl ?_
              refine r_istore C (lv' := [(4, .int x5), (3, .int x3_10), (0, .ref a0), (1, .int x1), (2, .int x2), (5, .int x5)]) dX7_share_86 (pc' := 88) rfl x5 rfl (Nat.le_of_ble_eq_true rfl) rfl ?_
              obtain ⟨x5_33, e_34, h⟩ := bn_ h
              refine r_iinc C (lv' := [(5, .int x5_33), (4, .int x5), (3, .int x3_10), (0, .ref a0), (1, .int x1), (2, .int x2)]) dX7_share_88 (pc' := 91) rfl (j := 5) rfl x5_33 (by rw [e_34]; rfl) (Nat.le_of_ble_eq_true rfl) rfl ?_
              refine r_goto C dX7_share_91 (tgt := 9) (by decide) ?_
              refine r_sub (lv' := [(0, .ref a0), (1, .int x1), (2, .int x2), (3, .int x3_10), (4, .int x5), (5, .int x5_33)]) [3, 4, 5, 2, 1, 0] rfl ?_
              exact ih M_2 x3_10 x5 x5_33 (mMo.kd m_4 k_a0 (by decide)) h (fun M9 w0 w1 hm9 h9 => hX94 M9 w0 w1 (mMo.tr m_4 hm9) h9)
      · have h := it_t h c_5
        refine r_goto C dX7_share_25 (tgt := 88) (by decide) ?_
        obtain ⟨x5_35, e_36, h⟩ := bn_ h
        refine r_iinc C (lv' := [(5, .int x5_35), (0, .ref a0), (1, .int x1), (2, .int x2), (3, .int x3), (4, .int x4)]) dX7_share_88 (pc' := 91) rfl (j := 5) rfl x5_35 (by rw [e_36]; rfl) (Nat.le_of_ble_eq_true rfl) rfl ?_
        refine r_goto C dX7_share_91 (tgt := 9) (by decide) ?_
        refine r_sub (lv' := [(0, .ref a0), (1, .int x1), (2, .int x2), (3, .int x3), (4, .int x4), (5, .int x5_35)]) [1, 2, 3, 4, 5, 0] rfl ?_
        exact ih M_2 x3 x4 x5_35 (mMo.kd m_4 k_a0 (by decide)) h (fun M9 w0 w1 hm9 h9 => hX94 M9 w0 w1 (mMo.tr m_4 hm9) h9)
set_option maxHeartbeats 4000000 in
theorem S_X7_share {D : DD} {l : Launch} {M : MM} {a0 : Nat} {x1 : Int32} {x2 : Int32} {Post : Int32 → MM → Prop} (k_a0 : mkd M a0 = 7) (h : wp_X7_share M a0 x1 x2 Post) : mMet D l yX7_share cX7_share 6 ((some .int)) { frames := 2, cells := 0, slots := 0, locals := 55 } M [.ref a0, .int x1, .int x2] (pI_ Post) := by
  refine m_of2 [(0, .ref a0), (1, .int x1), (2, .int x2)] (by decide +kernel) (Nat.le_of_ble_eq_true rfl) rfl (fun E hED hEl C hE => ?_)
  subst hED
  subst hEl
  unfold wp_X7_share at h
  refine r_iconst C dX7_share_0 (pc' := 1) rfl (v := 0) rfl ?_
  refine r_istore_n C (lv' := [(3, .int (0 : Int32)), (0, .ref a0), (1, .int x1), (2, .int x2)]) dX7_share_1 (pc' := 2) rfl rfl (0 : Int32) rfl (Nat.le_of_ble_eq_true rfl) rfl ?_
  refine r_bipush C dX7_share_2 (pc' := 4) rfl (v := -2) rfl ?_
  refine r_istore C (lv' := [(4, .int (-2 : Int32)), (3, .int (0 : Int32)), (0, .ref a0), (1, .int x1), (2, .int x2)]) dX7_share_4 (pc' := 6) rfl (-2 : Int32) rfl (Nat.le_of_ble_eq_true rfl) rfl ?_
  refine r_iconst C dX7_share_6 (pc' := 7) rfl (v := 0) rfl ?_
  refine r_istore C (lv' := [(5, .int (0 : Int32)), (4, .int (-2 : Int32)), (3, .int (0 : Int32)), (0, .ref a0), (1, .int x1), (2, .int x2)]) dX7_share_7 (pc' := 9) rfl (0 : Int32) rfl (Nat.le_of_ble_eq_true rfl) rfl ?_
  obtain ⟨n_37, h⟩ := h
  refine r_sub (lv' := [(0, .ref a0), (1, .int x1), (2, .int x2), (3, .int (0 : Int32)), (4, .int (-2 : Int32)), (5, .int (0 : Int32))]) [3, 4, 5, 2, 1, 0] rfl ?_
  refine B_X7_share_9 C hE n_37 M (0 : Int32) (-2 : Int32) (0 : Int32) k_a0 h (fun M_38 x3_40 x4_41 m_39 h => ?_)
  refine r_iload_n C dX7_share_94 (pc' := 95) rfl (j := 1) rfl ?_
  refine r_iconst C dX7_share_95 (pc' := 96) rfl (v := -1) rfl ?_
  refine r_icmp_ne C dX7_share_96 (pc' := 99) rfl (tgt := 110) (by decide) (fun c_42 => ?_) (fun c_42 => ?_)
  · have h := it_f h c_42
    refine r_aload_n C dX7_share_110 (pc' := 111) rfl (j := 0) rfl ?_
    refine r_iload_n C dX7_share_111 (pc' := 112) rfl (j := 1) rfl ?_
    refine r_callVi (As := [.int x1]) (rest := []) (Cn := RX7) (T := TX7) C (mMo.kd m_39 k_a0 (by decide)) (by decide) vc_X7 (S_X7_isPerson (mMo.kd m_39 k_a0 (by decide)) h) (lw_V q1526 q1528 qs73 q112 q1529) rfl hd_X7_isPerson rfl rfl (Nat.le_of_ble_eq_true rfl) (Nat.le_of_ble_eq_true rfl) (Nat.le_of_ble_eq_true rfl) rfl rfl (Nat.le_of_ble_eq_true rfl) (Nat.le_of_ble_eq_true rfl) dX7_share_112 (pc' := 115) rfl (fun r_44 M_43 h m_45 => ?_)
    refine r_if_eq C dX7_share_115 (pc' := 118) rfl (tgt := 127) (by decide) (fun c_46 => ?_) (fun c_46 => ?_)
    · have h := it_t h c_46
      refine r_iconst C dX7_share_127 (pc' := 128) rfl (v := -1) rfl ?_
      exact r_iret C hE (Nat.le_of_ble_eq_true rfl) (Nat.le_of_ble_eq_true rfl) dX7_share_128 ⟨_, rfl, h⟩
    · have h := it_f h c_46
      refine r_iload_n C dX7_share_118 (pc' := 119) rfl (j := 2) rfl ?_
      refine r_iconst C dX7_share_119 (pc' := 120) rfl (v := 0) rfl ?_
      refine r_iconst C dX7_share_120 (pc' := 121) rfl (v := 1) rfl ?_
      refine r_callSi (As := [.int x2, .int (0 : Int32), .int (1 : Int32)]) (rest := []) C (S_X7_in h) (lw_S q1391 q1392 q112 q1393) hd_X7_in rfl rfl (Nat.le_of_ble_eq_true rfl) (Nat.le_of_ble_eq_true rfl) (Nat.le_of_ble_eq_true rfl) rfl rfl (Nat.le_of_ble_eq_true rfl) (Nat.le_of_ble_eq_true rfl) dX7_share_121 (pc' := 124) rfl (fun r_48 M_47 h m_49 => ?_)
      refine r_if_ne C dX7_share_124 (pc' := 127) rfl (tgt := 129) (by decide) (fun c_50 => ?_) (fun c_50 => ?_)
      · have h := it_f h c_50
        refine r_iload_n C dX7_share_129 (pc' := 130) rfl (j := 3) rfl ?_
        refine r_if_ne C dX7_share_130 (pc' := 133) rfl (tgt := 137) (by decide) (fun c_51 => ?_) (fun c_51 => ?_)
        · have h := it_f h c_51
          refine r_aload_n C dX7_share_137 (pc' := 138) rfl (j := 0) rfl ?_
          refine r_getf C (Cn := RX7) (T := TX7) 0 (mMo.kd m_49 (mMo.kd m_45 (mMo.kd m_39 k_a0 (by decide)) (by decide)) (by decide)) (by decide) vc_X7 in_X7 (by decide) q1224 dX7_share_138 (pc' := 141) rfl (v := va_rf (mgR M_47 a0 0)) rfl ?_
          obtain ⟨b_52, e_53, k_54, h⟩ := h
          refine r_ref [] e_53 ?_
          refine r_bipush C dX7_share_141 (pc' := 143) rfl (v := 68) rfl ?_
          refine r_iload_n C dX7_share_143 (pc' := 144) rfl (j := 1) rfl ?_
          refine r_iadd C dX7_share_144 (pc' := 145) rfl ?_
          obtain ⟨c_55, h⟩ := h
          refine r_iald C (j := (ix_ ((68 : Int32) + x1))) k_54 c_55 rfl dX7_share_145 (pc' := 146) rfl ?_
          refine r_i2l C dX7_share_146 (pc' := 147) rfl ?_
          refine r_iload_n C dX7_share_147 (pc' := 148) rfl (j := 3) rfl ?_
          refine r_i2l C dX7_share_148 (pc' := 149) rfl ?_
          refine r_iload_n C dX7_share_149 (pc' := 150) rfl (j := 2) rfl ?_
          refine r_callSl (As := [.long ((mgI M_47 b_52 (ix_ ((68 : Int32) + x1))).toInt64), .long x3_40.toInt64, .int x2]) (rest := []) C (S_X7_through h) (lw_S q1722 q1723 q112 q1724) hd_X7_through rfl rfl (Nat.le_of_ble_eq_true rfl) (Nat.le_of_ble_eq_true rfl) (Nat.le_of_ble_eq_true rfl) rfl rfl (Nat.le_of_ble_eq_true rfl) (Nat.le_of_ble_eq_true rfl) dX7_share_150 (pc' := 153) rfl (fun r_57 M_56 h m_58 => ?_)
          refine r_l2i C dX7_share_153 (pc' := 154) rfl ?_
          exact r_iret C hE (Nat.le_of_ble_eq_true rfl) (Nat.le_of_ble_eq_true rfl) dX7_share_154 ⟨_, rfl, h⟩
        · have h := it_t h c_51
          refine r_iload_n C dX7_share_133 (pc' := 134) rfl (j := 2) rfl ?_
          refine r_goto C dX7_share_134 (tgt := 154) (by decide) ?_
          exact r_iret C hE (Nat.le_of_ble_eq_true rfl) (Nat.le_of_ble_eq_true rfl) dX7_share_154 ⟨_, rfl, h⟩
      · have h := it_t h c_50
        refine r_iconst C dX7_share_127 (pc' := 128) rfl (v := -1) rfl ?_
        exact r_iret C hE (Nat.le_of_ble_eq_true rfl) (Nat.le_of_ble_eq_true rfl) dX7_share_128 ⟨_, rfl, h⟩
  · have h := it_t h c_42
    refine r_iload_n C dX7_share_99 (pc' := 100) rfl (j := 2) rfl ?_
    refine r_if_ne C dX7_share_100 (pc' := 103) rfl (tgt := 108) (by decide) (fun c_59 => ?_) (fun c_59 => ?_)
    · have h := it_f h c_59
      refine r_iconst C dX7_share_108 (pc' := 109) rfl (v := -1) rfl ?_
      exact r_iret C hE (Nat.le_of_ble_eq_true rfl) (Nat.le_of_ble_eq_true rfl) dX7_share_109 ⟨_, rfl, h⟩
    · have h := it_t h c_59
      refine r_iload C dX7_share_103 (pc' := 105) rfl (j := 4) rfl ?_
      refine r_goto C dX7_share_105 (tgt := 109) (by decide) ?_
      exact r_iret C hE (Nat.le_of_ble_eq_true rfl) (Nat.le_of_ble_eq_true rfl) dX7_share_109 ⟨_, rfl, h⟩
set_option maxHeartbeats 4000000 in
theorem B_X7_goesByRota_87 {E : mE} {M : MM} {a0 : Nat} {x1 : Int32} {x2 : Int32} {R : MM → Int32 → Prop} {X109 : MM → Prop} {Post : MM → Prop} (C : mC E yX7_goesByRota cX7_goesByRota 3 (none) { frames := 5, cells := 0, slots := 0, locals := 120 }) (hE : mEnd E { frames := 5, cells := 0, slots := 0, locals := 120 } (pV_ Post)) (k_a0 : mkd M a0 = 7) (h : wb_X7_goesByRota_87 M a0 x1 x2 R X109) (hR : ∀ (M' : MM) (x2' : Int32), mMo M M' → mkd M' a0 = 7 → R M' x2' → mV E M' 0 0 19 [(0, .ref a0), (1, .int x1), (2, .int x2')] []) (hX109 : ∀ (M' : MM), mMo M M' → X109 M' → mV E M' 0 0 109 [(0, .ref a0), (1, .int x1)] []) : mV E M 0 0 87 [(0, .ref a0), (1, .int x1), (2, .int x2)] [] := by
  unfold wb_X7_goesByRota_87 at h
  refine r_aload_n C dX7_goesByRota_87 (pc' := 88) rfl (j := 0) rfl ?_
  refine r_getf C (Cn := RX7) (T := TX7) 0 k_a0 (by decide) vc_X7 in_X7 (by decide) q1224 dX7_goesByRota_88 (pc' := 91) rfl (v := va_rf (mgR M a0 0)) rfl ?_
  obtain ⟨b_33, e_34, k_35, h⟩ := h
  refine r_ref [] e_34 ?_
  refine r_bipush C dX7_goesByRota_91 (pc' := 93) rfl (v := 79) rfl ?_
  refine r_aload_n C dX7_goesByRota_93 (pc' := 94) rfl (j := 0) rfl ?_
  refine r_getf C (Cn := RX7) (T := TX7) 0 k_a0 (by decide) vc_X7 in_X7 (by decide) q1224 dX7_goesByRota_94 (pc' := 97) rfl (v := va_rf (mgR M a0 0)) rfl ?_
  obtain ⟨b_36, e_37, k_38, h⟩ := h
  refine r_ref [] e_37 ?_
  refine r_bipush C dX7_goesByRota_97 (pc' := 99) rfl (v := 79) rfl ?_
  obtain ⟨c_39, h⟩ := h
  refine r_iald C (j := 79) k_38 (vp_l (by decide) (by decide) c_39) (by decide) dX7_goesByRota_99 (pc' := 100) rfl ?_
  refine r_iconst C dX7_goesByRota_100 (pc' := 101) rfl (v := 1) rfl ?_
  refine r_iadd C dX7_goesByRota_101 (pc' := 102) rfl ?_
  obtain ⟨c_40, h⟩ := h
  obtain ⟨M_41, e_42, h⟩ := bn_ h
  refine r_iast C (j := 79) k_35 (vp_l (by decide) (by decide) c_40) (by decide) dX7_goesByRota_102 (pc' := 103) rfl M_41 e_42 ?_
  obtain ⟨x2_43, e_44, h⟩ := bn_ h
  refine r_iinc C (lv' := [(2, .int x2_43), (0, .ref a0), (1, .int x1)]) dX7_goesByRota_103 (pc' := 106) rfl (j := 2) rfl x2_43 (by rw [e_44]; rfl) (Nat.le_of_ble_eq_true rfl) rfl ?_
  refine r_goto C dX7_goesByRota_106 (tgt := 19) (by decide) ?_
  refine r_sub (lv' := [(0, .ref a0), (1, .int x1), (2, .int x2_43)]) [1, 2, 0] rfl ?_
  exact hR M_41 x2_43 (mo_I e_42) (mMo.kd (mo_I e_42) k_a0 (by decide)) h
set_option maxHeartbeats 4000000 in
theorem B_X7_goesByRota_71 {E : mE} {M : MM} {a0 : Nat} {x1 : Int32} {x2 : Int32} {as0 : Nat} {xs1 : Int32} {xs2 : Int32} {R : MM → Int32 → Prop} {X109 : MM → Prop} {Post : MM → Prop} (C : mC E yX7_goesByRota cX7_goesByRota 3 (none) { frames := 5, cells := 0, slots := 0, locals := 120 }) (hE : mEnd E { frames := 5, cells := 0, slots := 0, locals := 120 } (pV_ Post)) (k_a0 : mkd M a0 = 7) (k_as0 : mkd M as0 = 7) (h : wb_X7_goesByRota_71 M a0 x1 x2 as0 xs1 xs2 R X109) (hR : ∀ (M' : MM) (x2' : Int32), mMo M M' → mkd M' a0 = 7 → R M' x2' → mV E M' 0 0 19 [(0, .ref a0), (1, .int x1), (2, .int x2')] []) (hX109 : ∀ (M' : MM), mMo M M' → X109 M' → mV E M' 0 0 109 [(0, .ref a0), (1, .int x1)] []) : mV E M 0 0 71 [(0, .ref a0), (1, .int x1), (2, .int x2)] [.int xs2, .int xs1, .ref as0] := by
  unfold wb_X7_goesByRota_71 at h
  refine r_callVv (As := [.int xs1, .int xs2]) (rest := []) (Cn := RX7) (T := TX7) C k_as0 (by decide) vc_X7 (S_X7_dries k_as0 h) (lw_V q1577 q1579 qs83 q112 q1580) rfl hd_X7_dries rfl rfl (Nat.le_of_ble_eq_true rfl) (Nat.le_of_ble_eq_true rfl) (Nat.le_of_ble_eq_true rfl) rfl rfl (Nat.le_of_ble_eq_true rfl) (Nat.le_of_ble_eq_true rfl) dX7_goesByRota_71 (pc' := 74) rfl (fun M_26 h m_28 => ?_)
  refine r_aload_n C dX7_goesByRota_74 (pc' := 75) rfl (j := 0) rfl ?_
  refine r_iload_n C dX7_goesByRota_75 (pc' := 76) rfl (j := 1) rfl ?_
  refine r_callVi (As := [.int x1]) (rest := []) (Cn := RX7) (T := TX7) C (mMo.kd m_28 k_a0 (by decide)) (by decide) vc_X7 (S_X7_lives (mMo.kd m_28 k_a0 (by decide)) h) (lw_V q1413 q1415 qs52 q112 q1416) rfl hd_X7_lives rfl rfl (Nat.le_of_ble_eq_true rfl) (Nat.le_of_ble_eq_true rfl) (Nat.le_of_ble_eq_true rfl) rfl rfl (Nat.le_of_ble_eq_true rfl) (Nat.le_of_ble_eq_true rfl) dX7_goesByRota_76 (pc' := 79) rfl (fun r_30 M_29 h m_31 => ?_)
  refine r_if_ne C dX7_goesByRota_79 (pc' := 82) rfl (tgt := 87) (by decide) (fun c_32 => ?_) (fun c_32 => ?_)
  · have h := it_f h c_32
    refine r_sub (lv' := [(0, .ref a0), (1, .int x1), (2, .int x2)]) [0, 1, 2] rfl ?_
    exact B_X7_goesByRota_87 C hE (mMo.kd m_31 (mMo.kd m_28 k_a0 (by decide)) (by decide)) h (fun M8 v0 hm8 g0 h8 => hR M8 v0 (mMo.tr (mMo.tr m_28 m_31) hm8) g0 h8) (fun M9 hm9 h9 => hX109 M9 (mMo.tr (mMo.tr m_28 m_31) hm9) h9)
  · have h := it_t h c_32
    refine r_aload_n C dX7_goesByRota_82 (pc' := 83) rfl (j := 0) rfl ?_
    refine r_iload_n C dX7_goesByRota_83 (pc' := 84) rfl (j := 2) rfl ?_
    obtain ⟨M_45, e_46, h⟩ := bn_ h
    refine r_putI C (Cn := RX7) (T := TX7) tyX7 49 (mMo.kd m_31 (mMo.kd m_28 k_a0 (by decide)) (by decide)) (by decide) vc_X7 in_X7 tyX7_ok nmX7 (by decide) q1273 rfl rfl dX7_goesByRota_84 (pc' := 87) rfl rfl rfl M_45 e_46 ?_
    refine r_sub (lv' := [(0, .ref a0), (1, .int x1), (2, .int x2)]) [0, 1, 2] rfl ?_
    exact B_X7_goesByRota_87 C hE (mMo.kd (mo_I e_46) (mMo.kd m_31 (mMo.kd m_28 k_a0 (by decide)) (by decide)) (by decide)) h (fun M8 v0 hm8 g0 h8 => hR M8 v0 (mMo.tr (mMo.tr (mMo.tr m_28 m_31) (mo_I e_46)) hm8) g0 h8) (fun M9 hm9 h9 => hX109 M9 (mMo.tr (mMo.tr (mMo.tr m_28 m_31) (mo_I e_46)) hm9) h9)
set_option maxHeartbeats 4000000 in
theorem B_X7_goesByRota_56 {E : mE} {M : MM} {a0 : Nat} {x1 : Int32} {x2 : Int32} {R : MM → Int32 → Prop} {X109 : MM → Prop} {Post : MM → Prop} (C : mC E yX7_goesByRota cX7_goesByRota 3 (none) { frames := 5, cells := 0, slots := 0, locals := 120 }) (hE : mEnd E { frames := 5, cells := 0, slots := 0, locals := 120 } (pV_ Post)) (k_a0 : mkd M a0 = 7) (h : wb_X7_goesByRota_56 M a0 x1 x2 R X109) (hR : ∀ (M' : MM) (x2' : Int32), mMo M M' → mkd M' a0 = 7 → R M' x2' → mV E M' 0 0 19 [(0, .ref a0), (1, .int x1), (2, .int x2')] []) (hX109 : ∀ (M' : MM), mMo M M' → X109 M' → mV E M' 0 0 109 [(0, .ref a0), (1, .int x1)] []) : mV E M 0 0 56 [(0, .ref a0), (1, .int x1), (2, .int x2)] [] := by
  unfold wb_X7_goesByRota_56 at h
  refine r_aload_n C dX7_goesByRota_56 (pc' := 57) rfl (j := 0) rfl ?_
  refine r_iload_n C dX7_goesByRota_57 (pc' := 58) rfl (j := 1) rfl ?_
  refine r_aload_n C dX7_goesByRota_58 (pc' := 59) rfl (j := 0) rfl ?_
  refine r_callVi (As := []) (rest := [.int x1, .ref a0]) (Cn := RX7) (T := TX7) C k_a0 (by decide) vc_X7 (S_X7_draws k_a0 h) (lw_V q1568 q1570 qs81 q112 q1571) rfl hd_X7_draws rfl rfl (Nat.le_of_ble_eq_true rfl) (Nat.le_of_ble_eq_true rfl) (Nat.le_of_ble_eq_true rfl) rfl rfl (Nat.le_of_ble_eq_true rfl) (Nat.le_of_ble_eq_true rfl) dX7_goesByRota_59 (pc' := 62) rfl (fun r_23 M_22 h m_24 => ?_)
  refine r_iconst C dX7_goesByRota_62 (pc' := 63) rfl (v := 5) rfl ?_
  refine r_icmp_ge C dX7_goesByRota_63 (pc' := 66) rfl (tgt := 70) (by decide) (fun c_25 => ?_) (fun c_25 => ?_)
  · have h := it_t h c_25
    refine r_iconst C dX7_goesByRota_70 (pc' := 71) rfl (v := 0) rfl ?_
    refine r_sub (lv' := [(0, .ref a0), (1, .int x1), (2, .int x2)]) [0, 1, 2] rfl ?_
    exact B_X7_goesByRota_71 C hE (mMo.kd m_24 k_a0 (by decide)) (mMo.kd m_24 k_a0 (by decide)) h (fun M8 v0 hm8 g0 h8 => hR M8 v0 (mMo.tr m_24 hm8) g0 h8) (fun M9 hm9 h9 => hX109 M9 (mMo.tr m_24 hm9) h9)
  · have h := it_f h c_25
    refine r_iconst C dX7_goesByRota_66 (pc' := 67) rfl (v := 1) rfl ?_
    refine r_goto C dX7_goesByRota_67 (tgt := 71) (by decide) ?_
    refine r_sub (lv' := [(0, .ref a0), (1, .int x1), (2, .int x2)]) [0, 1, 2] rfl ?_
    exact B_X7_goesByRota_71 C hE (mMo.kd m_24 k_a0 (by decide)) (mMo.kd m_24 k_a0 (by decide)) h (fun M8 v0 hm8 g0 h8 => hR M8 v0 (mMo.tr m_24 hm8) g0 h8) (fun M9 hm9 h9 => hX109 M9 (mMo.tr m_24 hm9) h9)
set_option maxHeartbeats 4000000 in
theorem B_X7_goesByRota_19 {E : mE} {a0 : Nat} {x1 : Int32} {X109 : MM → Prop} {Post : MM → Prop} (C : mC E yX7_goesByRota cX7_goesByRota 3 (none) { frames := 5, cells := 0, slots := 0, locals := 120 }) (hE : mEnd E { frames := 5, cells := 0, slots := 0, locals := 120 } (pV_ Post)) : ∀ (n_ : Nat) (M : MM) (x2 : Int32), mkd M a0 = 7 → wl_X7_goesByRota_19 a0 x1 X109 n_ M x2 → (∀ (M' : MM), mMo M M' → X109 M' → mV E M' 0 0 109 [(0, .ref a0), (1, .int x1)] []) → mV E M 0 0 19 [(0, .ref a0), (1, .int x1), (2, .int x2)] [] := by
  intro n_
  induction n_ with
  | zero =>
    intro M x2 k_a0 h hX109
    exact absurd h (by rw [wl_X7_goesByRota_19]; exact fun q => q)
  | succ n_ ih =>
    intro M x2 k_a0 h hX109
    rw [wl_X7_goesByRota_19] at h
    refine r_iload_n C dX7_goesByRota_19 (pc' := 20) rfl (j := 2) rfl ?_
    refine r_aload_n C dX7_goesByRota_20 (pc' := 21) rfl (j := 0) rfl ?_
    refine r_getf C (Cn := RX7) (T := TX7) 46 k_a0 (by decide) vc_X7 in_X7 (by decide) q1270 dX7_goesByRota_21 (pc' := 24) rfl (v := .int (mgI M a0 46)) rfl ?_
    refine r_icmp_ge C dX7_goesByRota_24 (pc' := 27) rfl (tgt := 109) (by decide) (fun c_12 => ?_) (fun c_12 => ?_)
    · have h := it_t h c_12
      refine r_sub (lv' := [(0, .ref a0), (1, .int x1)]) [0, 1] rfl ?_
      exact hX109 M mMo.rf h
    · have h := it_f h c_12
      refine r_aload_n C dX7_goesByRota_27 (pc' := 28) rfl (j := 0) rfl ?_
      refine r_iload_n C dX7_goesByRota_28 (pc' := 29) rfl (j := 1) rfl ?_
      refine r_callVi (As := [.int x1]) (rest := []) (Cn := RX7) (T := TX7) C k_a0 (by decide) vc_X7 (S_X7_lives k_a0 h) (lw_V q1413 q1415 qs52 q112 q1416) rfl hd_X7_lives rfl rfl (Nat.le_of_ble_eq_true rfl) (Nat.le_of_ble_eq_true rfl) (Nat.le_of_ble_eq_true rfl) rfl rfl (Nat.le_of_ble_eq_true rfl) (Nat.le_of_ble_eq_true rfl) dX7_goesByRota_29 (pc' := 32) rfl (fun r_14 M_13 h m_15 => ?_)
      refine r_if_eq C dX7_goesByRota_32 (pc' := 35) rfl (tgt := 109) (by decide) (fun c_16 => ?_) (fun c_16 => ?_)
      · have h := it_t h c_16
        refine r_sub (lv' := [(0, .ref a0), (1, .int x1)]) [0, 1] rfl ?_
        exact hX109 M_13 m_15 h
      · have h := it_f h c_16
        refine r_aload_n C dX7_goesByRota_35 (pc' := 36) rfl (j := 0) rfl ?_
        refine r_getf C (Cn := RX7) (T := TX7) 48 (mMo.kd m_15 k_a0 (by decide)) (by decide) vc_X7 in_X7 (by decide) q1272 dX7_goesByRota_36 (pc' := 39) rfl (v := va_rf (mgR M_13 a0 48)) rfl ?_
        obtain ⟨b_17, e_18, k_19, h⟩ := h
        refine r_ref [] e_18 ?_
        refine r_iload_n C dX7_goesByRota_39 (pc' := 40) rfl (j := 2) rfl ?_
        obtain ⟨c_20, h⟩ := h
        refine r_iald C (j := (ix_ x2)) k_19 c_20 rfl dX7_goesByRota_40 (pc' := 41) rfl ?_
        refine r_iconst C dX7_goesByRota_41 (pc' := 42) rfl (v := -1) rfl ?_
        refine r_icmp_eq C dX7_goesByRota_42 (pc' := 45) rfl (tgt := 56) (by decide) (fun c_21 => ?_) (fun c_21 => ?_)
        · have h := it_t h c_21
          refine r_sub (lv' := [(0, .ref a0), (1, .int x1), (2, .int x2)]) [0, 1, 2] rfl ?_
          exact B_X7_goesByRota_56 C hE (mMo.kd m_15 k_a0 (by decide)) h (fun M8 v0 hm8 g0 h8 => ih M8 v0 g0 h8 (fun M9 hm9 h9 => hX109 M9 (mMo.tr (mMo.tr m_15 hm8) hm9) h9)) (fun M9 hm9 h9 => hX109 M9 (mMo.tr m_15 hm9) h9)
        · have h := it_f h c_21
          refine r_aload_n C dX7_goesByRota_45 (pc' := 46) rfl (j := 0) rfl ?_
          refine r_aload_n C dX7_goesByRota_46 (pc' := 47) rfl (j := 0) rfl ?_
          refine r_getf C (Cn := RX7) (T := TX7) 48 (mMo.kd m_15 k_a0 (by decide)) (by decide) vc_X7 in_X7 (by decide) q1272 dX7_goesByRota_47 (pc' := 50) rfl (v := va_rf (mgR M_13 a0 48)) rfl ?_
          obtain ⟨b_47, e_48, k_49, h⟩ := h
          refine r_ref [] e_48 ?_
          refine r_iload_n C dX7_goesByRota_50 (pc' := 51) rfl (j := 2) rfl ?_
          obtain ⟨c_50, h⟩ := h
          refine r_iald C (j := (ix_ x2)) k_49 c_50 rfl dX7_goesByRota_51 (pc' := 52) rfl ?_
          refine r_iload_n C dX7_goesByRota_52 (pc' := 53) rfl (j := 1) rfl ?_
          refine r_callVv (As := [.int (mgI M_13 b_47 (ix_ x2)), .int x1]) (rest := []) (Cn := RX7) (T := TX7) C (mMo.kd m_15 k_a0 (by decide)) (by decide) vc_X7 (S_X7_waters (mMo.kd m_15 k_a0 (by decide)) h) (lw_V q1573 q1575 qs82 q112 q1576) rfl hd_X7_waters rfl rfl (Nat.le_of_ble_eq_true rfl) (Nat.le_of_ble_eq_true rfl) (Nat.le_of_ble_eq_true rfl) rfl rfl (Nat.le_of_ble_eq_true rfl) (Nat.le_of_ble_eq_true rfl) dX7_goesByRota_53 (pc' := 56) rfl (fun M_51 h m_53 => ?_)
          refine r_sub (lv' := [(0, .ref a0), (1, .int x1), (2, .int x2)]) [0, 1, 2] rfl ?_
          exact B_X7_goesByRota_56 C hE (mMo.kd m_53 (mMo.kd m_15 k_a0 (by decide)) (by decide)) h (fun M8 v0 hm8 g0 h8 => ih M8 v0 g0 h8 (fun M9 hm9 h9 => hX109 M9 (mMo.tr (mMo.tr (mMo.tr m_15 m_53) hm8) hm9) h9)) (fun M9 hm9 h9 => hX109 M9 (mMo.tr (mMo.tr m_15 m_53) hm9) h9)
set_option maxHeartbeats 4000000 in
theorem B_X7_goesByRota_109 {E : mE} {M : MM} {a0 : Nat} {x1 : Int32} {Post : MM → Prop} (C : mC E yX7_goesByRota cX7_goesByRota 3 (none) { frames := 5, cells := 0, slots := 0, locals := 120 }) (hE : mEnd E { frames := 5, cells := 0, slots := 0, locals := 120 } (pV_ Post)) (k_a0 : mkd M a0 = 7) (h : wb_X7_goesByRota_109 M a0 x1 Post) : mV E M 0 0 109 [(0, .ref a0), (1, .int x1)] [] := by
  unfold wb_X7_goesByRota_109 at h
  refine r_aload_n C dX7_goesByRota_109 (pc' := 110) rfl (j := 0) rfl ?_
  refine r_aload_n C dX7_goesByRota_110 (pc' := 111) rfl (j := 0) rfl ?_
  refine r_getf C (Cn := RX7) (T := TX7) 0 k_a0 (by decide) vc_X7 in_X7 (by decide) q1224 dX7_goesByRota_111 (pc' := 114) rfl (v := va_rf (mgR M a0 0)) rfl ?_
  obtain ⟨b_57, e_58, k_59, h⟩ := h
  refine r_ref [] e_58 ?_
  refine r_iconst C dX7_goesByRota_114 (pc' := 115) rfl (v := 4) rfl ?_
  refine r_iload_n C dX7_goesByRota_115 (pc' := 116) rfl (j := 1) rfl ?_
  refine r_iadd C dX7_goesByRota_116 (pc' := 117) rfl ?_
  obtain ⟨c_60, h⟩ := h
  refine r_iald C (j := (ix_ ((4 : Int32) + x1))) k_59 c_60 rfl dX7_goesByRota_117 (pc' := 118) rfl ?_
  obtain ⟨M_61, e_62, h⟩ := bn_ h
  refine r_putI C (Cn := RX7) (T := TX7) tyX7 50 k_a0 (by decide) vc_X7 in_X7 tyX7_ok nmX7 (by decide) q1274 rfl rfl dX7_goesByRota_118 (pc' := 121) rfl rfl rfl M_61 e_62 ?_
  refine r_aload_n C dX7_goesByRota_121 (pc' := 122) rfl (j := 0) rfl ?_
  refine r_getf C (Cn := RX7) (T := TX7) 1 (mMo.kd (mo_I e_62) k_a0 (by decide)) (by decide) vc_X7 in_X7 (by decide) q1225 dX7_goesByRota_122 (pc' := 125) rfl (v := va_rf (mgR M_61 a0 1)) rfl ?_
  obtain ⟨b_63, e_64, k_65, h⟩ := h
  refine r_ref [] e_64 ?_
  refine r_aload_n C dX7_goesByRota_125 (pc' := 126) rfl (j := 0) rfl ?_
  refine r_getf C (Cn := RX7) (T := TX7) 0 (mMo.kd (mo_I e_62) k_a0 (by decide)) (by decide) vc_X7 in_X7 (by decide) q1224 dX7_goesByRota_126 (pc' := 129) rfl (v := va_rf (mgR M_61 a0 0)) rfl ?_
  obtain ⟨b_66, e_67, k_68, h⟩ := h
  refine r_ref [] e_67 ?_
  refine r_callSv (As := [.ref b_63, .ref b_66]) (rest := []) C (S_X7_copies k_65 k_68 h) (lw_S q1588 q1589 q112 q1590) hd_X7_copies rfl rfl (Nat.le_of_ble_eq_true rfl) (Nat.le_of_ble_eq_true rfl) (Nat.le_of_ble_eq_true rfl) rfl rfl (Nat.le_of_ble_eq_true rfl) (Nat.le_of_ble_eq_true rfl) dX7_goesByRota_129 (pc' := 132) rfl (fun M_69 h m_71 => ?_)
  exact r_vret C hE (Nat.le_of_ble_eq_true rfl) (Nat.le_of_ble_eq_true rfl) dX7_goesByRota_132 ⟨rfl, h⟩
set_option maxHeartbeats 4000000 in
theorem S_X7_goesByRota {D : DD} {l : Launch} {M : MM} {a0 : Nat} {x1 : Int32} {Post : MM → Prop} (k_a0 : mkd M a0 = 7) (h : wp_X7_goesByRota M a0 x1 Post) : mMet D l yX7_goesByRota cX7_goesByRota 3 (none) { frames := 5, cells := 0, slots := 0, locals := 120 } M [.ref a0, .int x1] (pV_ Post) := by
  refine m_of2 [(0, .ref a0), (1, .int x1)] (by decide +kernel) (Nat.le_of_ble_eq_true rfl) rfl (fun E hED hEl C hE => ?_)
  subst hED
  subst hEl
  unfold wp_X7_goesByRota at h
  refine r_aload_n C dX7_goesByRota_0 (pc' := 1) rfl (j := 0) rfl ?_
  refine r_getf C (Cn := RX7) (T := TX7) 0 k_a0 (by decide) vc_X7 in_X7 (by decide) q1224 dX7_goesByRota_1 (pc' := 4) rfl (v := va_rf (mgR M a0 0)) rfl ?_
  obtain ⟨b_1, e_2, k_3, h⟩ := h
  refine r_ref [] e_2 ?_
  refine r_aload_n C dX7_goesByRota_4 (pc' := 5) rfl (j := 0) rfl ?_
  refine r_getf C (Cn := RX7) (T := TX7) 1 k_a0 (by decide) vc_X7 in_X7 (by decide) q1225 dX7_goesByRota_5 (pc' := 8) rfl (v := va_rf (mgR M a0 1)) rfl ?_
  obtain ⟨b_4, e_5, k_6, h⟩ := h
  refine r_ref [] e_5 ?_
  refine r_callSv (As := [.ref b_1, .ref b_4]) (rest := []) C (S_X7_copies k_3 k_6 h) (lw_S q1588 q1589 q112 q1590) hd_X7_copies rfl rfl (Nat.le_of_ble_eq_true rfl) (Nat.le_of_ble_eq_true rfl) (Nat.le_of_ble_eq_true rfl) rfl rfl (Nat.le_of_ble_eq_true rfl) (Nat.le_of_ble_eq_true rfl) dX7_goesByRota_8 (pc' := 11) rfl (fun M_7 h m_9 => ?_)
  refine r_aload_n C dX7_goesByRota_11 (pc' := 12) rfl (j := 0) rfl ?_
  refine r_bipush C dX7_goesByRota_12 (pc' := 14) rfl (v := -2) rfl ?_
  obtain ⟨M_10, e_11, h⟩ := bn_ h
  refine r_putI C (Cn := RX7) (T := TX7) tyX7 49 (mMo.kd m_9 k_a0 (by decide)) (by decide) vc_X7 in_X7 tyX7_ok nmX7 (by decide) q1273 rfl rfl dX7_goesByRota_14 (pc' := 17) rfl rfl rfl M_10 e_11 ?_
  refine r_iconst C dX7_goesByRota_17 (pc' := 18) rfl (v := 0) rfl ?_
  refine r_istore_n C (lv' := [(2, .int (0 : Int32)), (0, .ref a0), (1, .int x1)]) dX7_goesByRota_18 (pc' := 19) rfl rfl (0 : Int32) rfl (Nat.le_of_ble_eq_true rfl) rfl ?_
  obtain ⟨n_54, h⟩ := h
  refine r_sub (lv' := [(0, .ref a0), (1, .int x1), (2, .int (0 : Int32))]) [1, 2, 0] rfl ?_
  refine B_X7_goesByRota_19 C hE n_54 M_10 (0 : Int32) (mMo.kd (mo_I e_11) (mMo.kd m_9 k_a0 (by decide)) (by decide)) h (fun M_55 m_56 h => ?_)
  refine r_sub (lv' := [(0, .ref a0), (1, .int x1)]) [0, 1] rfl ?_
  exact B_X7_goesByRota_109 C hE (mMo.kd m_56 (mMo.kd (mo_I e_11) (mMo.kd m_9 k_a0 (by decide)) (by decide)) (by decide)) h
set_option maxHeartbeats 4000000 in
theorem S_X7_isDayAt {D : DD} {l : Launch} {M : MM} {x0 : Int32} {Post : Int32 → MM → Prop} (h : wp_X7_isDayAt M x0 Post) : mMet D l yX7_isDayAt cX7_isDayAt 1 ((some .boolean)) { frames := 1, cells := 0, slots := 0, locals := 22 } M [.int x0] (pI_ Post) := by
  refine m_of2 [(0, .int x0)] (by decide +kernel) (Nat.le_of_ble_eq_true rfl) rfl (fun E hED hEl C hE => ?_)
  subst hED
  subst hEl
  unfold wp_X7_isDayAt at h
  refine r_iload_n C dX7_isDayAt_0 (pc' := 1) rfl (j := 0) rfl ?_
  refine r_bipush C dX7_isDayAt_1 (pc' := 3) rfl (v := 46) rfl ?_
  refine r_icmp_eq C dX7_isDayAt_3 (pc' := 6) rfl (tgt := 28) (by decide) (fun c_1 => ?_) (fun c_1 => ?_)
  · have h := it_t h c_1
    refine r_iconst C dX7_isDayAt_28 (pc' := 29) rfl (v := 1) rfl ?_
    refine r_goto C dX7_isDayAt_29 (tgt := 33) (by decide) ?_
    exact r_zret C hE (Or.inr rfl) (Nat.le_of_ble_eq_true rfl) (Nat.le_of_ble_eq_true rfl) dX7_isDayAt_33 ⟨_, rfl, h⟩
  · have h := it_f h c_1
    refine r_iload_n C dX7_isDayAt_6 (pc' := 7) rfl (j := 0) rfl ?_
    refine r_bipush C dX7_isDayAt_7 (pc' := 9) rfl (v := 97) rfl ?_
    refine r_bipush C dX7_isDayAt_9 (pc' := 11) rfl (v := 104) rfl ?_
    refine r_callSi (As := [.int x0, .int (97 : Int32), .int (104 : Int32)]) (rest := []) C (S_X7_in h) (lw_S q1391 q1392 q112 q1393) hd_X7_in rfl rfl (Nat.le_of_ble_eq_true rfl) (Nat.le_of_ble_eq_true rfl) (Nat.le_of_ble_eq_true rfl) rfl rfl (Nat.le_of_ble_eq_true rfl) (Nat.le_of_ble_eq_true rfl) dX7_isDayAt_11 (pc' := 14) rfl (fun r_3 M_2 h m_4 => ?_)
    refine r_if_ne C dX7_isDayAt_14 (pc' := 17) rfl (tgt := 28) (by decide) (fun c_5 => ?_) (fun c_5 => ?_)
    · have h := it_f h c_5
      refine r_iconst C dX7_isDayAt_28 (pc' := 29) rfl (v := 1) rfl ?_
      refine r_goto C dX7_isDayAt_29 (tgt := 33) (by decide) ?_
      exact r_zret C hE (Or.inr rfl) (Nat.le_of_ble_eq_true rfl) (Nat.le_of_ble_eq_true rfl) dX7_isDayAt_33 ⟨_, rfl, h⟩
    · have h := it_t h c_5
      refine r_iload_n C dX7_isDayAt_17 (pc' := 18) rfl (j := 0) rfl ?_
      refine r_bipush C dX7_isDayAt_18 (pc' := 20) rfl (v := 50) rfl ?_
      refine r_bipush C dX7_isDayAt_20 (pc' := 22) rfl (v := 55) rfl ?_
      refine r_callSi (As := [.int x0, .int (50 : Int32), .int (55 : Int32)]) (rest := []) C (S_X7_in h) (lw_S q1391 q1392 q112 q1393) hd_X7_in rfl rfl (Nat.le_of_ble_eq_true rfl) (Nat.le_of_ble_eq_true rfl) (Nat.le_of_ble_eq_true rfl) rfl rfl (Nat.le_of_ble_eq_true rfl) (Nat.le_of_ble_eq_true rfl) dX7_isDayAt_22 (pc' := 25) rfl (fun r_7 M_6 h m_8 => ?_)
      refine r_if_eq C dX7_isDayAt_25 (pc' := 28) rfl (tgt := 32) (by decide) (fun c_9 => ?_) (fun c_9 => ?_)
      · have h := it_t h c_9
        refine r_iconst C dX7_isDayAt_32 (pc' := 33) rfl (v := 0) rfl ?_
        exact r_zret C hE (Or.inl rfl) (Nat.le_of_ble_eq_true rfl) (Nat.le_of_ble_eq_true rfl) dX7_isDayAt_33 ⟨_, rfl, h⟩
      · have h := it_f h c_9
        refine r_iconst C dX7_isDayAt_28 (pc' := 29) rfl (v := 1) rfl ?_
        refine r_goto C dX7_isDayAt_29 (tgt := 33) (by decide) ?_
        exact r_zret C hE (Or.inr rfl) (Nat.le_of_ble_eq_true rfl) (Nat.le_of_ble_eq_true rfl) dX7_isDayAt_33 ⟨_, rfl, h⟩
set_option maxHeartbeats 4000000 in
theorem B_X7_readsWeek_207 {E : mE} {M : MM} {a0 : Nat} {x1 : Int32} {x2 : Int32} {x3 : Int32} {x4 : Int32} {as0 : Nat} {xs1 : Int32} {xs2 : Int32} {R : MM → Int32 → Prop} {X214 : MM → Prop} {Post : Int32 → MM → Prop} (C : mC E yX7_readsWeek cX7_readsWeek 5 ((some .boolean)) { frames := 2, cells := 0, slots := 0, locals := 42 }) (hE : mEnd E { frames := 2, cells := 0, slots := 0, locals := 42 } (pI_ Post)) (k_a0 : mkd M a0 = 7) (k_as0 : mkd M as0 = 100) (h : wb_X7_readsWeek_207 M a0 x1 x2 x3 x4 as0 xs1 xs2 R X214) (hR : ∀ (M' : MM) (x4' : Int32), mMo M M' → mkd M' a0 = 7 → R M' x4' → mV E M' 0 0 176 [(0, .ref a0), (1, .int x1), (2, .int x2), (3, .int x3), (4, .int x4')] []) (hX214 : ∀ (M' : MM), mMo M M' → X214 M' → mV E M' 0 0 214 [(0, .ref a0), (1, .int x1), (3, .int x3)] []) : mV E M 0 0 207 [(0, .ref a0), (1, .int x1), (2, .int x2), (3, .int x3), (4, .int x4)] [.int xs2, .int xs1, .ref as0] := by
  unfold wb_X7_readsWeek_207 at h
  obtain ⟨c_32, h⟩ := h
  obtain ⟨M_33, e_34, h⟩ := bn_ h
  refine r_iast C (j := (ix_ xs1)) k_as0 c_32 rfl dX7_readsWeek_207 (pc' := 208) rfl M_33 e_34 ?_
  obtain ⟨x4_35, e_36, h⟩ := bn_ h
  refine r_iinc C (lv' := [(4, .int x4_35), (0, .ref a0), (1, .int x1), (2, .int x2), (3, .int x3)]) dX7_readsWeek_208 (pc' := 211) rfl (j := 4) rfl x4_35 (by rw [e_36]; rfl) (Nat.le_of_ble_eq_true rfl) rfl ?_
  refine r_goto C dX7_readsWeek_211 (tgt := 176) (by decide) ?_
  refine r_sub (lv' := [(0, .ref a0), (1, .int x1), (2, .int x2), (3, .int x3), (4, .int x4_35)]) [1, 2, 3, 4, 0] rfl ?_
  exact hR M_33 x4_35 (mo_I e_34) (mMo.kd (mo_I e_34) k_a0 (by decide)) h
set_option maxHeartbeats 4000000 in
theorem B_X7_readsWeek_176 {E : mE} {a0 : Nat} {x1 : Int32} {x2 : Int32} {x3 : Int32} {X214 : MM → Prop} {Post : Int32 → MM → Prop} (C : mC E yX7_readsWeek cX7_readsWeek 5 ((some .boolean)) { frames := 2, cells := 0, slots := 0, locals := 42 }) (hE : mEnd E { frames := 2, cells := 0, slots := 0, locals := 42 } (pI_ Post)) : ∀ (n_ : Nat) (M : MM) (x4 : Int32), mkd M a0 = 7 → wl_X7_readsWeek_176 a0 x1 x2 x3 X214 n_ M x4 → (∀ (M' : MM), mMo M M' → X214 M' → mV E M' 0 0 214 [(0, .ref a0), (1, .int x1), (3, .int x3)] []) → mV E M 0 0 176 [(0, .ref a0), (1, .int x1), (2, .int x2), (3, .int x3), (4, .int x4)] [] := by
  intro n_
  induction n_ with
  | zero =>
    intro M x4 k_a0 h hX214
    exact absurd h (by rw [wl_X7_readsWeek_176]; exact fun q => q)
  | succ n_ ih =>
    intro M x4 k_a0 h hX214
    rw [wl_X7_readsWeek_176] at h
    refine r_iload C dX7_readsWeek_176 (pc' := 178) rfl (j := 4) rfl ?_
    refine r_iload_n C dX7_readsWeek_178 (pc' := 179) rfl (j := 3) rfl ?_
    refine r_icmp_ge C dX7_readsWeek_179 (pc' := 182) rfl (tgt := 214) (by decide) (fun c_27 => ?_) (fun c_27 => ?_)
    · have h := it_t h c_27
      refine r_sub (lv' := [(0, .ref a0), (1, .int x1), (3, .int x3)]) [0, 1, 3] rfl ?_
      exact hX214 M mMo.rf h
    · have h := it_f h c_27
      refine r_aload_n C dX7_readsWeek_182 (pc' := 183) rfl (j := 0) rfl ?_
      refine r_getf C (Cn := RX7) (T := TX7) 48 k_a0 (by decide) vc_X7 in_X7 (by decide) q1272 dX7_readsWeek_183 (pc' := 186) rfl (v := va_rf (mgR M a0 48)) rfl ?_
      obtain ⟨b_28, e_29, k_30, h⟩ := h
      refine r_ref [] e_29 ?_
      refine r_aload_n C dX7_readsWeek_186 (pc' := 187) rfl (j := 0) rfl ?_
      refine r_getf C (Cn := RX7) (T := TX7) 46 k_a0 (by decide) vc_X7 in_X7 (by decide) q1270 dX7_readsWeek_187 (pc' := 190) rfl (v := .int (mgI M a0 46)) rfl ?_
      refine r_iload C dX7_readsWeek_190 (pc' := 192) rfl (j := 4) rfl ?_
      refine r_iadd C dX7_readsWeek_192 (pc' := 193) rfl ?_
      refine r_iload_n C dX7_readsWeek_193 (pc' := 194) rfl (j := 2) rfl ?_
      refine r_bipush C dX7_readsWeek_194 (pc' := 196) rfl (v := 46) rfl ?_
      refine r_icmp_ne C dX7_readsWeek_196 (pc' := 199) rfl (tgt := 203) (by decide) (fun c_31 => ?_) (fun c_31 => ?_)
      · have h := it_f h c_31
        refine r_iload_n C dX7_readsWeek_203 (pc' := 204) rfl (j := 2) rfl ?_
        refine r_bipush C dX7_readsWeek_204 (pc' := 206) rfl (v := 97) rfl ?_
        refine r_isub C dX7_readsWeek_206 (pc' := 207) rfl ?_
        refine r_sub (lv' := [(0, .ref a0), (1, .int x1), (2, .int x2), (3, .int x3), (4, .int x4)]) [0, 1, 2, 3, 4] rfl ?_
        exact B_X7_readsWeek_207 C hE k_a0 k_30 h (fun M8 v0 hm8 g0 h8 => ih M8 v0 g0 h8 (fun M9 hm9 h9 => hX214 M9 (mMo.tr hm8 hm9) h9)) (fun M9 hm9 h9 => hX214 M9 hm9 h9)
      · have h := it_t h c_31
        refine r_iconst C dX7_readsWeek_199 (pc' := 200) rfl (v := -1) rfl ?_
        refine r_goto C dX7_readsWeek_200 (tgt := 207) (by decide) ?_
        refine r_sub (lv' := [(0, .ref a0), (1, .int x1), (2, .int x2), (3, .int x3), (4, .int x4)]) [0, 1, 2, 3, 4] rfl ?_
        exact B_X7_readsWeek_207 C hE k_a0 k_30 h (fun M8 v0 hm8 g0 h8 => ih M8 v0 g0 h8 (fun M9 hm9 h9 => hX214 M9 (mMo.tr hm8 hm9) h9)) (fun M9 hm9 h9 => hX214 M9 hm9 h9)
set_option maxHeartbeats 4000000 in
theorem B_X7_readsWeek_145 {E : mE} {M : MM} {a0 : Nat} {x1 : Int32} {x2 : Int32} {x3 : Int32} {R : MM → Int32 → Prop} {X49 : MM → Prop} {X87 : MM → Prop} {X135 : MM → Prop} {X162 : MM → Prop} {X241 : MM → Prop} {Post : Int32 → MM → Prop} (C : mC E yX7_readsWeek cX7_readsWeek 5 ((some .boolean)) { frames := 2, cells := 0, slots := 0, locals := 42 }) (hE : mEnd E { frames := 2, cells := 0, slots := 0, locals := 42 } (pI_ Post)) (k_a0 : mkd M a0 = 7) (h : wb_X7_readsWeek_145 M a0 x1 x2 x3 R X49 X87 X135 X162 X241) (hR : ∀ (M' : MM) (x1' : Int32), mMo M M' → mkd M' a0 = 7 → R M' x1' → mV E M' 0 0 31 [(0, .ref a0), (1, .int x1')] []) (hX49 : ∀ (M' : MM), mMo M M' → X49 M' → mV E M' 0 0 49 [(0, .ref a0)] []) (hX87 : ∀ (M' : MM), mMo M M' → X87 M' → mV E M' 0 0 87 [(0, .ref a0)] []) (hX135 : ∀ (M' : MM), mMo M M' → X135 M' → mV E M' 0 0 135 [(0, .ref a0)] []) (hX162 : ∀ (M' : MM), mMo M M' → X162 M' → mV E M' 0 0 162 [(0, .ref a0)] []) (hX241 : ∀ (M' : MM), mMo M M' → X241 M' → mV E M' 0 0 241 [(0, .ref a0)] []) : mV E M 0 0 145 [(0, .ref a0), (1, .int x1), (2, .int x2), (3, .int x3)] [] := by
  unfold wb_X7_readsWeek_145 at h
  refine r_iload_n C dX7_readsWeek_145 (pc' := 146) rfl (j := 2) rfl ?_
  refine r_bipush C dX7_readsWeek_146 (pc' := 148) rfl (v := 46) rfl ?_
  refine r_icmp_eq C dX7_readsWeek_148 (pc' := 151) rfl (tgt := 173) (by decide) (fun c_26 => ?_) (fun c_26 => ?_)
  · have h := it_t h c_26
    refine r_iconst C dX7_readsWeek_173 (pc' := 174) rfl (v := 0) rfl ?_
    refine r_istore C (lv' := [(4, .int (0 : Int32)), (0, .ref a0), (1, .int x1), (2, .int x2), (3, .int x3)]) dX7_readsWeek_174 (pc' := 176) rfl (0 : Int32) rfl (Nat.le_of_ble_eq_true rfl) rfl ?_
    obtain ⟨n_37, h⟩ := h
    refine r_sub (lv' := [(0, .ref a0), (1, .int x1), (2, .int x2), (3, .int x3), (4, .int (0 : Int32))]) [1, 2, 3, 4, 0] rfl ?_
    refine B_X7_readsWeek_176 C hE n_37 M (0 : Int32) k_a0 h (fun M_38 m_39 h => ?_)
    refine r_aload_n C dX7_readsWeek_214 (pc' := 215) rfl (j := 0) rfl ?_
    refine r_aload_n C dX7_readsWeek_215 (pc' := 216) rfl (j := 0) rfl ?_
    refine r_getf C (Cn := RX7) (T := TX7) 46 (mMo.kd m_39 k_a0 (by decide)) (by decide) vc_X7 in_X7 (by decide) q1270 dX7_readsWeek_216 (pc' := 219) rfl (v := .int (mgI M_38 a0 46)) rfl ?_
    refine r_iload_n C dX7_readsWeek_219 (pc' := 220) rfl (j := 2) rfl ?_
    refine r_iadd C dX7_readsWeek_220 (pc' := 221) rfl ?_
    obtain ⟨M_40, e_41, h⟩ := bn_ h
    refine r_putI C (Cn := RX7) (T := TX7) tyX7 46 (mMo.kd m_39 k_a0 (by decide)) (by decide) vc_X7 in_X7 tyX7_ok nmX7 (by decide) q1270 rfl rfl dX7_readsWeek_221 (pc' := 224) rfl rfl rfl M_40 e_41 ?_
    refine r_iload_n C dX7_readsWeek_224 (pc' := 225) rfl (j := 1) rfl ?_
    refine r_iload_n C dX7_readsWeek_225 (pc' := 226) rfl (j := 2) rfl ?_
    refine r_iadd C dX7_readsWeek_226 (pc' := 227) rfl ?_
    obtain ⟨x1_42, e_43, h⟩ := bn_ h
    refine r_istore_n C (lv' := [(1, .int x1_42), (0, .ref a0), (3, .int x3)]) dX7_readsWeek_227 (pc' := 228) rfl rfl x1_42 e_43 (Nat.le_of_ble_eq_true rfl) rfl ?_
    refine r_aload_n C dX7_readsWeek_228 (pc' := 229) rfl (j := 1) rfl ?_
    refine r_aload_n C dX7_readsWeek_229 (pc' := 230) rfl (j := 1) rfl ?_
    refine r_getf C (Cn := RX7) (T := TX7) 5 (mMo.kd (mo_I e_41) (mMo.kd m_39 k_a0 (by decide)) (by decide)) (by decide) vc_X7 in_X7 (by decide) q1229 dX7_readsWeek_230 (pc' := 233) rfl (v := .int (mgI M_40 a0 5)) rfl ?_
    refine r_iconst C dX7_readsWeek_233 (pc' := 234) rfl (v := 1) rfl ?_
    refine r_iadd C dX7_readsWeek_234 (pc' := 235) rfl ?_
    obtain ⟨M_44, e_45, h⟩ := bn_ h
    refine r_putI C (Cn := RX7) (T := TX7) tyX7 5 (mMo.kd (mo_I e_41) (mMo.kd m_39 k_a0 (by decide)) (by decide)) (by decide) vc_X7 in_X7 tyX7_ok nmX7 (by decide) q1229 rfl rfl dX7_readsWeek_235 (pc' := 238) rfl rfl rfl M_44 e_45 ?_
    refine r_goto C dX7_readsWeek_238 (tgt := 31) (by decide) ?_
    refine r_sub (lv' := [(0, .ref a0), (1, .int x1_42)]) [1, 0] rfl ?_
    exact hR M_44 x1_42 (mMo.tr (mMo.tr m_39 (mo_I e_41)) (mo_I e_45)) (mMo.kd (mo_I e_45) (mMo.kd (mo_I e_41) (mMo.kd m_39 k_a0 (by decide)) (by decide)) (by decide)) h
  · have h := it_f h c_26
    refine r_aload_n C dX7_readsWeek_151 (pc' := 152) rfl (j := 0) rfl ?_
    refine r_iload_n C dX7_readsWeek_152 (pc' := 153) rfl (j := 2) rfl ?_
    refine r_bipush C dX7_readsWeek_153 (pc' := 155) rfl (v := 97) rfl ?_
    refine r_isub C dX7_readsWeek_155 (pc' := 156) rfl ?_
    refine r_callVi (As := [.int (x2 - (97 : Int32))]) (rest := []) (Cn := RX7) (T := TX7) C k_a0 (by decide) vc_X7 (S_X7_isPerson k_a0 h) (lw_V q1526 q1528 qs73 q112 q1529) rfl hd_X7_isPerson rfl rfl (Nat.le_of_ble_eq_true rfl) (Nat.le_of_ble_eq_true rfl) (Nat.le_of_ble_eq_true rfl) rfl rfl (Nat.le_of_ble_eq_true rfl) (Nat.le_of_ble_eq_true rfl) dX7_readsWeek_156 (pc' := 159) rfl (fun r_47 M_46 h m_48 => ?_)
    refine r_if_ne C dX7_readsWeek_159 (pc' := 162) rfl (tgt := 173) (by decide) (fun c_49 => ?_) (fun c_49 => ?_)
    · have h := it_f h c_49
      refine r_iconst C dX7_readsWeek_173 (pc' := 174) rfl (v := 0) rfl ?_
      refine r_istore C (lv' := [(4, .int (0 : Int32)), (0, .ref a0), (1, .int x1), (2, .int x2), (3, .int x3)]) dX7_readsWeek_174 (pc' := 176) rfl (0 : Int32) rfl (Nat.le_of_ble_eq_true rfl) rfl ?_
      obtain ⟨n_50, h⟩ := h
      refine r_sub (lv' := [(0, .ref a0), (1, .int x1), (2, .int x2), (3, .int x3), (4, .int (0 : Int32))]) [1, 2, 3, 4, 0] rfl ?_
      refine B_X7_readsWeek_176 C hE n_50 M_46 (0 : Int32) (mMo.kd m_48 k_a0 (by decide)) h (fun M_51 m_52 h => ?_)
      refine r_aload_n C dX7_readsWeek_214 (pc' := 215) rfl (j := 0) rfl ?_
      refine r_aload_n C dX7_readsWeek_215 (pc' := 216) rfl (j := 0) rfl ?_
      refine r_getf C (Cn := RX7) (T := TX7) 46 (mMo.kd m_52 (mMo.kd m_48 k_a0 (by decide)) (by decide)) (by decide) vc_X7 in_X7 (by decide) q1270 dX7_readsWeek_216 (pc' := 219) rfl (v := .int (mgI M_51 a0 46)) rfl ?_
      refine r_iload_n C dX7_readsWeek_219 (pc' := 220) rfl (j := 2) rfl ?_
      refine r_iadd C dX7_readsWeek_220 (pc' := 221) rfl ?_
      obtain ⟨M_53, e_54, h⟩ := bn_ h
      refine r_putI C (Cn := RX7) (T := TX7) tyX7 46 (mMo.kd m_52 (mMo.kd m_48 k_a0 (by decide)) (by decide)) (by decide) vc_X7 in_X7 tyX7_ok nmX7 (by decide) q1270 rfl rfl dX7_readsWeek_221 (pc' := 224) rfl rfl rfl M_53 e_54 ?_
      refine r_iload_n C dX7_readsWeek_224 (pc' := 225) rfl (j := 1) rfl ?_
      refine r_iload_n C dX7_readsWeek_225 (pc' := 226) rfl (j := 2) rfl ?_
      refine r_iadd C dX7_readsWeek_226 (pc' := 227) rfl ?_
      obtain ⟨x1_55, e_56, h⟩ := bn_ h
      refine r_istore_n C (lv' := [(1, .int x1_55), (0, .ref a0), (3, .int x3)]) dX7_readsWeek_227 (pc' := 228) rfl rfl x1_55 e_56 (Nat.le_of_ble_eq_true rfl) rfl ?_
      refine r_aload_n C dX7_readsWeek_228 (pc' := 229) rfl (j := 1) rfl ?_
      refine r_aload_n C dX7_readsWeek_229 (pc' := 230) rfl (j := 1) rfl ?_
      refine r_getf C (Cn := RX7) (T := TX7) 5 (mMo.kd (mo_I e_54) (mMo.kd m_52 (mMo.kd m_48 k_a0 (by decide)) (by decide)) (by decide)) (by decide) vc_X7 in_X7 (by decide) q1229 dX7_readsWeek_230 (pc' := 233) rfl (v := .int (mgI M_53 a0 5)) rfl ?_
      refine r_iconst C dX7_readsWeek_233 (pc' := 234) rfl (v := 1) rfl ?_
      refine r_iadd C dX7_readsWeek_234 (pc' := 235) rfl ?_
      obtain ⟨M_57, e_58, h⟩ := bn_ h
      refine r_putI C (Cn := RX7) (T := TX7) tyX7 5 (mMo.kd (mo_I e_54) (mMo.kd m_52 (mMo.kd m_48 k_a0 (by decide)) (by decide)) (by decide)) (by decide) vc_X7 in_X7 tyX7_ok nmX7 (by decide) q1229 rfl rfl dX7_readsWeek_235 (pc' := 238) rfl rfl rfl M_57 e_58 ?_
      refine r_goto C dX7_readsWeek_238 (tgt := 31) (by decide) ?_
      refine r_sub (lv' := [(0, .ref a0), (1, .int x1_55)]) [1, 0] rfl ?_
      exact hR M_57 x1_55 (mMo.tr (mMo.tr (mMo.tr m_48 m_52) (mo_I e_54)) (mo_I e_58)) (mMo.kd (mo_I e_58) (mMo.kd (mo_I e_54) (mMo.kd m_52 (mMo.kd m_48 k_a0 (by decide)) (by decide)) (by decide)) (by decide)) h
    · have h := it_t h c_49
      refine r_sub (lv' := [(0, .ref a0)]) [0] rfl ?_
      exact hX162 M_46 m_48 h
set_option maxHeartbeats 4000000 in
theorem B_X7_readsWeek_113 {E : mE} {M : MM} {a0 : Nat} {x1 : Int32} {x3 : Int32} {R : MM → Int32 → Prop} {X49 : MM → Prop} {X87 : MM → Prop} {X135 : MM → Prop} {X162 : MM → Prop} {X241 : MM → Prop} {Post : Int32 → MM → Prop} (C : mC E yX7_readsWeek cX7_readsWeek 5 ((some .boolean)) { frames := 2, cells := 0, slots := 0, locals := 42 }) (hE : mEnd E { frames := 2, cells := 0, slots := 0, locals := 42 } (pI_ Post)) (k_a0 : mkd M a0 = 7) (h : wb_X7_readsWeek_113 M a0 x1 x3 R X49 X87 X135 X162 X241) (hR : ∀ (M' : MM) (x1' : Int32), mMo M M' → mkd M' a0 = 7 → R M' x1' → mV E M' 0 0 31 [(0, .ref a0), (1, .int x1')] []) (hX49 : ∀ (M' : MM), mMo M M' → X49 M' → mV E M' 0 0 49 [(0, .ref a0)] []) (hX87 : ∀ (M' : MM), mMo M M' → X87 M' → mV E M' 0 0 87 [(0, .ref a0)] []) (hX135 : ∀ (M' : MM), mMo M M' → X135 M' → mV E M' 0 0 135 [(0, .ref a0)] []) (hX162 : ∀ (M' : MM), mMo M M' → X162 M' → mV E M' 0 0 162 [(0, .ref a0)] []) (hX241 : ∀ (M' : MM), mMo M M' → X241 M' → mV E M' 0 0 241 [(0, .ref a0)] []) : mV E M 0 0 113 [(0, .ref a0), (1, .int x1), (3, .int x3)] [] := by
  unfold wb_X7_readsWeek_113 at h
  refine r_aload_n C dX7_readsWeek_113 (pc' := 114) rfl (j := 0) rfl ?_
  refine r_callVi (As := []) (rest := []) (Cn := RX7) (T := TX7) C k_a0 (by decide) vc_X7 (S_X7_here k_a0 h) (lw_V q1440 q1442 qs56 q112 q1443) rfl hd_X7_here rfl rfl (Nat.le_of_ble_eq_true rfl) (Nat.le_of_ble_eq_true rfl) (Nat.le_of_ble_eq_true rfl) rfl rfl (Nat.le_of_ble_eq_true rfl) (Nat.le_of_ble_eq_true rfl) dX7_readsWeek_114 (pc' := 117) rfl (fun r_23 M_22 h m_24 => ?_)
  refine r_istore_n C (lv' := [(2, .int r_23), (0, .ref a0), (1, .int x1), (3, .int x3)]) dX7_readsWeek_117 (pc' := 118) rfl rfl r_23 rfl (Nat.le_of_ble_eq_true rfl) rfl ?_
  refine r_iload_n C dX7_readsWeek_118 (pc' := 119) rfl (j := 0) rfl ?_
  refine r_bipush C dX7_readsWeek_119 (pc' := 121) rfl (v := 46) rfl ?_
  refine r_icmp_eq C dX7_readsWeek_121 (pc' := 124) rfl (tgt := 145) (by decide) (fun c_25 => ?_) (fun c_25 => ?_)
  · have h := it_t h c_25
    refine r_sub (lv' := [(0, .ref a0), (1, .int x1), (2, .int r_23), (3, .int x3)]) [1, 2, 0, 3] rfl ?_
    exact B_X7_readsWeek_145 C hE (mMo.kd m_24 k_a0 (by decide)) h (fun M8 v0 hm8 g0 h8 => hR M8 v0 (mMo.tr m_24 hm8) g0 h8) (fun M9 hm9 h9 => hX49 M9 (mMo.tr m_24 hm9) h9) (fun M9 hm9 h9 => hX87 M9 (mMo.tr m_24 hm9) h9) (fun M9 hm9 h9 => hX135 M9 (mMo.tr m_24 hm9) h9) (fun M9 hm9 h9 => hX162 M9 (mMo.tr m_24 hm9) h9) (fun M9 hm9 h9 => hX241 M9 (mMo.tr m_24 hm9) h9)
  · have h := it_f h c_25
    refine r_iload_n C dX7_readsWeek_124 (pc' := 125) rfl (j := 0) rfl ?_
    refine r_bipush C dX7_readsWeek_125 (pc' := 127) rfl (v := 97) rfl ?_
    refine r_bipush C dX7_readsWeek_127 (pc' := 129) rfl (v := 104) rfl ?_
    refine r_callSi (As := [.int r_23, .int (97 : Int32), .int (104 : Int32)]) (rest := []) C (S_X7_in h) (lw_S q1391 q1392 q112 q1393) hd_X7_in rfl rfl (Nat.le_of_ble_eq_true rfl) (Nat.le_of_ble_eq_true rfl) (Nat.le_of_ble_eq_true rfl) rfl rfl (Nat.le_of_ble_eq_true rfl) (Nat.le_of_ble_eq_true rfl) dX7_readsWeek_129 (pc' := 132) rfl (fun r_60 M_59 h m_61 => ?_)
    refine r_if_ne C dX7_readsWeek_132 (pc' := 135) rfl (tgt := 145) (by decide) (fun c_62 => ?_) (fun c_62 => ?_)
    · have h := it_f h c_62
      refine r_sub (lv' := [(0, .ref a0), (1, .int x1), (2, .int r_23), (3, .int x3)]) [1, 2, 0, 3] rfl ?_
      exact B_X7_readsWeek_145 C hE (mMo.kd m_61 (mMo.kd m_24 k_a0 (by decide)) (by decide)) h (fun M8 v0 hm8 g0 h8 => hR M8 v0 (mMo.tr (mMo.tr m_24 m_61) hm8) g0 h8) (fun M9 hm9 h9 => hX49 M9 (mMo.tr (mMo.tr m_24 m_61) hm9) h9) (fun M9 hm9 h9 => hX87 M9 (mMo.tr (mMo.tr m_24 m_61) hm9) h9) (fun M9 hm9 h9 => hX135 M9 (mMo.tr (mMo.tr m_24 m_61) hm9) h9) (fun M9 hm9 h9 => hX162 M9 (mMo.tr (mMo.tr m_24 m_61) hm9) h9) (fun M9 hm9 h9 => hX241 M9 (mMo.tr (mMo.tr m_24 m_61) hm9) h9)
    · have h := it_t h c_62
      refine r_sub (lv' := [(0, .ref a0)]) [1] rfl ?_
      exact hX135 M_59 (mMo.tr m_24 m_61) h
set_option maxHeartbeats 4000000 in
theorem B_X7_readsWeek_78 {E : mE} {M : MM} {a0 : Nat} {x1 : Int32} {xs0 : Int32} {R : MM → Int32 → Prop} {X49 : MM → Prop} {X87 : MM → Prop} {X135 : MM → Prop} {X162 : MM → Prop} {X241 : MM → Prop} {Post : Int32 → MM → Prop} (C : mC E yX7_readsWeek cX7_readsWeek 5 ((some .boolean)) { frames := 2, cells := 0, slots := 0, locals := 42 }) (hE : mEnd E { frames := 2, cells := 0, slots := 0, locals := 42 } (pI_ Post)) (k_a0 : mkd M a0 = 7) (h : wb_X7_readsWeek_78 M a0 x1 xs0 R X49 X87 X135 X162 X241) (hR : ∀ (M' : MM) (x1' : Int32), mMo M M' → mkd M' a0 = 7 → R M' x1' → mV E M' 0 0 31 [(0, .ref a0), (1, .int x1')] []) (hX49 : ∀ (M' : MM), mMo M M' → X49 M' → mV E M' 0 0 49 [(0, .ref a0)] []) (hX87 : ∀ (M' : MM), mMo M M' → X87 M' → mV E M' 0 0 87 [(0, .ref a0)] []) (hX135 : ∀ (M' : MM), mMo M M' → X135 M' → mV E M' 0 0 135 [(0, .ref a0)] []) (hX162 : ∀ (M' : MM), mMo M M' → X162 M' → mV E M' 0 0 162 [(0, .ref a0)] []) (hX241 : ∀ (M' : MM), mMo M M' → X241 M' → mV E M' 0 0 241 [(0, .ref a0)] []) : mV E M 0 0 78 [(0, .ref a0), (1, .int x1)] [.int xs0] := by
  unfold wb_X7_readsWeek_78 at h
  refine r_istore_n C (lv' := [(3, .int xs0), (0, .ref a0), (1, .int x1)]) dX7_readsWeek_78 (pc' := 79) rfl rfl xs0 rfl (Nat.le_of_ble_eq_true rfl) rfl ?_
  refine r_iload_n C dX7_readsWeek_79 (pc' := 80) rfl (j := 2) rfl ?_
  refine r_iload_n C dX7_readsWeek_80 (pc' := 81) rfl (j := 0) rfl ?_
  refine r_iadd C dX7_readsWeek_81 (pc' := 82) rfl ?_
  refine r_bipush C dX7_readsWeek_82 (pc' := 84) rfl (v := 7) rfl ?_
  refine r_icmp_le C dX7_readsWeek_84 (pc' := 87) rfl (tgt := 98) (by decide) (fun c_20 => ?_) (fun c_20 => ?_)
  · have h := it_t h c_20
    refine r_iload_n C dX7_readsWeek_98 (pc' := 99) rfl (j := 0) rfl ?_
    refine r_iconst C dX7_readsWeek_99 (pc' := 100) rfl (v := 1) rfl ?_
    refine r_icmp_le C dX7_readsWeek_100 (pc' := 103) rfl (tgt := 113) (by decide) (fun c_21 => ?_) (fun c_21 => ?_)
    · have h := it_t h c_21
      refine r_sub (lv' := [(0, .ref a0), (1, .int x1), (3, .int xs0)]) [1, 2, 0] rfl ?_
      exact B_X7_readsWeek_113 C hE k_a0 h (fun M8 v0 hm8 g0 h8 => hR M8 v0 hm8 g0 h8) (fun M9 hm9 h9 => hX49 M9 hm9 h9) (fun M9 hm9 h9 => hX87 M9 hm9 h9) (fun M9 hm9 h9 => hX135 M9 hm9 h9) (fun M9 hm9 h9 => hX162 M9 hm9 h9) (fun M9 hm9 h9 => hX241 M9 hm9 h9)
    · have h := it_f h c_21
      refine r_aload_n C dX7_readsWeek_103 (pc' := 104) rfl (j := 1) rfl ?_
      refine r_aload_n C dX7_readsWeek_104 (pc' := 105) rfl (j := 1) rfl ?_
      refine r_getf C (Cn := RX7) (T := TX7) 5 k_a0 (by decide) vc_X7 in_X7 (by decide) q1229 dX7_readsWeek_105 (pc' := 108) rfl (v := .int (mgI M a0 5)) rfl ?_
      refine r_iconst C dX7_readsWeek_108 (pc' := 109) rfl (v := 1) rfl ?_
      refine r_iadd C dX7_readsWeek_109 (pc' := 110) rfl ?_
      obtain ⟨M_63, e_64, h⟩ := bn_ h
      refine r_putI C (Cn := RX7) (T := TX7) tyX7 5 k_a0 (by decide) vc_X7 in_X7 tyX7_ok nmX7 (by decide) q1229 rfl rfl dX7_readsWeek_110 (pc' := 113) rfl rfl rfl M_63 e_64 ?_
      refine r_sub (lv' := [(0, .ref a0), (1, .int x1), (3, .int xs0)]) [1, 2, 0] rfl ?_
      exact B_X7_readsWeek_113 C hE (mMo.kd (mo_I e_64) k_a0 (by decide)) h (fun M8 v0 hm8 g0 h8 => hR M8 v0 (mMo.tr (mo_I e_64) hm8) g0 h8) (fun M9 hm9 h9 => hX49 M9 (mMo.tr (mo_I e_64) hm9) h9) (fun M9 hm9 h9 => hX87 M9 (mMo.tr (mo_I e_64) hm9) h9) (fun M9 hm9 h9 => hX135 M9 (mMo.tr (mo_I e_64) hm9) h9) (fun M9 hm9 h9 => hX162 M9 (mMo.tr (mo_I e_64) hm9) h9) (fun M9 hm9 h9 => hX241 M9 (mMo.tr (mo_I e_64) hm9) h9)
  · have h := it_f h c_20
    refine r_sub (lv' := [(0, .ref a0)]) [1] rfl ?_
    exact hX87 M mMo.rf h
set_option maxHeartbeats 4000000 in
theorem B_X7_readsWeek_31 {E : mE} {a0 : Nat} {X49 : MM → Prop} {X87 : MM → Prop} {X135 : MM → Prop} {X162 : MM → Prop} {X241 : MM → Prop} {Post : Int32 → MM → Prop} (C : mC E yX7_readsWeek cX7_readsWeek 5 ((some .boolean)) { frames := 2, cells := 0, slots := 0, locals := 42 }) (hE : mEnd E { frames := 2, cells := 0, slots := 0, locals := 42 } (pI_ Post)) : ∀ (n_ : Nat) (M : MM) (x1 : Int32), mkd M a0 = 7 → wl_X7_readsWeek_31 a0 X49 X87 X135 X162 X241 n_ M x1 → (∀ (M' : MM), mMo M M' → X49 M' → mV E M' 0 0 49 [(0, .ref a0)] []) → (∀ (M' : MM), mMo M M' → X87 M' → mV E M' 0 0 87 [(0, .ref a0)] []) → (∀ (M' : MM), mMo M M' → X135 M' → mV E M' 0 0 135 [(0, .ref a0)] []) → (∀ (M' : MM), mMo M M' → X162 M' → mV E M' 0 0 162 [(0, .ref a0)] []) → (∀ (M' : MM), mMo M M' → X241 M' → mV E M' 0 0 241 [(0, .ref a0)] []) → mV E M 0 0 31 [(0, .ref a0), (1, .int x1)] [] := by
  intro n_
  induction n_ with
  | zero =>
    intro M x1 k_a0 h hX49 hX87 hX135 hX162 hX241
    exact absurd h (by rw [wl_X7_readsWeek_31]; exact fun q => q)
  | succ n_ ih =>
    intro M x1 k_a0 h hX49 hX87 hX135 hX162 hX241
    rw [wl_X7_readsWeek_31] at h
    refine r_iload_n C dX7_readsWeek_31 (pc' := 32) rfl (j := 1) rfl ?_
    refine r_bipush C dX7_readsWeek_32 (pc' := 34) rfl (v := 7) rfl ?_
    refine r_icmp_ge C dX7_readsWeek_34 (pc' := 37) rfl (tgt := 241) (by decide) (fun c_8 => ?_) (fun c_8 => ?_)
    · have h := it_t h c_8
      refine r_sub (lv' := [(0, .ref a0)]) [0] rfl ?_
      exact hX241 M mMo.rf h
    · have h := it_f h c_8
      refine r_aload_n C dX7_readsWeek_37 (pc' := 38) rfl (j := 0) rfl ?_
      refine r_callVi (As := []) (rest := []) (Cn := RX7) (T := TX7) C k_a0 (by decide) vc_X7 (S_X7_here k_a0 h) (lw_V q1440 q1442 qs56 q112 q1443) rfl hd_X7_here rfl rfl (Nat.le_of_ble_eq_true rfl) (Nat.le_of_ble_eq_true rfl) (Nat.le_of_ble_eq_true rfl) rfl rfl (Nat.le_of_ble_eq_true rfl) (Nat.le_of_ble_eq_true rfl) dX7_readsWeek_38 (pc' := 41) rfl (fun r_10 M_9 h m_11 => ?_)
      refine r_istore_n C (lv' := [(2, .int r_10), (0, .ref a0), (1, .int x1)]) dX7_readsWeek_41 (pc' := 42) rfl rfl r_10 rfl (Nat.le_of_ble_eq_true rfl) rfl ?_
      refine r_iload_n C dX7_readsWeek_42 (pc' := 43) rfl (j := 0) rfl ?_
      refine r_callSi (As := [.int r_10]) (rest := []) C (S_X7_isDayAt h) (lw_S q1740 q1741 q112 q1742) hd_X7_isDayAt rfl rfl (Nat.le_of_ble_eq_true rfl) (Nat.le_of_ble_eq_true rfl) (Nat.le_of_ble_eq_true rfl) rfl rfl (Nat.le_of_ble_eq_true rfl) (Nat.le_of_ble_eq_true rfl) dX7_readsWeek_43 (pc' := 46) rfl (fun r_13 M_12 h m_14 => ?_)
      refine r_if_ne C dX7_readsWeek_46 (pc' := 49) rfl (tgt := 59) (by decide) (fun c_15 => ?_) (fun c_15 => ?_)
      · have h := it_f h c_15
        refine r_iload_n C dX7_readsWeek_59 (pc' := 60) rfl (j := 0) rfl ?_
        refine r_bipush C dX7_readsWeek_60 (pc' := 62) rfl (v := 50) rfl ?_
        refine r_bipush C dX7_readsWeek_62 (pc' := 64) rfl (v := 55) rfl ?_
        refine r_callSi (As := [.int r_10, .int (50 : Int32), .int (55 : Int32)]) (rest := []) C (S_X7_in h) (lw_S q1391 q1392 q112 q1393) hd_X7_in rfl rfl (Nat.le_of_ble_eq_true rfl) (Nat.le_of_ble_eq_true rfl) (Nat.le_of_ble_eq_true rfl) rfl rfl (Nat.le_of_ble_eq_true rfl) (Nat.le_of_ble_eq_true rfl) dX7_readsWeek_64 (pc' := 67) rfl (fun r_17 M_16 h m_18 => ?_)
        refine r_if_eq C dX7_readsWeek_67 (pc' := 70) rfl (tgt := 77) (by decide) (fun c_19 => ?_) (fun c_19 => ?_)
        · have h := it_t h c_19
          refine r_iconst C dX7_readsWeek_77 (pc' := 78) rfl (v := 1) rfl ?_
          refine r_sub (lv' := [(0, .ref a0), (1, .int x1)]) [1, 2] rfl ?_
          exact B_X7_readsWeek_78 C hE (mMo.kd m_18 (mMo.kd m_14 (mMo.kd m_11 k_a0 (by decide)) (by decide)) (by decide)) h (fun M8 v0 hm8 g0 h8 => ih M8 v0 g0 h8 (fun M9 hm9 h9 => hX49 M9 (mMo.tr (mMo.tr (mMo.tr (mMo.tr m_11 m_14) m_18) hm8) hm9) h9) (fun M9 hm9 h9 => hX87 M9 (mMo.tr (mMo.tr (mMo.tr (mMo.tr m_11 m_14) m_18) hm8) hm9) h9) (fun M9 hm9 h9 => hX135 M9 (mMo.tr (mMo.tr (mMo.tr (mMo.tr m_11 m_14) m_18) hm8) hm9) h9) (fun M9 hm9 h9 => hX162 M9 (mMo.tr (mMo.tr (mMo.tr (mMo.tr m_11 m_14) m_18) hm8) hm9) h9) (fun M9 hm9 h9 => hX241 M9 (mMo.tr (mMo.tr (mMo.tr (mMo.tr m_11 m_14) m_18) hm8) hm9) h9)) (fun M9 hm9 h9 => hX49 M9 (mMo.tr (mMo.tr (mMo.tr m_11 m_14) m_18) hm9) h9) (fun M9 hm9 h9 => hX87 M9 (mMo.tr (mMo.tr (mMo.tr m_11 m_14) m_18) hm9) h9) (fun M9 hm9 h9 => hX135 M9 (mMo.tr (mMo.tr (mMo.tr m_11 m_14) m_18) hm9) h9) (fun M9 hm9 h9 => hX162 M9 (mMo.tr (mMo.tr (mMo.tr m_11 m_14) m_18) hm9) h9) (fun M9 hm9 h9 => hX241 M9 (mMo.tr (mMo.tr (mMo.tr m_11 m_14) m_18) hm9) h9)
        · have h := it_f h c_19
          refine r_iload_n C dX7_readsWeek_70 (pc' := 71) rfl (j := 0) rfl ?_
          refine r_bipush C dX7_readsWeek_71 (pc' := 73) rfl (v := 48) rfl ?_
          refine r_isub C dX7_readsWeek_73 (pc' := 74) rfl ?_
          refine r_goto C dX7_readsWeek_74 (tgt := 78) (by decide) ?_
          refine r_sub (lv' := [(0, .ref a0), (1, .int x1)]) [1, 2] rfl ?_
          exact B_X7_readsWeek_78 C hE (mMo.kd m_18 (mMo.kd m_14 (mMo.kd m_11 k_a0 (by decide)) (by decide)) (by decide)) h (fun M8 v0 hm8 g0 h8 => ih M8 v0 g0 h8 (fun M9 hm9 h9 => hX49 M9 (mMo.tr (mMo.tr (mMo.tr (mMo.tr m_11 m_14) m_18) hm8) hm9) h9) (fun M9 hm9 h9 => hX87 M9 (mMo.tr (mMo.tr (mMo.tr (mMo.tr m_11 m_14) m_18) hm8) hm9) h9) (fun M9 hm9 h9 => hX135 M9 (mMo.tr (mMo.tr (mMo.tr (mMo.tr m_11 m_14) m_18) hm8) hm9) h9) (fun M9 hm9 h9 => hX162 M9 (mMo.tr (mMo.tr (mMo.tr (mMo.tr m_11 m_14) m_18) hm8) hm9) h9) (fun M9 hm9 h9 => hX241 M9 (mMo.tr (mMo.tr (mMo.tr (mMo.tr m_11 m_14) m_18) hm8) hm9) h9)) (fun M9 hm9 h9 => hX49 M9 (mMo.tr (mMo.tr (mMo.tr m_11 m_14) m_18) hm9) h9) (fun M9 hm9 h9 => hX87 M9 (mMo.tr (mMo.tr (mMo.tr m_11 m_14) m_18) hm9) h9) (fun M9 hm9 h9 => hX135 M9 (mMo.tr (mMo.tr (mMo.tr m_11 m_14) m_18) hm9) h9) (fun M9 hm9 h9 => hX162 M9 (mMo.tr (mMo.tr (mMo.tr m_11 m_14) m_18) hm9) h9) (fun M9 hm9 h9 => hX241 M9 (mMo.tr (mMo.tr (mMo.tr m_11 m_14) m_18) hm9) h9)
      · have h := it_t h c_15
        refine r_sub (lv' := [(0, .ref a0)]) [1] rfl ?_
        exact hX49 M_12 (mMo.tr m_11 m_14) h
set_option maxHeartbeats 4000000 in
theorem S_X7_readsWeek {D : DD} {l : Launch} {M : MM} {a0 : Nat} {Post : Int32 → MM → Prop} (k_a0 : mkd M a0 = 7) (h : wp_X7_readsWeek M a0 Post) : mMet D l yX7_readsWeek cX7_readsWeek 5 ((some .boolean)) { frames := 2, cells := 0, slots := 0, locals := 42 } M [.ref a0] (pI_ Post) := by
  refine m_of2 [(0, .ref a0)] (by decide +kernel) (Nat.le_of_ble_eq_true rfl) rfl (fun E hED hEl C hE => ?_)
  subst hED
  subst hEl
  unfold wp_X7_readsWeek at h
  refine r_iconst C dX7_readsWeek_0 (pc' := 1) rfl (v := 0) rfl ?_
  refine r_istore_n C (lv' := [(1, .int (0 : Int32)), (0, .ref a0)]) dX7_readsWeek_1 (pc' := 2) rfl rfl (0 : Int32) rfl (Nat.le_of_ble_eq_true rfl) rfl ?_
  refine r_aload_n C dX7_readsWeek_2 (pc' := 3) rfl (j := 1) rfl ?_
  refine r_callVi (As := []) (rest := []) (Cn := RX7) (T := TX7) C k_a0 (by decide) vc_X7 (S_X7_here k_a0 h) (lw_V q1440 q1442 qs56 q112 q1443) rfl hd_X7_here rfl rfl (Nat.le_of_ble_eq_true rfl) (Nat.le_of_ble_eq_true rfl) (Nat.le_of_ble_eq_true rfl) rfl rfl (Nat.le_of_ble_eq_true rfl) (Nat.le_of_ble_eq_true rfl) dX7_readsWeek_3 (pc' := 6) rfl (fun r_2 M_1 h m_3 => ?_)
  refine r_callSi (As := [.int r_2]) (rest := []) C (S_X7_isDayAt h) (lw_S q1740 q1741 q112 q1742) hd_X7_isDayAt rfl rfl (Nat.le_of_ble_eq_true rfl) (Nat.le_of_ble_eq_true rfl) (Nat.le_of_ble_eq_true rfl) rfl rfl (Nat.le_of_ble_eq_true rfl) (Nat.le_of_ble_eq_true rfl) dX7_readsWeek_6 (pc' := 9) rfl (fun r_5 M_4 h m_6 => ?_)
  refine r_if_eq C dX7_readsWeek_9 (pc' := 12) rfl (tgt := 31) (by decide) (fun c_7 => ?_) (fun c_7 => ?_)
  · have h := it_t h c_7
    obtain ⟨n_65, h⟩ := h
    refine r_sub (lv' := [(0, .ref a0), (1, .int (0 : Int32))]) [1, 0] rfl ?_
    refine B_X7_readsWeek_31 C hE n_65 M_4 (0 : Int32) (mMo.kd m_6 (mMo.kd m_3 k_a0 (by decide)) (by decide)) h (fun M_66 m_67 h => ?_) (fun M_72 m_73 h => ?_) (fun M_78 m_79 h => ?_) (fun M_84 m_85 h => ?_) (fun M_90 m_91 h => ?_)
    · refine r_aload_n C dX7_readsWeek_49 (pc' := 50) rfl (j := 0) rfl ?_
      refine r_iconst C dX7_readsWeek_50 (pc' := 51) rfl (v := 1) rfl ?_
      refine r_aload_n C dX7_readsWeek_51 (pc' := 52) rfl (j := 0) rfl ?_
      refine r_getf C (Cn := RX7) (T := TX7) 5 (mMo.kd m_67 (mMo.kd m_6 (mMo.kd m_3 k_a0 (by decide)) (by decide)) (by decide)) (by decide) vc_X7 in_X7 (by decide) q1229 dX7_readsWeek_52 (pc' := 55) rfl (v := .int (mgI M_66 a0 5)) rfl ?_
      refine r_callVi (As := [.int (1 : Int32), .int (mgI M_66 a0 5)]) (rest := []) (Cn := RX7) (T := TX7) C (mMo.kd m_67 (mMo.kd m_6 (mMo.kd m_3 k_a0 (by decide)) (by decide)) (by decide)) (by decide) vc_X7 (S_X7_wrongAt (mMo.kd m_67 (mMo.kd m_6 (mMo.kd m_3 k_a0 (by decide)) (by decide)) (by decide)) h) (lw_V q1447 q1449 qs57 q112 q1450) rfl hd_X7_wrongAt rfl rfl (Nat.le_of_ble_eq_true rfl) (Nat.le_of_ble_eq_true rfl) (Nat.le_of_ble_eq_true rfl) rfl rfl (Nat.le_of_ble_eq_true rfl) (Nat.le_of_ble_eq_true rfl) dX7_readsWeek_55 (pc' := 58) rfl (fun r_69 M_68 h m_70 => ?_)
      obtain ⟨c_71, h⟩ := h
      exact r_zret C hE c_71 (Nat.le_of_ble_eq_true rfl) (Nat.le_of_ble_eq_true rfl) dX7_readsWeek_58 ⟨_, rfl, h⟩
    · refine r_aload_n C dX7_readsWeek_87 (pc' := 88) rfl (j := 0) rfl ?_
      refine r_bipush C dX7_readsWeek_88 (pc' := 90) rfl (v := 6) rfl ?_
      refine r_aload_n C dX7_readsWeek_90 (pc' := 91) rfl (j := 0) rfl ?_
      refine r_getf C (Cn := RX7) (T := TX7) 5 (mMo.kd m_73 (mMo.kd m_6 (mMo.kd m_3 k_a0 (by decide)) (by decide)) (by decide)) (by decide) vc_X7 in_X7 (by decide) q1229 dX7_readsWeek_91 (pc' := 94) rfl (v := .int (mgI M_72 a0 5)) rfl ?_
      refine r_callVi (As := [.int (6 : Int32), .int (mgI M_72 a0 5)]) (rest := []) (Cn := RX7) (T := TX7) C (mMo.kd m_73 (mMo.kd m_6 (mMo.kd m_3 k_a0 (by decide)) (by decide)) (by decide)) (by decide) vc_X7 (S_X7_wrongAt (mMo.kd m_73 (mMo.kd m_6 (mMo.kd m_3 k_a0 (by decide)) (by decide)) (by decide)) h) (lw_V q1447 q1449 qs57 q112 q1450) rfl hd_X7_wrongAt rfl rfl (Nat.le_of_ble_eq_true rfl) (Nat.le_of_ble_eq_true rfl) (Nat.le_of_ble_eq_true rfl) rfl rfl (Nat.le_of_ble_eq_true rfl) (Nat.le_of_ble_eq_true rfl) dX7_readsWeek_94 (pc' := 97) rfl (fun r_75 M_74 h m_76 => ?_)
      obtain ⟨c_77, h⟩ := h
      exact r_zret C hE c_77 (Nat.le_of_ble_eq_true rfl) (Nat.le_of_ble_eq_true rfl) dX7_readsWeek_97 ⟨_, rfl, h⟩
    · refine r_aload_n C dX7_readsWeek_135 (pc' := 136) rfl (j := 0) rfl ?_
      refine r_iconst C dX7_readsWeek_136 (pc' := 137) rfl (v := 1) rfl ?_
      refine r_aload_n C dX7_readsWeek_137 (pc' := 138) rfl (j := 0) rfl ?_
      refine r_getf C (Cn := RX7) (T := TX7) 5 (mMo.kd m_79 (mMo.kd m_6 (mMo.kd m_3 k_a0 (by decide)) (by decide)) (by decide)) (by decide) vc_X7 in_X7 (by decide) q1229 dX7_readsWeek_138 (pc' := 141) rfl (v := .int (mgI M_78 a0 5)) rfl ?_
      refine r_callVi (As := [.int (1 : Int32), .int (mgI M_78 a0 5)]) (rest := []) (Cn := RX7) (T := TX7) C (mMo.kd m_79 (mMo.kd m_6 (mMo.kd m_3 k_a0 (by decide)) (by decide)) (by decide)) (by decide) vc_X7 (S_X7_wrongAt (mMo.kd m_79 (mMo.kd m_6 (mMo.kd m_3 k_a0 (by decide)) (by decide)) (by decide)) h) (lw_V q1447 q1449 qs57 q112 q1450) rfl hd_X7_wrongAt rfl rfl (Nat.le_of_ble_eq_true rfl) (Nat.le_of_ble_eq_true rfl) (Nat.le_of_ble_eq_true rfl) rfl rfl (Nat.le_of_ble_eq_true rfl) (Nat.le_of_ble_eq_true rfl) dX7_readsWeek_141 (pc' := 144) rfl (fun r_81 M_80 h m_82 => ?_)
      obtain ⟨c_83, h⟩ := h
      exact r_zret C hE c_83 (Nat.le_of_ble_eq_true rfl) (Nat.le_of_ble_eq_true rfl) dX7_readsWeek_144 ⟨_, rfl, h⟩
    · refine r_aload_n C dX7_readsWeek_162 (pc' := 163) rfl (j := 0) rfl ?_
      refine r_bipush C dX7_readsWeek_163 (pc' := 165) rfl (v := 7) rfl ?_
      refine r_aload_n C dX7_readsWeek_165 (pc' := 166) rfl (j := 0) rfl ?_
      refine r_getf C (Cn := RX7) (T := TX7) 5 (mMo.kd m_85 (mMo.kd m_6 (mMo.kd m_3 k_a0 (by decide)) (by decide)) (by decide)) (by decide) vc_X7 in_X7 (by decide) q1229 dX7_readsWeek_166 (pc' := 169) rfl (v := .int (mgI M_84 a0 5)) rfl ?_
      refine r_callVi (As := [.int (7 : Int32), .int (mgI M_84 a0 5)]) (rest := []) (Cn := RX7) (T := TX7) C (mMo.kd m_85 (mMo.kd m_6 (mMo.kd m_3 k_a0 (by decide)) (by decide)) (by decide)) (by decide) vc_X7 (S_X7_wrongAt (mMo.kd m_85 (mMo.kd m_6 (mMo.kd m_3 k_a0 (by decide)) (by decide)) (by decide)) h) (lw_V q1447 q1449 qs57 q112 q1450) rfl hd_X7_wrongAt rfl rfl (Nat.le_of_ble_eq_true rfl) (Nat.le_of_ble_eq_true rfl) (Nat.le_of_ble_eq_true rfl) rfl rfl (Nat.le_of_ble_eq_true rfl) (Nat.le_of_ble_eq_true rfl) dX7_readsWeek_169 (pc' := 172) rfl (fun r_87 M_86 h m_88 => ?_)
      obtain ⟨c_89, h⟩ := h
      exact r_zret C hE c_89 (Nat.le_of_ble_eq_true rfl) (Nat.le_of_ble_eq_true rfl) dX7_readsWeek_172 ⟨_, rfl, h⟩
    · refine r_aload_n C dX7_readsWeek_241 (pc' := 242) rfl (j := 0) rfl ?_
      refine r_aload_n C dX7_readsWeek_242 (pc' := 243) rfl (j := 0) rfl ?_
      refine r_getf C (Cn := RX7) (T := TX7) 47 (mMo.kd m_91 (mMo.kd m_6 (mMo.kd m_3 k_a0 (by decide)) (by decide)) (by decide)) (by decide) vc_X7 in_X7 (by decide) q1271 dX7_readsWeek_243 (pc' := 246) rfl (v := .int (mgI M_90 a0 47)) rfl ?_
      refine r_iconst C dX7_readsWeek_246 (pc' := 247) rfl (v := 1) rfl ?_
      refine r_iadd C dX7_readsWeek_247 (pc' := 248) rfl ?_
      obtain ⟨M_92, e_93, h⟩ := bn_ h
      refine r_putI C (Cn := RX7) (T := TX7) tyX7 47 (mMo.kd m_91 (mMo.kd m_6 (mMo.kd m_3 k_a0 (by decide)) (by decide)) (by decide)) (by decide) vc_X7 in_X7 tyX7_ok nmX7 (by decide) q1271 rfl rfl dX7_readsWeek_248 (pc' := 251) rfl rfl rfl M_92 e_93 ?_
      refine r_aload_n C dX7_readsWeek_251 (pc' := 252) rfl (j := 0) rfl ?_
      refine r_callVi (As := []) (rest := []) (Cn := RX7) (T := TX7) C (mMo.kd (mo_I e_93) (mMo.kd m_91 (mMo.kd m_6 (mMo.kd m_3 k_a0 (by decide)) (by decide)) (by decide)) (by decide)) (by decide) vc_X7 (S_X7_here (mMo.kd (mo_I e_93) (mMo.kd m_91 (mMo.kd m_6 (mMo.kd m_3 k_a0 (by decide)) (by decide)) (by decide)) (by decide)) h) (lw_V q1440 q1442 qs56 q112 q1443) rfl hd_X7_here rfl rfl (Nat.le_of_ble_eq_true rfl) (Nat.le_of_ble_eq_true rfl) (Nat.le_of_ble_eq_true rfl) rfl rfl (Nat.le_of_ble_eq_true rfl) (Nat.le_of_ble_eq_true rfl) dX7_readsWeek_252 (pc' := 255) rfl (fun r_95 M_94 h m_96 => ?_)
      refine r_callSi (As := [.int r_95]) (rest := []) C (S_X7_isDayAt h) (lw_S q1740 q1741 q112 q1742) hd_X7_isDayAt rfl rfl (Nat.le_of_ble_eq_true rfl) (Nat.le_of_ble_eq_true rfl) (Nat.le_of_ble_eq_true rfl) rfl rfl (Nat.le_of_ble_eq_true rfl) (Nat.le_of_ble_eq_true rfl) dX7_readsWeek_255 (pc' := 258) rfl (fun r_98 M_97 h m_99 => ?_)
      refine r_if_eq C dX7_readsWeek_258 (pc' := 261) rfl (tgt := 274) (by decide) (fun c_100 => ?_) (fun c_100 => ?_)
      · have h := it_t h c_100
        refine r_iconst C dX7_readsWeek_274 (pc' := 275) rfl (v := 1) rfl ?_
        refine r_goto C dX7_readsWeek_275 (tgt := 279) (by decide) ?_
        exact r_zret C hE (Or.inr rfl) (Nat.le_of_ble_eq_true rfl) (Nat.le_of_ble_eq_true rfl) dX7_readsWeek_279 ⟨_, rfl, h⟩
      · have h := it_f h c_100
        refine r_aload_n C dX7_readsWeek_261 (pc' := 262) rfl (j := 0) rfl ?_
        refine r_bipush C dX7_readsWeek_262 (pc' := 264) rfl (v := 6) rfl ?_
        refine r_aload_n C dX7_readsWeek_264 (pc' := 265) rfl (j := 0) rfl ?_
        refine r_getf C (Cn := RX7) (T := TX7) 5 (mMo.kd m_99 (mMo.kd m_96 (mMo.kd (mo_I e_93) (mMo.kd m_91 (mMo.kd m_6 (mMo.kd m_3 k_a0 (by decide)) (by decide)) (by decide)) (by decide)) (by decide)) (by decide)) (by decide) vc_X7 in_X7 (by decide) q1229 dX7_readsWeek_265 (pc' := 268) rfl (v := .int (mgI M_97 a0 5)) rfl ?_
        refine r_callVi (As := [.int (6 : Int32), .int (mgI M_97 a0 5)]) (rest := []) (Cn := RX7) (T := TX7) C (mMo.kd m_99 (mMo.kd m_96 (mMo.kd (mo_I e_93) (mMo.kd m_91 (mMo.kd m_6 (mMo.kd m_3 k_a0 (by decide)) (by decide)) (by decide)) (by decide)) (by decide)) (by decide)) (by decide) vc_X7 (S_X7_wrongAt (mMo.kd m_99 (mMo.kd m_96 (mMo.kd (mo_I e_93) (mMo.kd m_91 (mMo.kd m_6 (mMo.kd m_3 k_a0 (by decide)) (by decide)) (by decide)) (by decide)) (by decide)) (by decide)) h) (lw_V q1447 q1449 qs57 q112 q1450) rfl hd_X7_wrongAt rfl rfl (Nat.le_of_ble_eq_true rfl) (Nat.le_of_ble_eq_true rfl) (Nat.le_of_ble_eq_true rfl) rfl rfl (Nat.le_of_ble_eq_true rfl) (Nat.le_of_ble_eq_true rfl) dX7_readsWeek_268 (pc' := 271) rfl (fun r_102 M_101 h m_103 => ?_)
        refine r_if_eq C dX7_readsWeek_271 (pc' := 274) rfl (tgt := 278) (by decide) (fun c_104 => ?_) (fun c_104 => ?_)
        · have h := it_t h c_104
          refine r_iconst C dX7_readsWeek_278 (pc' := 279) rfl (v := 0) rfl ?_
          exact r_zret C hE (Or.inl rfl) (Nat.le_of_ble_eq_true rfl) (Nat.le_of_ble_eq_true rfl) dX7_readsWeek_279 ⟨_, rfl, h⟩
        · have h := it_f h c_104
          refine r_iconst C dX7_readsWeek_274 (pc' := 275) rfl (v := 1) rfl ?_
          refine r_goto C dX7_readsWeek_275 (tgt := 279) (by decide) ?_
          exact r_zret C hE (Or.inr rfl) (Nat.le_of_ble_eq_true rfl) (Nat.le_of_ble_eq_true rfl) dX7_readsWeek_279 ⟨_, rfl, h⟩
  · have h := it_f h c_7
    refine r_aload_n C dX7_readsWeek_12 (pc' := 13) rfl (j := 1) rfl ?_
    refine r_getf C (Cn := RX7) (T := TX7) 47 (mMo.kd m_6 (mMo.kd m_3 k_a0 (by decide)) (by decide)) (by decide) vc_X7 in_X7 (by decide) q1271 dX7_readsWeek_13 (pc' := 16) rfl (v := .int (mgI M_4 a0 47)) rfl ?_
    refine r_bipush C dX7_readsWeek_16 (pc' := 18) rfl (v := 12) rfl ?_
    refine r_icmp_ne C dX7_readsWeek_18 (pc' := 21) rfl (tgt := 31) (by decide) (fun c_105 => ?_) (fun c_105 => ?_)
    · have h := it_f h c_105
      obtain ⟨n_106, h⟩ := h
      refine r_sub (lv' := [(0, .ref a0), (1, .int (0 : Int32))]) [1, 0] rfl ?_
      refine B_X7_readsWeek_31 C hE n_106 M_4 (0 : Int32) (mMo.kd m_6 (mMo.kd m_3 k_a0 (by decide)) (by decide)) h (fun M_107 m_108 h => ?_) (fun M_113 m_114 h => ?_) (fun M_119 m_120 h => ?_) (fun M_125 m_126 h => ?_) (fun M_131 m_132 h => ?_)
      · refine r_aload_n C dX7_readsWeek_49 (pc' := 50) rfl (j := 0) rfl ?_
        refine r_iconst C dX7_readsWeek_50 (pc' := 51) rfl (v := 1) rfl ?_
        refine r_aload_n C dX7_readsWeek_51 (pc' := 52) rfl (j := 0) rfl ?_
        refine r_getf C (Cn := RX7) (T := TX7) 5 (mMo.kd m_108 (mMo.kd m_6 (mMo.kd m_3 k_a0 (by decide)) (by decide)) (by decide)) (by decide) vc_X7 in_X7 (by decide) q1229 dX7_readsWeek_52 (pc' := 55) rfl (v := .int (mgI M_107 a0 5)) rfl ?_
        refine r_callVi (As := [.int (1 : Int32), .int (mgI M_107 a0 5)]) (rest := []) (Cn := RX7) (T := TX7) C (mMo.kd m_108 (mMo.kd m_6 (mMo.kd m_3 k_a0 (by decide)) (by decide)) (by decide)) (by decide) vc_X7 (S_X7_wrongAt (mMo.kd m_108 (mMo.kd m_6 (mMo.kd m_3 k_a0 (by decide)) (by decide)) (by decide)) h) (lw_V q1447 q1449 qs57 q112 q1450) rfl hd_X7_wrongAt rfl rfl (Nat.le_of_ble_eq_true rfl) (Nat.le_of_ble_eq_true rfl) (Nat.le_of_ble_eq_true rfl) rfl rfl (Nat.le_of_ble_eq_true rfl) (Nat.le_of_ble_eq_true rfl) dX7_readsWeek_55 (pc' := 58) rfl (fun r_110 M_109 h m_111 => ?_)
        obtain ⟨c_112, h⟩ := h
        exact r_zret C hE c_112 (Nat.le_of_ble_eq_true rfl) (Nat.le_of_ble_eq_true rfl) dX7_readsWeek_58 ⟨_, rfl, h⟩
      · refine r_aload_n C dX7_readsWeek_87 (pc' := 88) rfl (j := 0) rfl ?_
        refine r_bipush C dX7_readsWeek_88 (pc' := 90) rfl (v := 6) rfl ?_
        refine r_aload_n C dX7_readsWeek_90 (pc' := 91) rfl (j := 0) rfl ?_
        refine r_getf C (Cn := RX7) (T := TX7) 5 (mMo.kd m_114 (mMo.kd m_6 (mMo.kd m_3 k_a0 (by decide)) (by decide)) (by decide)) (by decide) vc_X7 in_X7 (by decide) q1229 dX7_readsWeek_91 (pc' := 94) rfl (v := .int (mgI M_113 a0 5)) rfl ?_
        refine r_callVi (As := [.int (6 : Int32), .int (mgI M_113 a0 5)]) (rest := []) (Cn := RX7) (T := TX7) C (mMo.kd m_114 (mMo.kd m_6 (mMo.kd m_3 k_a0 (by decide)) (by decide)) (by decide)) (by decide) vc_X7 (S_X7_wrongAt (mMo.kd m_114 (mMo.kd m_6 (mMo.kd m_3 k_a0 (by decide)) (by decide)) (by decide)) h) (lw_V q1447 q1449 qs57 q112 q1450) rfl hd_X7_wrongAt rfl rfl (Nat.le_of_ble_eq_true rfl) (Nat.le_of_ble_eq_true rfl) (Nat.le_of_ble_eq_true rfl) rfl rfl (Nat.le_of_ble_eq_true rfl) (Nat.le_of_ble_eq_true rfl) dX7_readsWeek_94 (pc' := 97) rfl (fun r_116 M_115 h m_117 => ?_)
        obtain ⟨c_118, h⟩ := h
        exact r_zret C hE c_118 (Nat.le_of_ble_eq_true rfl) (Nat.le_of_ble_eq_true rfl) dX7_readsWeek_97 ⟨_, rfl, h⟩
      · refine r_aload_n C dX7_readsWeek_135 (pc' := 136) rfl (j := 0) rfl ?_
        refine r_iconst C dX7_readsWeek_136 (pc' := 137) rfl (v := 1) rfl ?_
        refine r_aload_n C dX7_readsWeek_137 (pc' := 138) rfl (j := 0) rfl ?_
        refine r_getf C (Cn := RX7) (T := TX7) 5 (mMo.kd m_120 (mMo.kd m_6 (mMo.kd m_3 k_a0 (by decide)) (by decide)) (by decide)) (by decide) vc_X7 in_X7 (by decide) q1229 dX7_readsWeek_138 (pc' := 141) rfl (v := .int (mgI M_119 a0 5)) rfl ?_
        refine r_callVi (As := [.int (1 : Int32), .int (mgI M_119 a0 5)]) (rest := []) (Cn := RX7) (T := TX7) C (mMo.kd m_120 (mMo.kd m_6 (mMo.kd m_3 k_a0 (by decide)) (by decide)) (by decide)) (by decide) vc_X7 (S_X7_wrongAt (mMo.kd m_120 (mMo.kd m_6 (mMo.kd m_3 k_a0 (by decide)) (by decide)) (by decide)) h) (lw_V q1447 q1449 qs57 q112 q1450) rfl hd_X7_wrongAt rfl rfl (Nat.le_of_ble_eq_true rfl) (Nat.le_of_ble_eq_true rfl) (Nat.le_of_ble_eq_true rfl) rfl rfl (Nat.le_of_ble_eq_true rfl) (Nat.le_of_ble_eq_true rfl) dX7_readsWeek_141 (pc' := 144) rfl (fun r_122 M_121 h m_123 => ?_)
        obtain ⟨c_124, h⟩ := h
        exact r_zret C hE c_124 (Nat.le_of_ble_eq_true rfl) (Nat.le_of_ble_eq_true rfl) dX7_readsWeek_144 ⟨_, rfl, h⟩
      · refine r_aload_n C dX7_readsWeek_162 (pc' := 163) rfl (j := 0) rfl ?_
        refine r_bipush C dX7_readsWeek_163 (pc' := 165) rfl (v := 7) rfl ?_
        refine r_aload_n C dX7_readsWeek_165 (pc' := 166) rfl (j := 0) rfl ?_
        refine r_getf C (Cn := RX7) (T := TX7) 5 (mMo.kd m_126 (mMo.kd m_6 (mMo.kd m_3 k_a0 (by decide)) (by decide)) (by decide)) (by decide) vc_X7 in_X7 (by decide) q1229 dX7_readsWeek_166 (pc' := 169) rfl (v := .int (mgI M_125 a0 5)) rfl ?_
        refine r_callVi (As := [.int (7 : Int32), .int (mgI M_125 a0 5)]) (rest := []) (Cn := RX7) (T := TX7) C (mMo.kd m_126 (mMo.kd m_6 (mMo.kd m_3 k_a0 (by decide)) (by decide)) (by decide)) (by decide) vc_X7 (S_X7_wrongAt (mMo.kd m_126 (mMo.kd m_6 (mMo.kd m_3 k_a0 (by decide)) (by decide)) (by decide)) h) (lw_V q1447 q1449 qs57 q112 q1450) rfl hd_X7_wrongAt rfl rfl (Nat.le_of_ble_eq_true rfl) (Nat.le_of_ble_eq_true rfl) (Nat.le_of_ble_eq_true rfl) rfl rfl (Nat.le_of_ble_eq_true rfl) (Nat.le_of_ble_eq_true rfl) dX7_readsWeek_169 (pc' := 172) rfl (fun r_128 M_127 h m_129 => ?_)
        obtain ⟨c_130, h⟩ := h
        exact r_zret C hE c_130 (Nat.le_of_ble_eq_true rfl) (Nat.le_of_ble_eq_true rfl) dX7_readsWeek_172 ⟨_, rfl, h⟩
      · refine r_aload_n C dX7_readsWeek_241 (pc' := 242) rfl (j := 0) rfl ?_
        refine r_aload_n C dX7_readsWeek_242 (pc' := 243) rfl (j := 0) rfl ?_
        refine r_getf C (Cn := RX7) (T := TX7) 47 (mMo.kd m_132 (mMo.kd m_6 (mMo.kd m_3 k_a0 (by decide)) (by decide)) (by decide)) (by decide) vc_X7 in_X7 (by decide) q1271 dX7_readsWeek_243 (pc' := 246) rfl (v := .int (mgI M_131 a0 47)) rfl ?_
        refine r_iconst C dX7_readsWeek_246 (pc' := 247) rfl (v := 1) rfl ?_
        refine r_iadd C dX7_readsWeek_247 (pc' := 248) rfl ?_
        obtain ⟨M_133, e_134, h⟩ := bn_ h
        refine r_putI C (Cn := RX7) (T := TX7) tyX7 47 (mMo.kd m_132 (mMo.kd m_6 (mMo.kd m_3 k_a0 (by decide)) (by decide)) (by decide)) (by decide) vc_X7 in_X7 tyX7_ok nmX7 (by decide) q1271 rfl rfl dX7_readsWeek_248 (pc' := 251) rfl rfl rfl M_133 e_134 ?_
        refine r_aload_n C dX7_readsWeek_251 (pc' := 252) rfl (j := 0) rfl ?_
        refine r_callVi (As := []) (rest := []) (Cn := RX7) (T := TX7) C (mMo.kd (mo_I e_134) (mMo.kd m_132 (mMo.kd m_6 (mMo.kd m_3 k_a0 (by decide)) (by decide)) (by decide)) (by decide)) (by decide) vc_X7 (S_X7_here (mMo.kd (mo_I e_134) (mMo.kd m_132 (mMo.kd m_6 (mMo.kd m_3 k_a0 (by decide)) (by decide)) (by decide)) (by decide)) h) (lw_V q1440 q1442 qs56 q112 q1443) rfl hd_X7_here rfl rfl (Nat.le_of_ble_eq_true rfl) (Nat.le_of_ble_eq_true rfl) (Nat.le_of_ble_eq_true rfl) rfl rfl (Nat.le_of_ble_eq_true rfl) (Nat.le_of_ble_eq_true rfl) dX7_readsWeek_252 (pc' := 255) rfl (fun r_136 M_135 h m_137 => ?_)
        refine r_callSi (As := [.int r_136]) (rest := []) C (S_X7_isDayAt h) (lw_S q1740 q1741 q112 q1742) hd_X7_isDayAt rfl rfl (Nat.le_of_ble_eq_true rfl) (Nat.le_of_ble_eq_true rfl) (Nat.le_of_ble_eq_true rfl) rfl rfl (Nat.le_of_ble_eq_true rfl) (Nat.le_of_ble_eq_true rfl) dX7_readsWeek_255 (pc' := 258) rfl (fun r_139 M_138 h m_140 => ?_)
        refine r_if_eq C dX7_readsWeek_258 (pc' := 261) rfl (tgt := 274) (by decide) (fun c_141 => ?_) (fun c_141 => ?_)
        · have h := it_t h c_141
          refine r_iconst C dX7_readsWeek_274 (pc' := 275) rfl (v := 1) rfl ?_
          refine r_goto C dX7_readsWeek_275 (tgt := 279) (by decide) ?_
          exact r_zret C hE (Or.inr rfl) (Nat.le_of_ble_eq_true rfl) (Nat.le_of_ble_eq_true rfl) dX7_readsWeek_279 ⟨_, rfl, h⟩
        · have h := it_f h c_141
          refine r_aload_n C dX7_readsWeek_261 (pc' := 262) rfl (j := 0) rfl ?_
          refine r_bipush C dX7_readsWeek_262 (pc' := 264) rfl (v := 6) rfl ?_
          refine r_aload_n C dX7_readsWeek_264 (pc' := 265) rfl (j := 0) rfl ?_
          refine r_getf C (Cn := RX7) (T := TX7) 5 (mMo.kd m_140 (mMo.kd m_137 (mMo.kd (mo_I e_134) (mMo.kd m_132 (mMo.kd m_6 (mMo.kd m_3 k_a0 (by decide)) (by decide)) (by decide)) (by decide)) (by decide)) (by decide)) (by decide) vc_X7 in_X7 (by decide) q1229 dX7_readsWeek_265 (pc' := 268) rfl (v := .int (mgI M_138 a0 5)) rfl ?_
          refine r_callVi (As := [.int (6 : Int32), .int (mgI M_138 a0 5)]) (rest := []) (Cn := RX7) (T := TX7) C (mMo.kd m_140 (mMo.kd m_137 (mMo.kd (mo_I e_134) (mMo.kd m_132 (mMo.kd m_6 (mMo.kd m_3 k_a0 (by decide)) (by decide)) (by decide)) (by decide)) (by decide)) (by decide)) (by decide) vc_X7 (S_X7_wrongAt (mMo.kd m_140 (mMo.kd m_137 (mMo.kd (mo_I e_134) (mMo.kd m_132 (mMo.kd m_6 (mMo.kd m_3 k_a0 (by decide)) (by decide)) (by decide)) (by decide)) (by decide)) (by decide)) h) (lw_V q1447 q1449 qs57 q112 q1450) rfl hd_X7_wrongAt rfl rfl (Nat.le_of_ble_eq_true rfl) (Nat.le_of_ble_eq_true rfl) (Nat.le_of_ble_eq_true rfl) rfl rfl (Nat.le_of_ble_eq_true rfl) (Nat.le_of_ble_eq_true rfl) dX7_readsWeek_268 (pc' := 271) rfl (fun r_143 M_142 h m_144 => ?_)
          refine r_if_eq C dX7_readsWeek_271 (pc' := 274) rfl (tgt := 278) (by decide) (fun c_145 => ?_) (fun c_145 => ?_)
          · have h := it_t h c_145
            refine r_iconst C dX7_readsWeek_278 (pc' := 279) rfl (v := 0) rfl ?_
            exact r_zret C hE (Or.inl rfl) (Nat.le_of_ble_eq_true rfl) (Nat.le_of_ble_eq_true rfl) dX7_readsWeek_279 ⟨_, rfl, h⟩
          · have h := it_f h c_145
            refine r_iconst C dX7_readsWeek_274 (pc' := 275) rfl (v := 1) rfl ?_
            refine r_goto C dX7_readsWeek_275 (tgt := 279) (by decide) ?_
            exact r_zret C hE (Or.inr rfl) (Nat.le_of_ble_eq_true rfl) (Nat.le_of_ble_eq_true rfl) dX7_readsWeek_279 ⟨_, rfl, h⟩
    · have h := it_t h c_105
      refine r_aload_n C dX7_readsWeek_21 (pc' := 22) rfl (j := 1) rfl ?_
      refine r_iconst C dX7_readsWeek_22 (pc' := 23) rfl (v := 4) rfl ?_
      refine r_aload_n C dX7_readsWeek_23 (pc' := 24) rfl (j := 1) rfl ?_
      refine r_getf C (Cn := RX7) (T := TX7) 5 (mMo.kd m_6 (mMo.kd m_3 k_a0 (by decide)) (by decide)) (by decide) vc_X7 in_X7 (by decide) q1229 dX7_readsWeek_24 (pc' := 27) rfl (v := .int (mgI M_4 a0 5)) rfl ?_
      refine r_callVi (As := [.int (4 : Int32), .int (mgI M_4 a0 5)]) (rest := []) (Cn := RX7) (T := TX7) C (mMo.kd m_6 (mMo.kd m_3 k_a0 (by decide)) (by decide)) (by decide) vc_X7 (S_X7_wrongAt (mMo.kd m_6 (mMo.kd m_3 k_a0 (by decide)) (by decide)) h) (lw_V q1447 q1449 qs57 q112 q1450) rfl hd_X7_wrongAt rfl rfl (Nat.le_of_ble_eq_true rfl) (Nat.le_of_ble_eq_true rfl) (Nat.le_of_ble_eq_true rfl) rfl rfl (Nat.le_of_ble_eq_true rfl) (Nat.le_of_ble_eq_true rfl) dX7_readsWeek_27 (pc' := 30) rfl (fun r_147 M_146 h m_148 => ?_)
      obtain ⟨c_149, h⟩ := h
      exact r_zret C hE c_149 (Nat.le_of_ble_eq_true rfl) (Nat.le_of_ble_eq_true rfl) dX7_readsWeek_30 ⟨_, rfl, h⟩
set_option maxHeartbeats 4000000 in
theorem B_X7_rota_87 {E : mE} {a0 : Nat} {x1 : Int32} {x3 : Int32} {X129 : MM → Int32 → Prop} {Post : Int32 → MM → Prop} (C : mC E yX7_rota cX7_rota 7 ((some .int)) { frames := 6, cells := 0, slots := 0, locals := 142 }) (hE : mEnd E { frames := 6, cells := 0, slots := 0, locals := 142 } (pI_ Post)) : ∀ (n_ : Nat) (M : MM) (x4 : Int32), mkd M a0 = 7 → wl_X7_rota_87 a0 x1 x3 X129 n_ M x4 → (∀ (M' : MM) (x4' : Int32), mMo M M' → X129 M' x4' → mV E M' 0 0 129 [(0, .ref a0), (1, .int x1), (3, .int x3), (4, .int x4')] []) → mV E M 0 0 87 [(0, .ref a0), (1, .int x1), (3, .int x3), (4, .int x4)] [] := by
  intro n_
  induction n_ with
  | zero =>
    intro M x4 k_a0 h hX129
    exact absurd h (by rw [wl_X7_rota_87]; exact fun q => q)
  | succ n_ ih =>
    intro M x4 k_a0 h hX129
    rw [wl_X7_rota_87] at h
    refine r_iload C dX7_rota_87 (pc' := 89) rfl (j := 3) rfl ?_
    refine r_if_eq C dX7_rota_89 (pc' := 92) rfl (tgt := 129) (by decide) (fun c_30 => ?_) (fun c_30 => ?_)
    · have h := it_t h c_30
      refine r_sub (lv' := [(0, .ref a0), (1, .int x1), (3, .int x3), (4, .int x4)]) [0, 1, 2, 3] rfl ?_
      exact hX129 M x4 mMo.rf h
    · have h := it_f h c_30
      refine r_aload_n C dX7_rota_92 (pc' := 93) rfl (j := 0) rfl ?_
      refine r_getf C (Cn := RX7) (T := TX7) 5 k_a0 (by decide) vc_X7 in_X7 (by decide) q1229 dX7_rota_93 (pc' := 96) rfl (v := .int (mgI M a0 5)) rfl ?_
      refine r_aload_n C dX7_rota_96 (pc' := 97) rfl (j := 0) rfl ?_
      refine r_getf C (Cn := RX7) (T := TX7) 6 k_a0 (by decide) vc_X7 in_X7 (by decide) q1230 dX7_rota_97 (pc' := 100) rfl (v := .int (mgI M a0 6)) rfl ?_
      refine r_icmp_ge C dX7_rota_100 (pc' := 103) rfl (tgt := 129) (by decide) (fun c_31 => ?_) (fun c_31 => ?_)
      · have h := it_t h c_31
        refine r_sub (lv' := [(0, .ref a0), (1, .int x1), (3, .int x3), (4, .int x4)]) [0, 1, 2, 3] rfl ?_
        exact hX129 M x4 mMo.rf h
      · have h := it_f h c_31
        refine r_aload_n C dX7_rota_103 (pc' := 104) rfl (j := 0) rfl ?_
        refine r_bipush C dX7_rota_104 (pc' := 106) rfl (v := 47) rfl ?_
        refine r_callVi (As := [.int (47 : Int32)]) (rest := []) (Cn := RX7) (T := TX7) C k_a0 (by decide) vc_X7 (S_X7_takes k_a0 h) (lw_V q1514 q1516 qs72 q112 q1517) rfl hd_X7_takes rfl rfl (Nat.le_of_ble_eq_true rfl) (Nat.le_of_ble_eq_true rfl) (Nat.le_of_ble_eq_true rfl) rfl rfl (Nat.le_of_ble_eq_true rfl) (Nat.le_of_ble_eq_true rfl) dX7_rota_106 (pc' := 109) rfl (fun r_33 M_32 h m_34 => ?_)
        refine r_if_eq C dX7_rota_109 (pc' := 112) rfl (tgt := 123) (by decide) (fun c_35 => ?_) (fun c_35 => ?_)
        · have h := it_t h c_35
          refine r_iconst C dX7_rota_123 (pc' := 124) rfl (v := 0) rfl ?_
          refine r_istore C (lv' := [(4, .int (0 : Int32)), (0, .ref a0), (1, .int x1), (3, .int x3)]) dX7_rota_124 (pc' := 126) rfl (0 : Int32) rfl (Nat.le_of_ble_eq_true rfl) rfl ?_
          refine r_goto C dX7_rota_126 (tgt := 87) (by decide) ?_
          refine r_sub (lv' := [(0, .ref a0), (1, .int x1), (3, .int x3), (4, .int (0 : Int32))]) [1, 2, 3, 0] rfl ?_
          exact ih M_32 (0 : Int32) (mMo.kd m_34 k_a0 (by decide)) h (fun M9 w0 hm9 h9 => hX129 M9 w0 (mMo.tr m_34 hm9) h9)
        · have h := it_f h c_35
          refine r_aload_n C dX7_rota_112 (pc' := 113) rfl (j := 0) rfl ?_
          refine r_callVi (As := []) (rest := []) (Cn := RX7) (T := TX7) C (mMo.kd m_34 k_a0 (by decide)) (by decide) vc_X7 (S_X7_readsWeek (mMo.kd m_34 k_a0 (by decide)) h) (lw_V q1736 q1738 qs98 q112 q1739) rfl hd_X7_readsWeek rfl rfl (Nat.le_of_ble_eq_true rfl) (Nat.le_of_ble_eq_true rfl) (Nat.le_of_ble_eq_true rfl) rfl rfl (Nat.le_of_ble_eq_true rfl) (Nat.le_of_ble_eq_true rfl) dX7_rota_113 (pc' := 116) rfl (fun r_37 M_36 h m_38 => ?_)
          refine r_if_eq C dX7_rota_116 (pc' := 119) rfl (tgt := 123) (by decide) (fun c_39 => ?_) (fun c_39 => ?_)
          · have h := it_t h c_39
            refine r_iconst C dX7_rota_123 (pc' := 124) rfl (v := 0) rfl ?_
            refine r_istore C (lv' := [(4, .int (0 : Int32)), (0, .ref a0), (1, .int x1), (3, .int x3)]) dX7_rota_124 (pc' := 126) rfl (0 : Int32) rfl (Nat.le_of_ble_eq_true rfl) rfl ?_
            refine r_goto C dX7_rota_126 (tgt := 87) (by decide) ?_
            refine r_sub (lv' := [(0, .ref a0), (1, .int x1), (3, .int x3), (4, .int (0 : Int32))]) [1, 2, 3, 0] rfl ?_
            exact ih M_36 (0 : Int32) (mMo.kd m_38 (mMo.kd m_34 k_a0 (by decide)) (by decide)) h (fun M9 w0 hm9 h9 => hX129 M9 w0 (mMo.tr (mMo.tr m_34 m_38) hm9) h9)
          · have h := it_f h c_39
            refine r_iconst C dX7_rota_119 (pc' := 120) rfl (v := 1) rfl ?_
            refine r_goto C dX7_rota_120 (tgt := 124) (by decide) ?_
            refine r_istore C (lv' := [(4, .int (1 : Int32)), (0, .ref a0), (1, .int x1), (3, .int x3)]) dX7_rota_124 (pc' := 126) rfl (1 : Int32) rfl (Nat.le_of_ble_eq_true rfl) rfl ?_
            refine r_goto C dX7_rota_126 (tgt := 87) (by decide) ?_
            refine r_sub (lv' := [(0, .ref a0), (1, .int x1), (3, .int x3), (4, .int (1 : Int32))]) [1, 2, 3, 0] rfl ?_
            exact ih M_36 (1 : Int32) (mMo.kd m_38 (mMo.kd m_34 k_a0 (by decide)) (by decide)) h (fun M9 w0 hm9 h9 => hX129 M9 w0 (mMo.tr (mMo.tr m_34 m_38) hm9) h9)
set_option maxHeartbeats 4000000 in
theorem B_X7_rota_165 {E : mE} {a0 : Nat} {x3 : Int32} {X204 : MM → Int32 → Prop} {Post : Int32 → MM → Prop} (C : mC E yX7_rota cX7_rota 7 ((some .int)) { frames := 6, cells := 0, slots := 0, locals := 142 }) (hE : mEnd E { frames := 6, cells := 0, slots := 0, locals := 142 } (pI_ Post)) : ∀ (n_ : Nat) (M : MM) (x5 : Int32) (x6 : Int32), mkd M a0 = 7 → wl_X7_rota_165 a0 x3 X204 n_ M x5 x6 → (∀ (M' : MM) (x5' : Int32), mMo M M' → X204 M' x5' → mV E M' 0 0 204 [(5, .int x5')] []) → mV E M 0 0 165 [(0, .ref a0), (3, .int x3), (5, .int x5), (6, .int x6)] [] := by
  intro n_
  induction n_ with
  | zero =>
    intro M x5 x6 k_a0 h hX204
    exact absurd h (by rw [wl_X7_rota_165]; exact fun q => q)
  | succ n_ ih =>
    intro M x5 x6 k_a0 h hX204
    rw [wl_X7_rota_165] at h
    refine r_iload C dX7_rota_165 (pc' := 167) rfl (j := 3) rfl ?_
    refine r_aload_n C dX7_rota_167 (pc' := 168) rfl (j := 0) rfl ?_
    refine r_getf C (Cn := RX7) (T := TX7) 46 k_a0 (by decide) vc_X7 in_X7 (by decide) q1270 dX7_rota_168 (pc' := 171) rfl (v := .int (mgI M a0 46)) rfl ?_
    refine r_icmp_ge C dX7_rota_171 (pc' := 174) rfl (tgt := 204) (by decide) (fun c_53 => ?_) (fun c_53 => ?_)
    · have h := it_t h c_53
      refine r_sub (lv' := [(5, .int x5)]) [2] rfl ?_
      exact hX204 M x5 mMo.rf h
    · have h := it_f h c_53
      refine r_iload C dX7_rota_174 (pc' := 176) rfl (j := 2) rfl ?_
      refine r_aload_n C dX7_rota_176 (pc' := 177) rfl (j := 0) rfl ?_
      refine r_getf C (Cn := RX7) (T := TX7) 48 k_a0 (by decide) vc_X7 in_X7 (by decide) q1272 dX7_rota_177 (pc' := 180) rfl (v := va_rf (mgR M a0 48)) rfl ?_
      obtain ⟨b_54, e_55, k_56, h⟩ := h
      refine r_ref [] e_55 ?_
      refine r_iload C dX7_rota_180 (pc' := 182) rfl (j := 3) rfl ?_
      obtain ⟨c_57, h⟩ := h
      refine r_iald C (j := (ix_ x6)) k_56 c_57 rfl dX7_rota_182 (pc' := 183) rfl ?_
      refine r_iload_n C dX7_rota_183 (pc' := 184) rfl (j := 1) rfl ?_
      refine r_bipush C dX7_rota_184 (pc' := 186) rfl (v := 10) rfl ?_
      refine r_isub C dX7_rota_186 (pc' := 187) rfl ?_
      refine r_icmp_ne C dX7_rota_187 (pc' := 190) rfl (tgt := 194) (by decide) (fun c_58 => ?_) (fun c_58 => ?_)
      · have h := it_f h c_58
        refine r_iconst C dX7_rota_194 (pc' := 195) rfl (v := 0) rfl ?_
        refine r_iadd C dX7_rota_195 (pc' := 196) rfl ?_
        obtain ⟨x5_59, e_60, h⟩ := bn_ h
        refine r_istore C (lv' := [(5, .int x5_59), (0, .ref a0), (3, .int x3), (6, .int x6)]) dX7_rota_196 (pc' := 198) rfl x5_59 e_60 (Nat.le_of_ble_eq_true rfl) rfl ?_
        obtain ⟨x6_61, e_62, h⟩ := bn_ h
        refine r_iinc C (lv' := [(6, .int x6_61), (5, .int x5_59), (0, .ref a0), (3, .int x3)]) dX7_rota_198 (pc' := 201) rfl (j := 3) rfl x6_61 (by rw [e_62]; rfl) (Nat.le_of_ble_eq_true rfl) rfl ?_
        refine r_goto C dX7_rota_201 (tgt := 165) (by decide) ?_
        refine r_sub (lv' := [(0, .ref a0), (3, .int x3), (5, .int x5_59), (6, .int x6_61)]) [2, 3, 1, 0] rfl ?_
        exact ih M x5_59 x6_61 k_a0 h (fun M9 w0 hm9 h9 => hX204 M9 w0 hm9 h9)
      · have h := it_t h c_58
        refine r_iconst C dX7_rota_190 (pc' := 191) rfl (v := 1) rfl ?_
        refine r_goto C dX7_rota_191 (tgt := 195) (by decide) ?_
        refine r_iadd C dX7_rota_195 (pc' := 196) rfl ?_
        obtain ⟨x5_63, e_64, h⟩ := bn_ h
        refine r_istore C (lv' := [(5, .int x5_63), (0, .ref a0), (3, .int x3), (6, .int x6)]) dX7_rota_196 (pc' := 198) rfl x5_63 e_64 (Nat.le_of_ble_eq_true rfl) rfl ?_
        obtain ⟨x6_65, e_66, h⟩ := bn_ h
        refine r_iinc C (lv' := [(6, .int x6_65), (5, .int x5_63), (0, .ref a0), (3, .int x3)]) dX7_rota_198 (pc' := 201) rfl (j := 3) rfl x6_65 (by rw [e_66]; rfl) (Nat.le_of_ble_eq_true rfl) rfl ?_
        refine r_goto C dX7_rota_201 (tgt := 165) (by decide) ?_
        refine r_sub (lv' := [(0, .ref a0), (3, .int x3), (5, .int x5_63), (6, .int x6_65)]) [2, 3, 1, 0] rfl ?_
        exact ih M x5_63 x6_65 k_a0 h (fun M9 w0 hm9 h9 => hX204 M9 w0 hm9 h9)
set_option maxHeartbeats 4000000 in
theorem B_X7_rota_129 {E : mE} {M : MM} {a0 : Nat} {x1 : Int32} {x3 : Int32} {x4 : Int32} {Post : Int32 → MM → Prop} (C : mC E yX7_rota cX7_rota 7 ((some .int)) { frames := 6, cells := 0, slots := 0, locals := 142 }) (hE : mEnd E { frames := 6, cells := 0, slots := 0, locals := 142 } (pI_ Post)) (k_a0 : mkd M a0 = 7) (h : wb_X7_rota_129 M a0 x1 x3 x4 Post) : mV E M 0 0 129 [(0, .ref a0), (1, .int x1), (3, .int x3), (4, .int x4)] [] := by
  unfold wb_X7_rota_129 at h
  refine r_aload_n C dX7_rota_129 (pc' := 130) rfl (j := 0) rfl ?_
  refine r_iconst C dX7_rota_130 (pc' := 131) rfl (v := 0) rfl ?_
  obtain ⟨M_44, e_45, h⟩ := bn_ h
  refine r_putI C (Cn := RX7) (T := TX7) tyX7 4 k_a0 (by decide) vc_X7 in_X7 tyX7_ok nmX7 (by decide) q1228 rfl rfl dX7_rota_131 (pc' := 134) rfl rfl rfl M_44 e_45 ?_
  refine r_iload C dX7_rota_134 (pc' := 136) rfl (j := 3) rfl ?_
  refine r_if_ne C dX7_rota_136 (pc' := 139) rfl (tgt := 144) (by decide) (fun c_46 => ?_) (fun c_46 => ?_)
  · have h := it_f h c_46
    refine r_iload_n C dX7_rota_144 (pc' := 145) rfl (j := 2) rfl ?_
    refine r_if_ne C dX7_rota_145 (pc' := 148) rfl (tgt := 153) (by decide) (fun c_47 => ?_) (fun c_47 => ?_)
    · have h := it_f h c_47
      refine r_iload_n C dX7_rota_153 (pc' := 154) rfl (j := 2) rfl ?_
      refine r_bipush C dX7_rota_154 (pc' := 156) rfl (v := 10) rfl ?_
      refine r_icmp_lt C dX7_rota_156 (pc' := 159) rfl (tgt := 207) (by decide) (fun c_48 => ?_) (fun c_48 => ?_)
      · have h := it_t h c_48
        refine r_aload_n C dX7_rota_207 (pc' := 208) rfl (j := 0) rfl ?_
        refine r_iload_n C dX7_rota_208 (pc' := 209) rfl (j := 1) rfl ?_
        refine r_callVv (As := [.int x1]) (rest := []) (Cn := RX7) (T := TX7) C (mMo.kd (mo_I e_45) k_a0 (by decide)) (by decide) vc_X7 (S_X7_goesByRota (mMo.kd (mo_I e_45) k_a0 (by decide)) h) (lw_V q1743 q1745 qs99 q112 q1746) rfl hd_X7_goesByRota rfl rfl (Nat.le_of_ble_eq_true rfl) (Nat.le_of_ble_eq_true rfl) (Nat.le_of_ble_eq_true rfl) rfl rfl (Nat.le_of_ble_eq_true rfl) (Nat.le_of_ble_eq_true rfl) dX7_rota_209 (pc' := 212) rfl (fun M_49 h m_51 => ?_)
        refine r_iload_n C dX7_rota_212 (pc' := 213) rfl (j := 2) rfl ?_
        refine r_iconst C dX7_rota_213 (pc' := 214) rfl (v := 1) rfl ?_
        refine r_icmp_ne C dX7_rota_214 (pc' := 217) rfl (tgt := 224) (by decide) (fun c_52 => ?_) (fun c_52 => ?_)
        · have h := it_f h c_52
          refine r_aload_n C dX7_rota_224 (pc' := 225) rfl (j := 0) rfl ?_
          refine r_getf C (Cn := RX7) (T := TX7) 50 (mMo.kd m_51 (mMo.kd (mo_I e_45) k_a0 (by decide)) (by decide)) (by decide) vc_X7 in_X7 (by decide) q1274 dX7_rota_225 (pc' := 228) rfl (v := .int (mgI M_49 a0 50)) rfl ?_
          exact r_iret C hE (Nat.le_of_ble_eq_true rfl) (Nat.le_of_ble_eq_true rfl) dX7_rota_228 ⟨_, rfl, h⟩
        · have h := it_t h c_52
          refine r_aload_n C dX7_rota_217 (pc' := 218) rfl (j := 0) rfl ?_
          refine r_getf C (Cn := RX7) (T := TX7) 49 (mMo.kd m_51 (mMo.kd (mo_I e_45) k_a0 (by decide)) (by decide)) (by decide) vc_X7 in_X7 (by decide) q1273 dX7_rota_218 (pc' := 221) rfl (v := .int (mgI M_49 a0 49)) rfl ?_
          refine r_goto C dX7_rota_221 (tgt := 228) (by decide) ?_
          exact r_iret C hE (Nat.le_of_ble_eq_true rfl) (Nat.le_of_ble_eq_true rfl) dX7_rota_228 ⟨_, rfl, h⟩
      · have h := it_f h c_48
        refine r_iconst C dX7_rota_159 (pc' := 160) rfl (v := 0) rfl ?_
        refine r_istore C (lv' := [(5, .int (0 : Int32)), (0, .ref a0), (1, .int x1), (3, .int x3), (4, .int x4)]) dX7_rota_160 (pc' := 162) rfl (0 : Int32) rfl (Nat.le_of_ble_eq_true rfl) rfl ?_
        refine r_iconst C dX7_rota_162 (pc' := 163) rfl (v := 0) rfl ?_
        refine r_istore C (lv' := [(6, .int (0 : Int32)), (5, .int (0 : Int32)), (0, .ref a0), (1, .int x1), (3, .int x3), (4, .int x4)]) dX7_rota_163 (pc' := 165) rfl (0 : Int32) rfl (Nat.le_of_ble_eq_true rfl) rfl ?_
        obtain ⟨n_67, h⟩ := h
        refine r_sub (lv' := [(0, .ref a0), (3, .int x3), (5, .int (0 : Int32)), (6, .int (0 : Int32))]) [2, 4, 1, 0] rfl ?_
        refine B_X7_rota_165 C hE n_67 M_44 (0 : Int32) (0 : Int32) (mMo.kd (mo_I e_45) k_a0 (by decide)) h (fun M_68 x5_70 m_69 h => ?_)
        refine r_iload C dX7_rota_204 (pc' := 206) rfl (j := 0) rfl ?_
        exact r_iret C hE (Nat.le_of_ble_eq_true rfl) (Nat.le_of_ble_eq_true rfl) dX7_rota_206 ⟨_, rfl, h⟩
    · have h := it_t h c_47
      refine r_aload_n C dX7_rota_148 (pc' := 149) rfl (j := 0) rfl ?_
      refine r_getf C (Cn := RX7) (T := TX7) 46 (mMo.kd (mo_I e_45) k_a0 (by decide)) (by decide) vc_X7 in_X7 (by decide) q1270 dX7_rota_149 (pc' := 152) rfl (v := .int (mgI M_44 a0 46)) rfl ?_
      exact r_iret C hE (Nat.le_of_ble_eq_true rfl) (Nat.le_of_ble_eq_true rfl) dX7_rota_152 ⟨_, rfl, h⟩
  · have h := it_t h c_46
    refine r_aload_n C dX7_rota_139 (pc' := 140) rfl (j := 0) rfl ?_
    refine r_getf C (Cn := RX7) (T := TX7) 7 (mMo.kd (mo_I e_45) k_a0 (by decide)) (by decide) vc_X7 in_X7 (by decide) q1231 dX7_rota_140 (pc' := 143) rfl (v := .int (mgI M_44 a0 7)) rfl ?_
    exact r_iret C hE (Nat.le_of_ble_eq_true rfl) (Nat.le_of_ble_eq_true rfl) dX7_rota_143 ⟨_, rfl, h⟩
set_option maxHeartbeats 4000000 in
theorem B_X7_rota_38 {E : mE} {M : MM} {a0 : Nat} {x1 : Int32} {x2 : Int32} {x3 : Int32} {Post : Int32 → MM → Prop} (C : mC E yX7_rota cX7_rota 7 ((some .int)) { frames := 6, cells := 0, slots := 0, locals := 142 }) (hE : mEnd E { frames := 6, cells := 0, slots := 0, locals := 142 } (pI_ Post)) (k_a0 : mkd M a0 = 7) (h : wb_X7_rota_38 M a0 x1 x2 x3 Post) : mV E M 0 0 38 [(0, .ref a0), (1, .int x1), (2, .int x2), (3, .int x3)] [] := by
  unfold wb_X7_rota_38 at h
  refine r_iload_n C dX7_rota_38 (pc' := 39) rfl (j := 2) rfl ?_
  refine r_aload_n C dX7_rota_39 (pc' := 40) rfl (j := 0) rfl ?_
  refine r_getf C (Cn := RX7) (T := TX7) 4 k_a0 (by decide) vc_X7 in_X7 (by decide) q1228 dX7_rota_40 (pc' := 43) rfl (v := .int (mgI M a0 4)) rfl ?_
  refine r_icmp_gt C dX7_rota_43 (pc' := 46) rfl (tgt := 59) (by decide) (fun c_13 => ?_) (fun c_13 => ?_)
  · have h := it_t h c_13
    refine r_iconst C dX7_rota_59 (pc' := 60) rfl (v := -1) rfl ?_
    exact r_iret C hE (Nat.le_of_ble_eq_true rfl) (Nat.le_of_ble_eq_true rfl) dX7_rota_60 ⟨_, rfl, h⟩
  · have h := it_f h c_13
    refine r_aload_n C dX7_rota_46 (pc' := 47) rfl (j := 0) rfl ?_
    refine r_getf C (Cn := RX7) (T := TX7) 0 k_a0 (by decide) vc_X7 in_X7 (by decide) q1224 dX7_rota_47 (pc' := 50) rfl (v := va_rf (mgR M a0 0)) rfl ?_
    obtain ⟨b_14, e_15, k_16, h⟩ := h
    refine r_ref [] e_15 ?_
    refine r_bipush C dX7_rota_50 (pc' := 52) rfl (v := 79) rfl ?_
    obtain ⟨c_17, h⟩ := h
    refine r_iald C (j := 79) k_16 (vp_l (by decide) (by decide) c_17) (by decide) dX7_rota_52 (pc' := 53) rfl ?_
    refine r_sipush C dX7_rota_53 (pc' := 56) rfl (v := 9915) rfl ?_
    refine r_icmp_le C dX7_rota_56 (pc' := 59) rfl (tgt := 61) (by decide) (fun c_18 => ?_) (fun c_18 => ?_)
    · have h := it_t h c_18
      refine r_aload_n C dX7_rota_61 (pc' := 62) rfl (j := 0) rfl ?_
      refine r_iconst C dX7_rota_62 (pc' := 63) rfl (v := 0) rfl ?_
      obtain ⟨M_19, e_20, h⟩ := bn_ h
      refine r_putI C (Cn := RX7) (T := TX7) tyX7 5 k_a0 (by decide) vc_X7 in_X7 tyX7_ok nmX7 (by decide) q1229 rfl rfl dX7_rota_63 (pc' := 66) rfl rfl rfl M_19 e_20 ?_
      refine r_aload_n C dX7_rota_66 (pc' := 67) rfl (j := 0) rfl ?_
      refine r_iload_n C dX7_rota_67 (pc' := 68) rfl (j := 2) rfl ?_
      obtain ⟨M_21, e_22, h⟩ := bn_ h
      refine r_putI C (Cn := RX7) (T := TX7) tyX7 6 (mMo.kd (mo_I e_20) k_a0 (by decide)) (by decide) vc_X7 in_X7 tyX7_ok nmX7 (by decide) q1230 rfl rfl dX7_rota_68 (pc' := 71) rfl rfl rfl M_21 e_22 ?_
      refine r_aload_n C dX7_rota_71 (pc' := 72) rfl (j := 0) rfl ?_
      refine r_iconst C dX7_rota_72 (pc' := 73) rfl (v := 0) rfl ?_
      obtain ⟨M_23, e_24, h⟩ := bn_ h
      refine r_putI C (Cn := RX7) (T := TX7) tyX7 46 (mMo.kd (mo_I e_22) (mMo.kd (mo_I e_20) k_a0 (by decide)) (by decide)) (by decide) vc_X7 in_X7 tyX7_ok nmX7 (by decide) q1270 rfl rfl dX7_rota_73 (pc' := 76) rfl rfl rfl M_23 e_24 ?_
      refine r_aload_n C dX7_rota_76 (pc' := 77) rfl (j := 0) rfl ?_
      refine r_iconst C dX7_rota_77 (pc' := 78) rfl (v := 0) rfl ?_
      obtain ⟨M_25, e_26, h⟩ := bn_ h
      refine r_putI C (Cn := RX7) (T := TX7) tyX7 47 (mMo.kd (mo_I e_24) (mMo.kd (mo_I e_22) (mMo.kd (mo_I e_20) k_a0 (by decide)) (by decide)) (by decide)) (by decide) vc_X7 in_X7 tyX7_ok nmX7 (by decide) q1271 rfl rfl dX7_rota_78 (pc' := 81) rfl rfl rfl M_25 e_26 ?_
      refine r_aload_n C dX7_rota_81 (pc' := 82) rfl (j := 0) rfl ?_
      refine r_callVi (As := []) (rest := []) (Cn := RX7) (T := TX7) C (mMo.kd (mo_I e_26) (mMo.kd (mo_I e_24) (mMo.kd (mo_I e_22) (mMo.kd (mo_I e_20) k_a0 (by decide)) (by decide)) (by decide)) (by decide)) (by decide) vc_X7 (S_X7_readsWeek (mMo.kd (mo_I e_26) (mMo.kd (mo_I e_24) (mMo.kd (mo_I e_22) (mMo.kd (mo_I e_20) k_a0 (by decide)) (by decide)) (by decide)) (by decide)) h) (lw_V q1736 q1738 qs98 q112 q1739) rfl hd_X7_readsWeek rfl rfl (Nat.le_of_ble_eq_true rfl) (Nat.le_of_ble_eq_true rfl) (Nat.le_of_ble_eq_true rfl) rfl rfl (Nat.le_of_ble_eq_true rfl) (Nat.le_of_ble_eq_true rfl) dX7_rota_82 (pc' := 85) rfl (fun r_28 M_27 h m_29 => ?_)
      refine r_istore C (lv' := [(4, .int r_28), (0, .ref a0), (1, .int x1), (2, .int x2), (3, .int x3)]) dX7_rota_85 (pc' := 87) rfl r_28 rfl (Nat.le_of_ble_eq_true rfl) rfl ?_
      obtain ⟨n_40, h⟩ := h
      refine r_sub (lv' := [(0, .ref a0), (1, .int x1), (3, .int x3), (4, .int r_28)]) [1, 2, 4, 0] rfl ?_
      refine B_X7_rota_87 C hE n_40 M_27 r_28 (mMo.kd m_29 (mMo.kd (mo_I e_26) (mMo.kd (mo_I e_24) (mMo.kd (mo_I e_22) (mMo.kd (mo_I e_20) k_a0 (by decide)) (by decide)) (by decide)) (by decide)) (by decide)) h (fun M_41 x4_43 m_42 h => ?_)
      refine r_sub (lv' := [(0, .ref a0), (1, .int x1), (3, .int x3), (4, .int x4_43)]) [0, 1, 2, 3] rfl ?_
      exact B_X7_rota_129 C hE (mMo.kd m_42 (mMo.kd m_29 (mMo.kd (mo_I e_26) (mMo.kd (mo_I e_24) (mMo.kd (mo_I e_22) (mMo.kd (mo_I e_20) k_a0 (by decide)) (by decide)) (by decide)) (by decide)) (by decide)) (by decide)) h
    · have h := it_f h c_18
      refine r_iconst C dX7_rota_59 (pc' := 60) rfl (v := -1) rfl ?_
      exact r_iret C hE (Nat.le_of_ble_eq_true rfl) (Nat.le_of_ble_eq_true rfl) dX7_rota_60 ⟨_, rfl, h⟩
set_option maxHeartbeats 4000000 in
theorem S_X7_rota {D : DD} {l : Launch} {M : MM} {a0 : Nat} {x1 : Int32} {x2 : Int32} {x3 : Int32} {Post : Int32 → MM → Prop} (k_a0 : mkd M a0 = 7) (h : wp_X7_rota M a0 x1 x2 x3 Post) : mMet D l yX7_rota cX7_rota 7 ((some .int)) { frames := 6, cells := 0, slots := 0, locals := 142 } M [.ref a0, .int x1, .int x2, .int x3] (pI_ Post) := by
  refine m_of2 [(0, .ref a0), (1, .int x1), (2, .int x2), (3, .int x3)] (by decide +kernel) (Nat.le_of_ble_eq_true rfl) rfl (fun E hED hEl C hE => ?_)
  subst hED
  subst hEl
  unfold wp_X7_rota at h
  refine r_aload_n C dX7_rota_0 (pc' := 1) rfl (j := 0) rfl ?_
  refine r_iload_n C dX7_rota_1 (pc' := 2) rfl (j := 1) rfl ?_
  refine r_callVi (As := [.int x1]) (rest := []) (Cn := RX7) (T := TX7) C k_a0 (by decide) vc_X7 (S_X7_lives k_a0 h) (lw_V q1413 q1415 qs52 q112 q1416) rfl hd_X7_lives rfl rfl (Nat.le_of_ble_eq_true rfl) (Nat.le_of_ble_eq_true rfl) (Nat.le_of_ble_eq_true rfl) rfl rfl (Nat.le_of_ble_eq_true rfl) (Nat.le_of_ble_eq_true rfl) dX7_rota_2 (pc' := 5) rfl (fun r_2 M_1 h m_3 => ?_)
  refine r_if_eq C dX7_rota_5 (pc' := 8) rfl (tgt := 59) (by decide) (fun c_4 => ?_) (fun c_4 => ?_)
  · have h := it_t h c_4
    refine r_iconst C dX7_rota_59 (pc' := 60) rfl (v := -1) rfl ?_
    exact r_iret C hE (Nat.le_of_ble_eq_true rfl) (Nat.le_of_ble_eq_true rfl) dX7_rota_60 ⟨_, rfl, h⟩
  · have h := it_f h c_4
    refine r_iload_n C dX7_rota_8 (pc' := 9) rfl (j := 2) rfl ?_
    refine r_iconst C dX7_rota_9 (pc' := 10) rfl (v := 1) rfl ?_
    refine r_bipush C dX7_rota_10 (pc' := 12) rfl (v := 90) rfl ?_
    refine r_callSi (As := [.int x2, .int (1 : Int32), .int (90 : Int32)]) (rest := []) C (S_X7_in h) (lw_S q1391 q1392 q112 q1393) hd_X7_in rfl rfl (Nat.le_of_ble_eq_true rfl) (Nat.le_of_ble_eq_true rfl) (Nat.le_of_ble_eq_true rfl) rfl rfl (Nat.le_of_ble_eq_true rfl) (Nat.le_of_ble_eq_true rfl) dX7_rota_12 (pc' := 15) rfl (fun r_6 M_5 h m_7 => ?_)
    refine r_if_eq C dX7_rota_15 (pc' := 18) rfl (tgt := 59) (by decide) (fun c_8 => ?_) (fun c_8 => ?_)
    · have h := it_t h c_8
      refine r_iconst C dX7_rota_59 (pc' := 60) rfl (v := -1) rfl ?_
      exact r_iret C hE (Nat.le_of_ble_eq_true rfl) (Nat.le_of_ble_eq_true rfl) dX7_rota_60 ⟨_, rfl, h⟩
    · have h := it_f h c_8
      refine r_iload_n C dX7_rota_18 (pc' := 19) rfl (j := 3) rfl ?_
      refine r_iconst C dX7_rota_19 (pc' := 20) rfl (v := 0) rfl ?_
      refine r_iconst C dX7_rota_20 (pc' := 21) rfl (v := 2) rfl ?_
      refine r_callSi (As := [.int x3, .int (0 : Int32), .int (2 : Int32)]) (rest := []) C (S_X7_in h) (lw_S q1391 q1392 q112 q1393) hd_X7_in rfl rfl (Nat.le_of_ble_eq_true rfl) (Nat.le_of_ble_eq_true rfl) (Nat.le_of_ble_eq_true rfl) rfl rfl (Nat.le_of_ble_eq_true rfl) (Nat.le_of_ble_eq_true rfl) dX7_rota_21 (pc' := 24) rfl (fun r_10 M_9 h m_11 => ?_)
      refine r_if_ne C dX7_rota_24 (pc' := 27) rfl (tgt := 38) (by decide) (fun c_12 => ?_) (fun c_12 => ?_)
      · have h := it_f h c_12
        refine r_sub (lv' := [(0, .ref a0), (1, .int x1), (2, .int x2), (3, .int x3)]) [0, 1, 2, 3] rfl ?_
        exact B_X7_rota_38 C hE (mMo.kd m_11 (mMo.kd m_7 (mMo.kd m_3 k_a0 (by decide)) (by decide)) (by decide)) h
      · have h := it_t h c_12
        refine r_iload_n C dX7_rota_27 (pc' := 28) rfl (j := 3) rfl ?_
        refine r_bipush C dX7_rota_28 (pc' := 30) rfl (v := 10) rfl ?_
        refine r_bipush C dX7_rota_30 (pc' := 32) rfl (v := 17) rfl ?_
        refine r_callSi (As := [.int x3, .int (10 : Int32), .int (17 : Int32)]) (rest := []) C (S_X7_in h) (lw_S q1391 q1392 q112 q1393) hd_X7_in rfl rfl (Nat.le_of_ble_eq_true rfl) (Nat.le_of_ble_eq_true rfl) (Nat.le_of_ble_eq_true rfl) rfl rfl (Nat.le_of_ble_eq_true rfl) (Nat.le_of_ble_eq_true rfl) dX7_rota_32 (pc' := 35) rfl (fun r_72 M_71 h m_73 => ?_)
        refine r_if_eq C dX7_rota_35 (pc' := 38) rfl (tgt := 59) (by decide) (fun c_74 => ?_) (fun c_74 => ?_)
        · have h := it_t h c_74
          refine r_iconst C dX7_rota_59 (pc' := 60) rfl (v := -1) rfl ?_
          exact r_iret C hE (Nat.le_of_ble_eq_true rfl) (Nat.le_of_ble_eq_true rfl) dX7_rota_60 ⟨_, rfl, h⟩
        · have h := it_f h c_74
          refine r_sub (lv' := [(0, .ref a0), (1, .int x1), (2, .int x2), (3, .int x3)]) [0, 1, 2, 3] rfl ?_
          exact B_X7_rota_38 C hE (mMo.kd m_73 (mMo.kd m_11 (mMo.kd m_7 (mMo.kd m_3 k_a0 (by decide)) (by decide)) (by decide)) (by decide)) h
set_option maxHeartbeats 4000000 in
theorem S_X7_gainOf {D : DD} {l : Launch} {M : MM} {a0 : Nat} {x1 : Int32} {x2 : Int32} {Post : Int32 → MM → Prop} (k_a0 : mkd M a0 = 7) (h : wp_X7_gainOf M a0 x1 x2 Post) : mMet D l yX7_gainOf cX7_gainOf 3 ((some .int)) { frames := 1, cells := 0, slots := 0, locals := 21 } M [.ref a0, .int x1, .int x2] (pI_ Post) := by
  refine m_of2 [(0, .ref a0), (1, .int x1), (2, .int x2)] (by decide +kernel) (Nat.le_of_ble_eq_true rfl) rfl (fun E hED hEl C hE => ?_)
  subst hED
  subst hEl
  unfold wp_X7_gainOf at h
  refine r_iload_n C dX7_gainOf_0 (pc' := 1) rfl (j := 1) rfl ?_
  refine r_iload_n C dX7_gainOf_1 (pc' := 2) rfl (j := 2) rfl ?_
  refine r_callSi (As := [.int x1, .int x2]) (rest := []) C (S_X7_has h) (lw_S q1406 q1407 q112 q1408) hd_X7_has rfl rfl (Nat.le_of_ble_eq_true rfl) (Nat.le_of_ble_eq_true rfl) (Nat.le_of_ble_eq_true rfl) rfl rfl (Nat.le_of_ble_eq_true rfl) (Nat.le_of_ble_eq_true rfl) dX7_gainOf_2 (pc' := 5) rfl (fun r_2 M_1 h m_3 => ?_)
  refine r_if_eq C dX7_gainOf_5 (pc' := 8) rfl (tgt := 22) (by decide) (fun c_4 => ?_) (fun c_4 => ?_)
  · have h := it_t h c_4
    refine r_iload_n C dX7_gainOf_22 (pc' := 23) rfl (j := 1) rfl ?_
    refine r_if_ne C dX7_gainOf_23 (pc' := 26) rfl (tgt := 30) (by decide) (fun c_5 => ?_) (fun c_5 => ?_)
    · have h := it_f h c_5
      refine r_aload_n C dX7_gainOf_30 (pc' := 31) rfl (j := 0) rfl ?_
      refine r_getf C (Cn := RX7) (T := TX7) 52 (mMo.kd m_3 k_a0 (by decide)) (by decide) vc_X7 in_X7 (by decide) q1276 dX7_gainOf_31 (pc' := 34) rfl (v := va_rf (mgR M_1 a0 52)) rfl ?_
      obtain ⟨b_6, e_7, k_8, h⟩ := h
      refine r_ref [] e_7 ?_
      refine r_iload_n C dX7_gainOf_34 (pc' := 35) rfl (j := 2) rfl ?_
      obtain ⟨c_9, h⟩ := h
      refine r_iald C (j := (ix_ x2)) k_8 c_9 rfl dX7_gainOf_35 (pc' := 36) rfl ?_
      exact r_iret C hE (Nat.le_of_ble_eq_true rfl) (Nat.le_of_ble_eq_true rfl) dX7_gainOf_36 ⟨_, rfl, h⟩
    · have h := it_t h c_5
      refine r_iconst C dX7_gainOf_26 (pc' := 27) rfl (v := 0) rfl ?_
      refine r_goto C dX7_gainOf_27 (tgt := 36) (by decide) ?_
      exact r_iret C hE (Nat.le_of_ble_eq_true rfl) (Nat.le_of_ble_eq_true rfl) dX7_gainOf_36 ⟨_, rfl, h⟩
  · have h := it_f h c_4
    refine r_aload_n C dX7_gainOf_8 (pc' := 9) rfl (j := 0) rfl ?_
    refine r_getf C (Cn := RX7) (T := TX7) 52 (mMo.kd m_3 k_a0 (by decide)) (by decide) vc_X7 in_X7 (by decide) q1276 dX7_gainOf_9 (pc' := 12) rfl (v := va_rf (mgR M_1 a0 52)) rfl ?_
    obtain ⟨b_10, e_11, k_12, h⟩ := h
    refine r_ref [] e_11 ?_
    refine r_iload_n C dX7_gainOf_12 (pc' := 13) rfl (j := 2) rfl ?_
    obtain ⟨c_13, h⟩ := h
    refine r_iald C (j := (ix_ x2)) k_12 c_13 rfl dX7_gainOf_13 (pc' := 14) rfl ?_
    refine r_aload_n C dX7_gainOf_14 (pc' := 15) rfl (j := 0) rfl ?_
    refine r_getf C (Cn := RX7) (T := TX7) 51 (mMo.kd m_3 k_a0 (by decide)) (by decide) vc_X7 in_X7 (by decide) q1275 dX7_gainOf_15 (pc' := 18) rfl (v := va_rf (mgR M_1 a0 51)) rfl ?_
    obtain ⟨b_14, e_15, k_16, h⟩ := h
    refine r_ref [] e_15 ?_
    refine r_iload_n C dX7_gainOf_18 (pc' := 19) rfl (j := 2) rfl ?_
    obtain ⟨c_17, h⟩ := h
    refine r_iald C (j := (ix_ x2)) k_16 c_17 rfl dX7_gainOf_19 (pc' := 20) rfl ?_
    refine r_isub C dX7_gainOf_20 (pc' := 21) rfl ?_
    exact r_iret C hE (Nat.le_of_ble_eq_true rfl) (Nat.le_of_ble_eq_true rfl) dX7_gainOf_21 ⟨_, rfl, h⟩
set_option maxHeartbeats 4000000 in
theorem B_X7_laysAlone_2 {E : mE} {a0 : Nat} {x1 : Int32} {X56 : MM → Prop} {Post : MM → Prop} (C : mC E yX7_laysAlone cX7_laysAlone 3 (none) { frames := 3, cells := 0, slots := 0, locals := 74 }) (hE : mEnd E { frames := 3, cells := 0, slots := 0, locals := 74 } (pV_ Post)) : ∀ (n_ : Nat) (M : MM) (x2 : Int32), mkd M a0 = 7 → wl_X7_laysAlone_2 a0 x1 X56 n_ M x2 → (∀ (M' : MM), mMo M M' → X56 M' → mV E M' 0 0 56 [] []) → mV E M 0 0 2 [(0, .ref a0), (1, .int x1), (2, .int x2)] [] := by
  intro n_
  induction n_ with
  | zero =>
    intro M x2 k_a0 h hX56
    exact absurd h (by rw [wl_X7_laysAlone_2]; exact fun q => q)
  | succ n_ ih =>
    intro M x2 k_a0 h hX56
    rw [wl_X7_laysAlone_2] at h
    refine r_iload_n C dX7_laysAlone_2 (pc' := 3) rfl (j := 2) rfl ?_
    refine r_iload_n C dX7_laysAlone_3 (pc' := 4) rfl (j := 1) rfl ?_
    refine r_icmp_ge C dX7_laysAlone_4 (pc' := 7) rfl (tgt := 56) (by decide) (fun c_1 => ?_) (fun c_1 => ?_)
    · have h := it_t h c_1
      refine r_sub (lv' := []) [] rfl ?_
      exact hX56 M mMo.rf h
    · have h := it_f h c_1
      refine r_aload_n C dX7_laysAlone_7 (pc' := 8) rfl (j := 0) rfl ?_
      refine r_callVv (As := []) (rest := []) (Cn := RX7) (T := TX7) C k_a0 (by decide) vc_X7 (S_X7_feels k_a0 h) (lw_V q1538 q1540 qs76 q112 q1541) rfl hd_X7_feels rfl rfl (Nat.le_of_ble_eq_true rfl) (Nat.le_of_ble_eq_true rfl) (Nat.le_of_ble_eq_true rfl) rfl rfl (Nat.le_of_ble_eq_true rfl) (Nat.le_of_ble_eq_true rfl) dX7_laysAlone_8 (pc' := 11) rfl (fun M_2 h m_4 => ?_)
      refine r_aload_n C dX7_laysAlone_11 (pc' := 12) rfl (j := 0) rfl ?_
      refine r_getf C (Cn := RX7) (T := TX7) 26 (mMo.kd m_4 k_a0 (by decide)) (by decide) vc_X7 in_X7 (by decide) q1250 dX7_laysAlone_12 (pc' := 15) rfl (v := va_rf (mgR M_2 a0 26)) rfl ?_
      obtain ⟨b_5, e_6, k_7, h⟩ := h
      refine r_ref [] e_6 ?_
      refine r_bipush C dX7_laysAlone_15 (pc' := 17) rfl (v := 8) rfl ?_
      refine r_iload_n C dX7_laysAlone_17 (pc' := 18) rfl (j := 2) rfl ?_
      obtain ⟨c_8, h⟩ := h
      obtain ⟨M_9, e_10, h⟩ := bn_ h
      refine r_iast C (j := 8) k_7 (vp_l (by decide) (by decide) c_8) (by decide) dX7_laysAlone_18 (pc' := 19) rfl M_9 e_10 ?_
      refine r_aload_n C dX7_laysAlone_19 (pc' := 20) rfl (j := 0) rfl ?_
      refine r_getf C (Cn := RX7) (T := TX7) 51 (mMo.kd (mo_I e_10) (mMo.kd m_4 k_a0 (by decide)) (by decide)) (by decide) vc_X7 in_X7 (by decide) q1275 dX7_laysAlone_20 (pc' := 23) rfl (v := va_rf (mgR M_9 a0 51)) rfl ?_
      obtain ⟨b_11, e_12, k_13, h⟩ := h
      refine r_ref [] e_12 ?_
      refine r_iload_n C dX7_laysAlone_23 (pc' := 24) rfl (j := 2) rfl ?_
      refine r_aload_n C dX7_laysAlone_24 (pc' := 25) rfl (j := 0) rfl ?_
      refine r_iconst C dX7_laysAlone_25 (pc' := 26) rfl (v := 0) rfl ?_
      refine r_bipush C dX7_laysAlone_26 (pc' := 28) rfl (v := 99) rfl ?_
      refine r_bipush C dX7_laysAlone_28 (pc' := 30) rfl (v := 99) rfl ?_
      refine r_callVi (As := [.int (0 : Int32), .int (99 : Int32), .int (99 : Int32)]) (rest := [.int x2, .ref b_11]) (Cn := RX7) (T := TX7) C (mMo.kd (mo_I e_10) (mMo.kd m_4 k_a0 (by decide)) (by decide)) (by decide) vc_X7 (S_X7_byText (mMo.kd (mo_I e_10) (mMo.kd m_4 k_a0 (by decide)) (by decide)) h) (lw_V q1545 q1547 qs77 q112 q1548) rfl hd_X7_byText rfl rfl (Nat.le_of_ble_eq_true rfl) (Nat.le_of_ble_eq_true rfl) (Nat.le_of_ble_eq_true rfl) rfl rfl (Nat.le_of_ble_eq_true rfl) (Nat.le_of_ble_eq_true rfl) dX7_laysAlone_30 (pc' := 33) rfl (fun r_15 M_14 h m_16 => ?_)
      obtain ⟨c_17, h⟩ := h
      obtain ⟨M_18, e_19, h⟩ := bn_ h
      refine r_iast C (j := (ix_ x2)) (mMo.kd m_16 k_13 (by decide)) c_17 rfl dX7_laysAlone_33 (pc' := 34) rfl M_18 e_19 ?_
      refine r_aload_n C dX7_laysAlone_34 (pc' := 35) rfl (j := 0) rfl ?_
      refine r_getf C (Cn := RX7) (T := TX7) 52 (mMo.kd (mo_I e_19) (mMo.kd m_16 (mMo.kd (mo_I e_10) (mMo.kd m_4 k_a0 (by decide)) (by decide)) (by decide)) (by decide)) (by decide) vc_X7 in_X7 (by decide) q1276 dX7_laysAlone_35 (pc' := 38) rfl (v := va_rf (mgR M_18 a0 52)) rfl ?_
      obtain ⟨b_20, e_21, k_22, h⟩ := h
      refine r_ref [] e_21 ?_
      refine r_iload_n C dX7_laysAlone_38 (pc' := 39) rfl (j := 2) rfl ?_
      refine r_aload_n C dX7_laysAlone_39 (pc' := 40) rfl (j := 0) rfl ?_
      refine r_iconst C dX7_laysAlone_40 (pc' := 41) rfl (v := 0) rfl ?_
      refine r_bipush C dX7_laysAlone_41 (pc' := 43) rfl (v := 98) rfl ?_
      refine r_sipush C dX7_laysAlone_43 (pc' := 46) rfl (v := 999) rfl ?_
      refine r_callVi (As := [.int (0 : Int32), .int (98 : Int32), .int (999 : Int32)]) (rest := [.int x2, .ref b_20]) (Cn := RX7) (T := TX7) C (mMo.kd (mo_I e_19) (mMo.kd m_16 (mMo.kd (mo_I e_10) (mMo.kd m_4 k_a0 (by decide)) (by decide)) (by decide)) (by decide)) (by decide) vc_X7 (S_X7_byText (mMo.kd (mo_I e_19) (mMo.kd m_16 (mMo.kd (mo_I e_10) (mMo.kd m_4 k_a0 (by decide)) (by decide)) (by decide)) (by decide)) h) (lw_V q1545 q1547 qs77 q112 q1548) rfl hd_X7_byText rfl rfl (Nat.le_of_ble_eq_true rfl) (Nat.le_of_ble_eq_true rfl) (Nat.le_of_ble_eq_true rfl) rfl rfl (Nat.le_of_ble_eq_true rfl) (Nat.le_of_ble_eq_true rfl) dX7_laysAlone_46 (pc' := 49) rfl (fun r_24 M_23 h m_25 => ?_)
      obtain ⟨c_26, h⟩ := h
      obtain ⟨M_27, e_28, h⟩ := bn_ h
      refine r_iast C (j := (ix_ x2)) (mMo.kd m_25 k_22 (by decide)) c_26 rfl dX7_laysAlone_49 (pc' := 50) rfl M_27 e_28 ?_
      obtain ⟨x2_29, e_30, h⟩ := bn_ h
      refine r_iinc C (lv' := [(2, .int x2_29), (0, .ref a0), (1, .int x1)]) dX7_laysAlone_50 (pc' := 53) rfl (j := 2) rfl x2_29 (by rw [e_30]; rfl) (Nat.le_of_ble_eq_true rfl) rfl ?_
      refine r_goto C dX7_laysAlone_53 (tgt := 2) (by decide) ?_
      refine r_sub (lv' := [(0, .ref a0), (1, .int x1), (2, .int x2_29)]) [1, 2, 0] rfl ?_
      exact ih M_27 x2_29 (mMo.kd (mo_I e_28) (mMo.kd m_25 (mMo.kd (mo_I e_19) (mMo.kd m_16 (mMo.kd (mo_I e_10) (mMo.kd m_4 k_a0 (by decide)) (by decide)) (by decide)) (by decide)) (by decide)) (by decide)) h (fun M9 hm9 h9 => hX56 M9 (mMo.tr (mMo.tr (mMo.tr (mMo.tr (mMo.tr (mMo.tr m_4 (mo_I e_10)) m_16) (mo_I e_19)) m_25) (mo_I e_28)) hm9) h9)
set_option maxHeartbeats 4000000 in
theorem S_X7_laysAlone {D : DD} {l : Launch} {M : MM} {a0 : Nat} {x1 : Int32} {Post : MM → Prop} (k_a0 : mkd M a0 = 7) (h : wp_X7_laysAlone M a0 x1 Post) : mMet D l yX7_laysAlone cX7_laysAlone 3 (none) { frames := 3, cells := 0, slots := 0, locals := 74 } M [.ref a0, .int x1] (pV_ Post) := by
  refine m_of2 [(0, .ref a0), (1, .int x1)] (by decide +kernel) (Nat.le_of_ble_eq_true rfl) rfl (fun E hED hEl C hE => ?_)
  subst hED
  subst hEl
  unfold wp_X7_laysAlone at h
  refine r_iconst C dX7_laysAlone_0 (pc' := 1) rfl (v := 0) rfl ?_
  refine r_istore_n C (lv' := [(2, .int (0 : Int32)), (0, .ref a0), (1, .int x1)]) dX7_laysAlone_1 (pc' := 2) rfl rfl (0 : Int32) rfl (Nat.le_of_ble_eq_true rfl) rfl ?_
  obtain ⟨n_31, h⟩ := h
  refine r_sub (lv' := [(0, .ref a0), (1, .int x1), (2, .int (0 : Int32))]) [1, 2, 0] rfl ?_
  refine B_X7_laysAlone_2 C hE n_31 M (0 : Int32) k_a0 h (fun M_32 m_33 h => ?_)
  exact r_vret C hE (Nat.le_of_ble_eq_true rfl) (Nat.le_of_ble_eq_true rfl) dX7_laysAlone_56 ⟨rfl, h⟩
set_option maxHeartbeats 4000000 in
theorem B_X7_waterBy_5 {E : mE} {a0 : Nat} {x1 : Int32} {x2 : Int32} {X25 : MM → Int64 → Prop} {Post : Int32 → MM → Prop} (C : mC E yX7_waterBy cX7_waterBy 6 ((some .boolean)) { frames := 1, cells := 0, slots := 0, locals := 23 }) (hE : mEnd E { frames := 1, cells := 0, slots := 0, locals := 23 } (pI_ Post)) : ∀ (n_ : Nat) (M : MM) (x3 : Int64) (x5 : Int32), mkd M a0 = 7 → wl_X7_waterBy_5 a0 x1 x2 X25 n_ M x3 x5 → (∀ (M' : MM) (x3' : Int64), mMo M M' → X25 M' x3' → mV E M' 0 0 25 [(0, .ref a0), (1, .int x1), (3, .long x3')] []) → mV E M 0 0 5 [(0, .ref a0), (1, .int x1), (2, .int x2), (3, .long x3), (5, .int x5)] [] := by
  intro n_
  induction n_ with
  | zero =>
    intro M x3 x5 k_a0 h hX25
    exact absurd h (by rw [wl_X7_waterBy_5]; exact fun q => q)
  | succ n_ ih =>
    intro M x3 x5 k_a0 h hX25
    rw [wl_X7_waterBy_5] at h
    refine r_iload C dX7_waterBy_5 (pc' := 7) rfl (j := 4) rfl ?_
    refine r_iload_n C dX7_waterBy_7 (pc' := 8) rfl (j := 1) rfl ?_
    refine r_icmp_ge C dX7_waterBy_8 (pc' := 11) rfl (tgt := 25) (by decide) (fun c_1 => ?_) (fun c_1 => ?_)
    · have h := it_t h c_1
      refine r_sub (lv' := [(0, .ref a0), (1, .int x1), (3, .long x3)]) [0, 1, 3] rfl ?_
      exact hX25 M x3 mMo.rf h
    · have h := it_f h c_1
      refine r_lload_n C dX7_waterBy_11 (pc' := 12) rfl (j := 3) rfl ?_
      refine r_bipush C dX7_waterBy_12 (pc' := 14) rfl (v := 10) rfl ?_
      refine r_iload_n C dX7_waterBy_14 (pc' := 15) rfl (j := 2) rfl ?_
      refine r_isub C dX7_waterBy_15 (pc' := 16) rfl ?_
      refine r_i2l C dX7_waterBy_16 (pc' := 17) rfl ?_
      refine r_lmul C dX7_waterBy_17 (pc' := 18) rfl ?_
      obtain ⟨x3_2, e_3, h⟩ := bn_ h
      refine r_lstore_n C (lv' := [(3, .long x3_2), (0, .ref a0), (1, .int x1), (2, .int x2), (5, .int x5)]) dX7_waterBy_18 (pc' := 19) rfl rfl x3_2 e_3 (Nat.le_of_ble_eq_true rfl) rfl ?_
      obtain ⟨x5_4, e_5, h⟩ := bn_ h
      refine r_iinc C (lv' := [(5, .int x5_4), (3, .long x3_2), (0, .ref a0), (1, .int x1), (2, .int x2)]) dX7_waterBy_19 (pc' := 22) rfl (j := 4) rfl x5_4 (by rw [e_5]; rfl) (Nat.le_of_ble_eq_true rfl) rfl ?_
      refine r_goto C dX7_waterBy_22 (tgt := 5) (by decide) ?_
      refine r_sub (lv' := [(0, .ref a0), (1, .int x1), (2, .int x2), (3, .long x3_2), (5, .int x5_4)]) [2, 3, 4, 1, 0] rfl ?_
      exact ih M x3_2 x5_4 k_a0 h (fun M9 w0 hm9 h9 => hX25 M9 w0 hm9 h9)
set_option maxHeartbeats 4000000 in
theorem B_X7_waterBy_28 {E : mE} {a0 : Nat} {x1 : Int32} {x3 : Int64} {X63 : MM → Prop} {X71 : MM → Prop} {Post : Int32 → MM → Prop} (C : mC E yX7_waterBy cX7_waterBy 6 ((some .boolean)) { frames := 1, cells := 0, slots := 0, locals := 23 }) (hE : mEnd E { frames := 1, cells := 0, slots := 0, locals := 23 } (pI_ Post)) : ∀ (n_ : Nat) (M : MM) (x5 : Int32), mkd M a0 = 7 → wl_X7_waterBy_28 a0 x1 x3 X63 X71 n_ M x5 → (∀ (M' : MM), mMo M M' → X63 M' → mV E M' 0 0 63 [] []) → (∀ (M' : MM), mMo M M' → X71 M' → mV E M' 0 0 71 [] []) → mV E M 0 0 28 [(0, .ref a0), (1, .int x1), (3, .long x3), (5, .int x5)] [] := by
  intro n_
  induction n_ with
  | zero =>
    intro M x5 k_a0 h hX63 hX71
    exact absurd h (by rw [wl_X7_waterBy_28]; exact fun q => q)
  | succ n_ ih =>
    intro M x5 k_a0 h hX63 hX71
    rw [wl_X7_waterBy_28] at h
    refine r_iload C dX7_waterBy_28 (pc' := 30) rfl (j := 3) rfl ?_
    refine r_iload_n C dX7_waterBy_30 (pc' := 31) rfl (j := 1) rfl ?_
    refine r_icmp_ge C dX7_waterBy_31 (pc' := 34) rfl (tgt := 71) (by decide) (fun c_10 => ?_) (fun c_10 => ?_)
    · have h := it_t h c_10
      refine r_sub (lv' := []) [] rfl ?_
      exact hX71 M mMo.rf h
    · have h := it_f h c_10
      refine r_aload_n C dX7_waterBy_34 (pc' := 35) rfl (j := 0) rfl ?_
      refine r_getf C (Cn := RX7) (T := TX7) 51 k_a0 (by decide) vc_X7 in_X7 (by decide) q1275 dX7_waterBy_35 (pc' := 38) rfl (v := va_rf (mgR M a0 51)) rfl ?_
      obtain ⟨b_11, e_12, k_13, h⟩ := h
      refine r_ref [] e_12 ?_
      refine r_iload C dX7_waterBy_38 (pc' := 40) rfl (j := 3) rfl ?_
      obtain ⟨c_14, h⟩ := h
      refine r_iald C (j := (ix_ x5)) k_13 c_14 rfl dX7_waterBy_40 (pc' := 41) rfl ?_
      refine r_i2l C dX7_waterBy_41 (pc' := 42) rfl ?_
      refine r_iload_n C dX7_waterBy_42 (pc' := 43) rfl (j := 1) rfl ?_
      refine r_iconst C dX7_waterBy_43 (pc' := 44) rfl (v := 1) rfl ?_
      refine r_isub C dX7_waterBy_44 (pc' := 45) rfl ?_
      refine r_callSl (As := [.int (x1 - (1 : Int32))]) (rest := [.long ((mgI M b_11 (ix_ x5)).toInt64)]) C (S_X7_tens h) (lw_S q1615 q1616 q112 q1617) hd_X7_tens rfl rfl (Nat.le_of_ble_eq_true rfl) (Nat.le_of_ble_eq_true rfl) (Nat.le_of_ble_eq_true rfl) rfl rfl (Nat.le_of_ble_eq_true rfl) (Nat.le_of_ble_eq_true rfl) dX7_waterBy_45 (pc' := 48) rfl (fun r_16 M_15 h m_17 => ?_)
      refine r_lmul C dX7_waterBy_48 (pc' := 49) rfl ?_
      refine r_aload_n C dX7_waterBy_49 (pc' := 50) rfl (j := 0) rfl ?_
      refine r_getf C (Cn := RX7) (T := TX7) 52 (mMo.kd m_17 k_a0 (by decide)) (by decide) vc_X7 in_X7 (by decide) q1276 dX7_waterBy_50 (pc' := 53) rfl (v := va_rf (mgR M_15 a0 52)) rfl ?_
      obtain ⟨b_18, e_19, k_20, h⟩ := h
      refine r_ref [] e_19 ?_
      refine r_iload C dX7_waterBy_53 (pc' := 55) rfl (j := 3) rfl ?_
      obtain ⟨c_21, h⟩ := h
      refine r_iald C (j := (ix_ x5)) k_20 c_21 rfl dX7_waterBy_55 (pc' := 56) rfl ?_
      refine r_i2l C dX7_waterBy_56 (pc' := 57) rfl ?_
      refine r_lload_n C dX7_waterBy_57 (pc' := 58) rfl (j := 2) rfl ?_
      refine r_lmul C dX7_waterBy_58 (pc' := 59) rfl ?_
      refine r_lc_le C dX7_waterBy_59 (pc1 := 60) (pc' := 63) rfl dX7_waterBy_60 rfl (tgt := 65) (by decide) (fun c_22 => ?_) (fun c_22 => ?_)
      · have h := it_t h c_22
        obtain ⟨x5_23, e_24, h⟩ := bn_ h
        refine r_iinc C (lv' := [(5, .int x5_23), (0, .ref a0), (1, .int x1), (3, .long x3)]) dX7_waterBy_65 (pc' := 68) rfl (j := 3) rfl x5_23 (by rw [e_24]; rfl) (Nat.le_of_ble_eq_true rfl) rfl ?_
        refine r_goto C dX7_waterBy_68 (tgt := 28) (by decide) ?_
        refine r_sub (lv' := [(0, .ref a0), (1, .int x1), (3, .long x3), (5, .int x5_23)]) [1, 2, 3, 0] rfl ?_
        exact ih M_15 x5_23 (mMo.kd m_17 k_a0 (by decide)) h (fun M9 hm9 h9 => hX63 M9 (mMo.tr m_17 hm9) h9) (fun M9 hm9 h9 => hX71 M9 (mMo.tr m_17 hm9) h9)
      · have h := it_f h c_22
        refine r_sub (lv' := []) [] rfl ?_
        exact hX63 M_15 m_17 h
set_option maxHeartbeats 4000000 in
theorem S_X7_waterBy {D : DD} {l : Launch} {M : MM} {a0 : Nat} {x1 : Int32} {x2 : Int32} {Post : Int32 → MM → Prop} (k_a0 : mkd M a0 = 7) (h : wp_X7_waterBy M a0 x1 x2 Post) : mMet D l yX7_waterBy cX7_waterBy 6 ((some .boolean)) { frames := 1, cells := 0, slots := 0, locals := 23 } M [.ref a0, .int x1, .int x2] (pI_ Post) := by
  refine m_of2 [(0, .ref a0), (1, .int x1), (2, .int x2)] (by decide +kernel) (Nat.le_of_ble_eq_true rfl) rfl (fun E hED hEl C hE => ?_)
  subst hED
  subst hEl
  unfold wp_X7_waterBy at h
  refine r_lconst C dX7_waterBy_0 (pc' := 1) rfl (v := 1) rfl ?_
  refine r_lstore_n C (lv' := [(3, .long (1 : Int64)), (0, .ref a0), (1, .int x1), (2, .int x2)]) dX7_waterBy_1 (pc' := 2) rfl rfl (1 : Int64) rfl (Nat.le_of_ble_eq_true rfl) rfl ?_
  refine r_iconst C dX7_waterBy_2 (pc' := 3) rfl (v := 1) rfl ?_
  refine r_istore C (lv' := [(5, .int (1 : Int32)), (3, .long (1 : Int64)), (0, .ref a0), (1, .int x1), (2, .int x2)]) dX7_waterBy_3 (pc' := 5) rfl (1 : Int32) rfl (Nat.le_of_ble_eq_true rfl) rfl ?_
  obtain ⟨n_6, h⟩ := h
  refine r_sub (lv' := [(0, .ref a0), (1, .int x1), (2, .int x2), (3, .long (1 : Int64)), (5, .int (1 : Int32))]) [2, 3, 4, 1, 0] rfl ?_
  refine B_X7_waterBy_5 C hE n_6 M (1 : Int64) (1 : Int32) k_a0 h (fun M_7 x3_9 m_8 h => ?_)
  refine r_iconst C dX7_waterBy_25 (pc' := 26) rfl (v := 0) rfl ?_
  refine r_istore C (lv' := [(5, .int (0 : Int32)), (0, .ref a0), (1, .int x1), (3, .long x3_9)]) dX7_waterBy_26 (pc' := 28) rfl (0 : Int32) rfl (Nat.le_of_ble_eq_true rfl) rfl ?_
  obtain ⟨n_25, h⟩ := h
  refine r_sub (lv' := [(0, .ref a0), (1, .int x1), (3, .long x3_9), (5, .int (0 : Int32))]) [1, 2, 3, 0] rfl ?_
  refine B_X7_waterBy_28 C hE n_25 M_7 (0 : Int32) (mMo.kd m_8 k_a0 (by decide)) h (fun M_26 m_27 h => ?_) (fun M_28 m_29 h => ?_)
  · refine r_iconst C dX7_waterBy_63 (pc' := 64) rfl (v := 0) rfl ?_
    exact r_zret C hE (Or.inl rfl) (Nat.le_of_ble_eq_true rfl) (Nat.le_of_ble_eq_true rfl) dX7_waterBy_64 ⟨_, rfl, h⟩
  · refine r_iconst C dX7_waterBy_71 (pc' := 72) rfl (v := 1) rfl ?_
    exact r_zret C hE (Or.inr rfl) (Nat.le_of_ble_eq_true rfl) (Nat.le_of_ble_eq_true rfl) dX7_waterBy_72 ⟨_, rfl, h⟩
set_option maxHeartbeats 4000000 in
theorem B_X7_alone_88 {E : mE} {a0 : Nat} {x1 : Int32} {x2 : Int32} {x3 : Int32} {x4 : Int32} {x5 : Int32} {X136 : MM → Int32 → Prop} {Post : Int32 → MM → Prop} (C : mC E yX7_alone cX7_alone 8 ((some .int)) { frames := 4, cells := 0, slots := 0, locals := 96 }) (hE : mEnd E { frames := 4, cells := 0, slots := 0, locals := 96 } (pI_ Post)) : ∀ (n_ : Nat) (M : MM) (x6 : Int32) (x7 : Int32), mkd M a0 = 7 → wl_X7_alone_88 a0 x1 x2 x3 x4 x5 X136 n_ M x6 x7 → (∀ (M' : MM) (x6' : Int32), mMo M M' → X136 M' x6' → mV E M' 0 0 136 [(0, .ref a0), (1, .int x1), (2, .int x2), (3, .int x3), (4, .int x4), (5, .int x5), (6, .int x6')] []) → mV E M 0 0 88 [(0, .ref a0), (1, .int x1), (2, .int x2), (3, .int x3), (4, .int x4), (5, .int x5), (6, .int x6), (7, .int x7)] [] := by
  intro n_
  induction n_ with
  | zero =>
    intro M x6 x7 k_a0 h hX136
    exact absurd h (by rw [wl_X7_alone_88]; exact fun q => q)
  | succ n_ ih =>
    intro M x6 x7 k_a0 h hX136
    rw [wl_X7_alone_88] at h
    refine r_iload C dX7_alone_88 (pc' := 90) rfl (j := 7) rfl ?_
    refine r_iload_n C dX7_alone_90 (pc' := 91) rfl (j := 1) rfl ?_
    refine r_icmp_ge C dX7_alone_91 (pc' := 94) rfl (tgt := 136) (by decide) (fun c_14 => ?_) (fun c_14 => ?_)
    · have h := it_t h c_14
      refine r_sub (lv' := [(0, .ref a0), (1, .int x1), (2, .int x2), (3, .int x3), (4, .int x4), (5, .int x5), (6, .int x6)]) [0, 1, 2, 3, 4, 5, 6] rfl ?_
      exact hX136 M x6 mMo.rf h
    · have h := it_f h c_14
      refine r_iload C dX7_alone_94 (pc' := 96) rfl (j := 6) rfl ?_
      refine r_if_eq C dX7_alone_96 (pc' := 99) rfl (tgt := 136) (by decide) (fun c_15 => ?_) (fun c_15 => ?_)
      · have h := it_t h c_15
        refine r_sub (lv' := [(0, .ref a0), (1, .int x1), (2, .int x2), (3, .int x3), (4, .int x4), (5, .int x5), (6, .int x6)]) [0, 1, 2, 3, 4, 5, 6] rfl ?_
        exact hX136 M x6 mMo.rf h
      · have h := it_f h c_15
        refine r_aload_n C dX7_alone_99 (pc' := 100) rfl (j := 0) rfl ?_
        refine r_iload C dX7_alone_100 (pc' := 102) rfl (j := 5) rfl ?_
        refine r_iconst C dX7_alone_102 (pc' := 103) rfl (v := 1) rfl ?_
        refine r_iload C dX7_alone_103 (pc' := 105) rfl (j := 7) rfl ?_
        refine r_ishl C dX7_alone_105 (pc' := 106) rfl ?_
        refine r_ixor C dX7_alone_106 (pc' := 107) rfl ?_
        refine r_iload C dX7_alone_107 (pc' := 109) rfl (j := 7) rfl ?_
        refine r_callVi (As := [.int (x5 ^^^ ((1 : Int32) <<< (x7 &&& 31))), .int x7]) (rest := []) (Cn := RX7) (T := TX7) C k_a0 (by decide) vc_X7 (S_X7_gainOf k_a0 h) (lw_V q1759 q1761 qs102 q112 q1762) rfl hd_X7_gainOf rfl rfl (Nat.le_of_ble_eq_true rfl) (Nat.le_of_ble_eq_true rfl) (Nat.le_of_ble_eq_true rfl) rfl rfl (Nat.le_of_ble_eq_true rfl) (Nat.le_of_ble_eq_true rfl) dX7_alone_109 (pc' := 112) rfl (fun r_17 M_16 h m_18 => ?_)
        refine r_aload_n C dX7_alone_112 (pc' := 113) rfl (j := 0) rfl ?_
        refine r_iload C dX7_alone_113 (pc' := 115) rfl (j := 5) rfl ?_
        refine r_iload C dX7_alone_115 (pc' := 117) rfl (j := 7) rfl ?_
        refine r_callVi (As := [.int x5, .int x7]) (rest := [.int r_17]) (Cn := RX7) (T := TX7) C (mMo.kd m_18 k_a0 (by decide)) (by decide) vc_X7 (S_X7_gainOf (mMo.kd m_18 k_a0 (by decide)) h) (lw_V q1759 q1761 qs102 q112 q1762) rfl hd_X7_gainOf rfl rfl (Nat.le_of_ble_eq_true rfl) (Nat.le_of_ble_eq_true rfl) (Nat.le_of_ble_eq_true rfl) rfl rfl (Nat.le_of_ble_eq_true rfl) (Nat.le_of_ble_eq_true rfl) dX7_alone_117 (pc' := 120) rfl (fun r_20 M_19 h m_21 => ?_)
        refine r_icmp_gt C dX7_alone_120 (pc' := 123) rfl (tgt := 127) (by decide) (fun c_22 => ?_) (fun c_22 => ?_)
        · have h := it_t h c_22
          refine r_iconst C dX7_alone_127 (pc' := 128) rfl (v := 0) rfl ?_
          refine r_istore C (lv' := [(6, .int (0 : Int32)), (0, .ref a0), (1, .int x1), (2, .int x2), (3, .int x3), (4, .int x4), (5, .int x5), (7, .int x7)]) dX7_alone_128 (pc' := 130) rfl (0 : Int32) rfl (Nat.le_of_ble_eq_true rfl) rfl ?_
          obtain ⟨x7_23, e_24, h⟩ := bn_ h
          refine r_iinc C (lv' := [(7, .int x7_23), (6, .int (0 : Int32)), (0, .ref a0), (1, .int x1), (2, .int x2), (3, .int x3), (4, .int x4), (5, .int x5)]) dX7_alone_130 (pc' := 133) rfl (j := 7) rfl x7_23 (by rw [e_24]; rfl) (Nat.le_of_ble_eq_true rfl) rfl ?_
          refine r_goto C dX7_alone_133 (tgt := 88) (by decide) ?_
          refine r_sub (lv' := [(0, .ref a0), (1, .int x1), (2, .int x2), (3, .int x3), (4, .int x4), (5, .int x5), (6, .int (0 : Int32)), (7, .int x7_23)]) [2, 3, 4, 5, 6, 7, 1, 0] rfl ?_
          exact ih M_19 (0 : Int32) x7_23 (mMo.kd m_21 (mMo.kd m_18 k_a0 (by decide)) (by decide)) h (fun M9 w0 hm9 h9 => hX136 M9 w0 (mMo.tr (mMo.tr m_18 m_21) hm9) h9)
        · have h := it_f h c_22
          refine r_iconst C dX7_alone_123 (pc' := 124) rfl (v := 1) rfl ?_
          refine r_goto C dX7_alone_124 (tgt := 128) (by decide) ?_
          refine r_istore C (lv' := [(6, .int (1 : Int32)), (0, .ref a0), (1, .int x1), (2, .int x2), (3, .int x3), (4, .int x4), (5, .int x5), (7, .int x7)]) dX7_alone_128 (pc' := 130) rfl (1 : Int32) rfl (Nat.le_of_ble_eq_true rfl) rfl ?_
          obtain ⟨x7_25, e_26, h⟩ := bn_ h
          refine r_iinc C (lv' := [(7, .int x7_25), (6, .int (1 : Int32)), (0, .ref a0), (1, .int x1), (2, .int x2), (3, .int x3), (4, .int x4), (5, .int x5)]) dX7_alone_130 (pc' := 133) rfl (j := 7) rfl x7_25 (by rw [e_26]; rfl) (Nat.le_of_ble_eq_true rfl) rfl ?_
          refine r_goto C dX7_alone_133 (tgt := 88) (by decide) ?_
          refine r_sub (lv' := [(0, .ref a0), (1, .int x1), (2, .int x2), (3, .int x3), (4, .int x4), (5, .int x5), (6, .int (1 : Int32)), (7, .int x7_25)]) [2, 3, 4, 5, 6, 7, 1, 0] rfl ?_
          exact ih M_19 (1 : Int32) x7_25 (mMo.kd m_21 (mMo.kd m_18 k_a0 (by decide)) (by decide)) h (fun M9 w0 hm9 h9 => hX136 M9 w0 (mMo.tr (mMo.tr m_18 m_21) hm9) h9)
set_option maxHeartbeats 4000000 in
theorem B_X7_alone_155 {E : mE} {M : MM} {a0 : Nat} {x1 : Int32} {x2 : Int32} {x3 : Int32} {x5 : Int32} {xs0 : Int32} {R : MM → Int32 → Int32 → Int32 → Prop} {X167 : MM → Int32 → Int32 → Prop} {Post : Int32 → MM → Prop} (C : mC E yX7_alone cX7_alone 8 ((some .int)) { frames := 4, cells := 0, slots := 0, locals := 96 }) (hE : mEnd E { frames := 4, cells := 0, slots := 0, locals := 96 } (pI_ Post)) (k_a0 : mkd M a0 = 7) (h : wb_X7_alone_155 M a0 x1 x2 x3 x5 xs0 R X167) (hR : ∀ (M' : MM) (x3' : Int32) (x4' : Int32) (x5' : Int32), mMo M M' → mkd M' a0 = 7 → R M' x3' x4' x5' → mV E M' 0 0 74 [(0, .ref a0), (1, .int x1), (2, .int x2), (3, .int x3'), (4, .int x4'), (5, .int x5')] []) (hX167 : ∀ (M' : MM) (x3' : Int32) (x4' : Int32), mMo M M' → X167 M' x3' x4' → mV E M' 0 0 167 [(2, .int x2), (3, .int x3'), (4, .int x4')] []) : mV E M 0 0 155 [(0, .ref a0), (1, .int x1), (2, .int x2), (3, .int x3), (5, .int x5)] [.int xs0] := by
  unfold wb_X7_alone_155 at h
  refine r_istore C (lv' := [(4, .int xs0), (0, .ref a0), (1, .int x1), (2, .int x2), (3, .int x3), (5, .int x5)]) dX7_alone_155 (pc' := 157) rfl xs0 rfl (Nat.le_of_ble_eq_true rfl) rfl ?_
  refine r_iload_n C dX7_alone_157 (pc' := 158) rfl (j := 4) rfl ?_
  refine r_iconst C dX7_alone_158 (pc' := 159) rfl (v := 1) rfl ?_
  refine r_iadd C dX7_alone_159 (pc' := 160) rfl ?_
  obtain ⟨x3_33, e_34, h⟩ := bn_ h
  refine r_istore_n C (lv' := [(3, .int x3_33), (4, .int xs0), (0, .ref a0), (1, .int x1), (2, .int x2), (5, .int x5)]) dX7_alone_160 (pc' := 161) rfl rfl x3_33 e_34 (Nat.le_of_ble_eq_true rfl) rfl ?_
  obtain ⟨x5_35, e_36, h⟩ := bn_ h
  refine r_iinc C (lv' := [(5, .int x5_35), (3, .int x3_33), (4, .int xs0), (0, .ref a0), (1, .int x1), (2, .int x2)]) dX7_alone_161 (pc' := 164) rfl (j := 5) rfl x5_35 (by rw [e_36]; rfl) (Nat.le_of_ble_eq_true rfl) rfl ?_
  refine r_goto C dX7_alone_164 (tgt := 74) (by decide) ?_
  refine r_sub (lv' := [(0, .ref a0), (1, .int x1), (2, .int x2), (3, .int x3_33), (4, .int xs0), (5, .int x5_35)]) [3, 4, 5, 1, 2, 0] rfl ?_
  exact hR M x3_33 xs0 x5_35 mMo.rf k_a0 h
set_option maxHeartbeats 4000000 in
theorem B_X7_alone_136 {E : mE} {M : MM} {a0 : Nat} {x1 : Int32} {x2 : Int32} {x3 : Int32} {x4 : Int32} {x5 : Int32} {x6 : Int32} {R : MM → Int32 → Int32 → Int32 → Prop} {X167 : MM → Int32 → Int32 → Prop} {Post : Int32 → MM → Prop} (C : mC E yX7_alone cX7_alone 8 ((some .int)) { frames := 4, cells := 0, slots := 0, locals := 96 }) (hE : mEnd E { frames := 4, cells := 0, slots := 0, locals := 96 } (pI_ Post)) (k_a0 : mkd M a0 = 7) (h : wb_X7_alone_136 M a0 x1 x2 x3 x4 x5 x6 R X167) (hR : ∀ (M' : MM) (x3' : Int32) (x4' : Int32) (x5' : Int32), mMo M M' → mkd M' a0 = 7 → R M' x3' x4' x5' → mV E M' 0 0 74 [(0, .ref a0), (1, .int x1), (2, .int x2), (3, .int x3'), (4, .int x4'), (5, .int x5')] []) (hX167 : ∀ (M' : MM) (x3' : Int32) (x4' : Int32), mMo M M' → X167 M' x3' x4' → mV E M' 0 0 167 [(2, .int x2), (3, .int x3'), (4, .int x4')] []) : mV E M 0 0 136 [(0, .ref a0), (1, .int x1), (2, .int x2), (3, .int x3), (4, .int x4), (5, .int x5), (6, .int x6)] [] := by
  unfold wb_X7_alone_136 at h
  refine r_iload C dX7_alone_136 (pc' := 138) rfl (j := 6) rfl ?_
  refine r_if_ne C dX7_alone_138 (pc' := 141) rfl (tgt := 144) (by decide) (fun c_31 => ?_) (fun c_31 => ?_)
  · have h := it_f h c_31
    refine r_iload_n C dX7_alone_144 (pc' := 145) rfl (j := 3) rfl ?_
    refine r_if_ne C dX7_alone_145 (pc' := 148) rfl (tgt := 153) (by decide) (fun c_32 => ?_) (fun c_32 => ?_)
    · have h := it_f h c_32
      refine r_iload C dX7_alone_153 (pc' := 155) rfl (j := 4) rfl ?_
      refine r_sub (lv' := [(0, .ref a0), (1, .int x1), (2, .int x2), (3, .int x3), (5, .int x5)]) [0, 1, 2, 3, 5] rfl ?_
      exact B_X7_alone_155 C hE k_a0 h (fun M8 v0 v1 v2 hm8 g0 h8 => hR M8 v0 v1 v2 hm8 g0 h8) (fun M9 w0 w1 hm9 h9 => hX167 M9 w0 w1 hm9 h9)
    · have h := it_t h c_32
      refine r_iload C dX7_alone_148 (pc' := 150) rfl (j := 5) rfl ?_
      refine r_goto C dX7_alone_150 (tgt := 155) (by decide) ?_
      refine r_sub (lv' := [(0, .ref a0), (1, .int x1), (2, .int x2), (3, .int x3), (5, .int x5)]) [0, 1, 2, 3, 5] rfl ?_
      exact B_X7_alone_155 C hE k_a0 h (fun M8 v0 v1 v2 hm8 g0 h8 => hR M8 v0 v1 v2 hm8 g0 h8) (fun M9 w0 w1 hm9 h9 => hX167 M9 w0 w1 hm9 h9)
  · have h := it_t h c_31
    refine r_goto C dX7_alone_141 (tgt := 161) (by decide) ?_
    obtain ⟨x5_37, e_38, h⟩ := bn_ h
    refine r_iinc C (lv' := [(5, .int x5_37), (0, .ref a0), (1, .int x1), (2, .int x2), (3, .int x3), (4, .int x4), (6, .int x6)]) dX7_alone_161 (pc' := 164) rfl (j := 5) rfl x5_37 (by rw [e_38]; rfl) (Nat.le_of_ble_eq_true rfl) rfl ?_
    refine r_goto C dX7_alone_164 (tgt := 74) (by decide) ?_
    refine r_sub (lv' := [(0, .ref a0), (1, .int x1), (2, .int x2), (3, .int x3), (4, .int x4), (5, .int x5_37)]) [1, 2, 3, 4, 5, 0] rfl ?_
    exact hR M x3 x4 x5_37 mMo.rf k_a0 h
set_option maxHeartbeats 4000000 in
theorem B_X7_alone_74 {E : mE} {a0 : Nat} {x1 : Int32} {x2 : Int32} {X167 : MM → Int32 → Int32 → Prop} {Post : Int32 → MM → Prop} (C : mC E yX7_alone cX7_alone 8 ((some .int)) { frames := 4, cells := 0, slots := 0, locals := 96 }) (hE : mEnd E { frames := 4, cells := 0, slots := 0, locals := 96 } (pI_ Post)) : ∀ (n_ : Nat) (M : MM) (x3 : Int32) (x4 : Int32) (x5 : Int32), mkd M a0 = 7 → wl_X7_alone_74 a0 x1 x2 X167 n_ M x3 x4 x5 → (∀ (M' : MM) (x3' : Int32) (x4' : Int32), mMo M M' → X167 M' x3' x4' → mV E M' 0 0 167 [(2, .int x2), (3, .int x3'), (4, .int x4')] []) → mV E M 0 0 74 [(0, .ref a0), (1, .int x1), (2, .int x2), (3, .int x3), (4, .int x4), (5, .int x5)] [] := by
  intro n_
  induction n_ with
  | zero =>
    intro M x3 x4 x5 k_a0 h hX167
    exact absurd h (by rw [wl_X7_alone_74]; exact fun q => q)
  | succ n_ ih =>
    intro M x3 x4 x5 k_a0 h hX167
    rw [wl_X7_alone_74] at h
    refine r_iload C dX7_alone_74 (pc' := 76) rfl (j := 5) rfl ?_
    refine r_iconst C dX7_alone_76 (pc' := 77) rfl (v := 1) rfl ?_
    refine r_iload_n C dX7_alone_77 (pc' := 78) rfl (j := 1) rfl ?_
    refine r_ishl C dX7_alone_78 (pc' := 79) rfl ?_
    refine r_icmp_ge C dX7_alone_79 (pc' := 82) rfl (tgt := 167) (by decide) (fun c_13 => ?_) (fun c_13 => ?_)
    · have h := it_t h c_13
      refine r_sub (lv' := [(2, .int x2), (3, .int x3), (4, .int x4)]) [2, 3, 4] rfl ?_
      exact hX167 M x3 x4 mMo.rf h
    · have h := it_f h c_13
      refine r_iconst C dX7_alone_82 (pc' := 83) rfl (v := 1) rfl ?_
      refine r_istore C (lv' := [(6, .int (1 : Int32)), (0, .ref a0), (1, .int x1), (2, .int x2), (3, .int x3), (4, .int x4), (5, .int x5)]) dX7_alone_83 (pc' := 85) rfl (1 : Int32) rfl (Nat.le_of_ble_eq_true rfl) rfl ?_
      refine r_iconst C dX7_alone_85 (pc' := 86) rfl (v := 0) rfl ?_
      refine r_istore C (lv' := [(7, .int (0 : Int32)), (6, .int (1 : Int32)), (0, .ref a0), (1, .int x1), (2, .int x2), (3, .int x3), (4, .int x4), (5, .int x5)]) dX7_alone_86 (pc' := 88) rfl (0 : Int32) rfl (Nat.le_of_ble_eq_true rfl) rfl ?_
      obtain ⟨n_27, h⟩ := h
      refine r_sub (lv' := [(0, .ref a0), (1, .int x1), (2, .int x2), (3, .int x3), (4, .int x4), (5, .int x5), (6, .int (1 : Int32)), (7, .int (0 : Int32))]) [2, 3, 4, 5, 6, 7, 1, 0] rfl ?_
      refine B_X7_alone_88 C hE n_27 M (1 : Int32) (0 : Int32) k_a0 h (fun M_28 x6_30 m_29 h => ?_)
      refine r_sub (lv' := [(0, .ref a0), (1, .int x1), (2, .int x2), (3, .int x3), (4, .int x4), (5, .int x5), (6, .int x6_30)]) [0, 1, 2, 3, 4, 5, 6] rfl ?_
      exact B_X7_alone_136 C hE (mMo.kd m_29 k_a0 (by decide)) h (fun M8 v0 v1 v2 hm8 g0 h8 => ih M8 v0 v1 v2 g0 h8 (fun M9 w0 w1 hm9 h9 => hX167 M9 w0 w1 (mMo.tr (mMo.tr m_29 hm8) hm9) h9)) (fun M9 w0 w1 hm9 h9 => hX167 M9 w0 w1 (mMo.tr m_29 hm9) h9)
set_option maxHeartbeats 4000000 in
theorem B_X7_alone_34 {E : mE} {a0 : Nat} {x1 : Int32} {X54 : MM → Int32 → Prop} {Post : Int32 → MM → Prop} (C : mC E yX7_alone cX7_alone 8 ((some .int)) { frames := 4, cells := 0, slots := 0, locals := 96 }) (hE : mEnd E { frames := 4, cells := 0, slots := 0, locals := 96 } (pI_ Post)) : ∀ (n_ : Nat) (M : MM) (x3 : Int32), mkd M a0 = 7 → wl_X7_alone_34 a0 x1 X54 n_ M x3 → (∀ (M' : MM) (x3' : Int32), mMo M M' → X54 M' x3' → mV E M' 0 0 54 [(3, .int x3')] []) → mV E M 0 0 34 [(0, .ref a0), (1, .int x1), (3, .int x3)] [] := by
  intro n_
  induction n_ with
  | zero =>
    intro M x3 k_a0 h hX54
    exact absurd h (by rw [wl_X7_alone_34]; exact fun q => q)
  | succ n_ ih =>
    intro M x3 k_a0 h hX54
    rw [wl_X7_alone_34] at h
    refine r_iload_n C dX7_alone_34 (pc' := 35) rfl (j := 2) rfl ?_
    refine r_if_lt C dX7_alone_35 (pc' := 38) rfl (tgt := 54) (by decide) (fun c_45 => ?_) (fun c_45 => ?_)
    · have h := it_t h c_45
      refine r_sub (lv' := [(3, .int x3)]) [2] rfl ?_
      exact hX54 M x3 mMo.rf h
    · have h := it_f h c_45
      refine r_aload_n C dX7_alone_38 (pc' := 39) rfl (j := 0) rfl ?_
      refine r_iload_n C dX7_alone_39 (pc' := 40) rfl (j := 1) rfl ?_
      refine r_iload_n C dX7_alone_40 (pc' := 41) rfl (j := 2) rfl ?_
      refine r_callVi (As := [.int x1, .int x3]) (rest := []) (Cn := RX7) (T := TX7) C k_a0 (by decide) vc_X7 (S_X7_waterBy k_a0 h) (lw_V q1755 q1757 qs101 q112 q1758) rfl hd_X7_waterBy rfl rfl (Nat.le_of_ble_eq_true rfl) (Nat.le_of_ble_eq_true rfl) (Nat.le_of_ble_eq_true rfl) rfl rfl (Nat.le_of_ble_eq_true rfl) (Nat.le_of_ble_eq_true rfl) dX7_alone_41 (pc' := 44) rfl (fun r_47 M_46 h m_48 => ?_)
      refine r_if_ne C dX7_alone_44 (pc' := 47) rfl (tgt := 54) (by decide) (fun c_49 => ?_) (fun c_49 => ?_)
      · have h := it_f h c_49
        refine r_sub (lv' := [(3, .int x3)]) [2] rfl ?_
        exact hX54 M_46 x3 m_48 h
      · have h := it_t h c_49
        refine r_iload_n C dX7_alone_47 (pc' := 48) rfl (j := 2) rfl ?_
        refine r_iconst C dX7_alone_48 (pc' := 49) rfl (v := 1) rfl ?_
        refine r_isub C dX7_alone_49 (pc' := 50) rfl ?_
        obtain ⟨x3_50, e_51, h⟩ := bn_ h
        refine r_istore_n C (lv' := [(3, .int x3_50), (0, .ref a0), (1, .int x1)]) dX7_alone_50 (pc' := 51) rfl rfl x3_50 e_51 (Nat.le_of_ble_eq_true rfl) rfl ?_
        refine r_goto C dX7_alone_51 (tgt := 34) (by decide) ?_
        refine r_sub (lv' := [(0, .ref a0), (1, .int x1), (3, .int x3_50)]) [1, 2, 0] rfl ?_
        exact ih M_46 x3_50 (mMo.kd m_48 k_a0 (by decide)) h (fun M9 w0 hm9 h9 => hX54 M9 w0 (mMo.tr m_48 hm9) h9)
set_option maxHeartbeats 4000000 in
theorem B_X7_alone_54 {E : mE} {M : MM} {x3 : Int32} {Post : Int32 → MM → Prop} (C : mC E yX7_alone cX7_alone 8 ((some .int)) { frames := 4, cells := 0, slots := 0, locals := 96 }) (hE : mEnd E { frames := 4, cells := 0, slots := 0, locals := 96 } (pI_ Post)) (h : wb_X7_alone_54 M x3 Post) : mV E M 0 0 54 [(3, .int x3)] [] := by
  unfold wb_X7_alone_54 at h
  refine r_iload_n C dX7_alone_54 (pc' := 55) rfl (j := 0) rfl ?_
  refine r_if_ge C dX7_alone_55 (pc' := 58) rfl (tgt := 63) (by decide) (fun c_56 => ?_) (fun c_56 => ?_)
  · have h := it_t h c_56
    refine r_iload_n C dX7_alone_63 (pc' := 64) rfl (j := 0) rfl ?_
    exact r_iret C hE (Nat.le_of_ble_eq_true rfl) (Nat.le_of_ble_eq_true rfl) dX7_alone_64 ⟨_, rfl, h⟩
  · have h := it_f h c_56
    refine r_bipush C dX7_alone_58 (pc' := 60) rfl (v := -2) rfl ?_
    refine r_goto C dX7_alone_60 (tgt := 64) (by decide) ?_
    exact r_iret C hE (Nat.le_of_ble_eq_true rfl) (Nat.le_of_ble_eq_true rfl) dX7_alone_64 ⟨_, rfl, h⟩
set_option maxHeartbeats 4000000 in
theorem S_X7_alone {D : DD} {l : Launch} {M : MM} {a0 : Nat} {x1 : Int32} {x2 : Int32} {Post : Int32 → MM → Prop} (k_a0 : mkd M a0 = 7) (h : wp_X7_alone M a0 x1 x2 Post) : mMet D l yX7_alone cX7_alone 8 ((some .int)) { frames := 4, cells := 0, slots := 0, locals := 96 } M [.ref a0, .int x1, .int x2] (pI_ Post) := by
  refine m_of2 [(0, .ref a0), (1, .int x1), (2, .int x2)] (by decide +kernel) (Nat.le_of_ble_eq_true rfl) rfl (fun E hED hEl C hE => ?_)
  subst hED
  subst hEl
  unfold wp_X7_alone at h
  refine r_iload_n C dX7_alone_0 (pc' := 1) rfl (j := 1) rfl ?_
  refine r_iconst C dX7_alone_1 (pc' := 2) rfl (v := 2) rfl ?_
  refine r_bipush C dX7_alone_2 (pc' := 4) rfl (v := 6) rfl ?_
  refine r_callSi (As := [.int x1, .int (2 : Int32), .int (6 : Int32)]) (rest := []) C (S_X7_in h) (lw_S q1391 q1392 q112 q1393) hd_X7_in rfl rfl (Nat.le_of_ble_eq_true rfl) (Nat.le_of_ble_eq_true rfl) (Nat.le_of_ble_eq_true rfl) rfl rfl (Nat.le_of_ble_eq_true rfl) (Nat.le_of_ble_eq_true rfl) dX7_alone_4 (pc' := 7) rfl (fun r_2 M_1 h m_3 => ?_)
  refine r_if_eq C dX7_alone_7 (pc' := 10) rfl (tgt := 19) (by decide) (fun c_4 => ?_) (fun c_4 => ?_)
  · have h := it_t h c_4
    refine r_iconst C dX7_alone_19 (pc' := 20) rfl (v := -1) rfl ?_
    exact r_iret C hE (Nat.le_of_ble_eq_true rfl) (Nat.le_of_ble_eq_true rfl) dX7_alone_20 ⟨_, rfl, h⟩
  · have h := it_f h c_4
    refine r_iload_n C dX7_alone_10 (pc' := 11) rfl (j := 2) rfl ?_
    refine r_iconst C dX7_alone_11 (pc' := 12) rfl (v := 0) rfl ?_
    refine r_iconst C dX7_alone_12 (pc' := 13) rfl (v := 2) rfl ?_
    refine r_callSi (As := [.int x2, .int (0 : Int32), .int (2 : Int32)]) (rest := []) C (S_X7_in h) (lw_S q1391 q1392 q112 q1393) hd_X7_in rfl rfl (Nat.le_of_ble_eq_true rfl) (Nat.le_of_ble_eq_true rfl) (Nat.le_of_ble_eq_true rfl) rfl rfl (Nat.le_of_ble_eq_true rfl) (Nat.le_of_ble_eq_true rfl) dX7_alone_13 (pc' := 16) rfl (fun r_6 M_5 h m_7 => ?_)
    refine r_if_ne C dX7_alone_16 (pc' := 19) rfl (tgt := 21) (by decide) (fun c_8 => ?_) (fun c_8 => ?_)
    · have h := it_f h c_8
      refine r_aload_n C dX7_alone_21 (pc' := 22) rfl (j := 0) rfl ?_
      refine r_iload_n C dX7_alone_22 (pc' := 23) rfl (j := 1) rfl ?_
      refine r_callVv (As := [.int x1]) (rest := []) (Cn := RX7) (T := TX7) C (mMo.kd m_7 (mMo.kd m_3 k_a0 (by decide)) (by decide)) (by decide) vc_X7 (S_X7_laysAlone (mMo.kd m_7 (mMo.kd m_3 k_a0 (by decide)) (by decide)) h) (lw_V q1751 q1753 qs100 q112 q1754) rfl hd_X7_laysAlone rfl rfl (Nat.le_of_ble_eq_true rfl) (Nat.le_of_ble_eq_true rfl) (Nat.le_of_ble_eq_true rfl) rfl rfl (Nat.le_of_ble_eq_true rfl) (Nat.le_of_ble_eq_true rfl) dX7_alone_23 (pc' := 26) rfl (fun M_9 h m_11 => ?_)
      refine r_iload_n C dX7_alone_26 (pc' := 27) rfl (j := 2) rfl ?_
      refine r_iconst C dX7_alone_27 (pc' := 28) rfl (v := 2) rfl ?_
      refine r_icmp_ne C dX7_alone_28 (pc' := 31) rfl (tgt := 65) (by decide) (fun c_12 => ?_) (fun c_12 => ?_)
      · have h := it_f h c_12
        refine r_iconst C dX7_alone_65 (pc' := 66) rfl (v := 0) rfl ?_
        refine r_istore_n C (lv' := [(3, .int (0 : Int32)), (0, .ref a0), (1, .int x1), (2, .int x2)]) dX7_alone_66 (pc' := 67) rfl rfl (0 : Int32) rfl (Nat.le_of_ble_eq_true rfl) rfl ?_
        refine r_bipush C dX7_alone_67 (pc' := 69) rfl (v := -2) rfl ?_
        refine r_istore C (lv' := [(4, .int (-2 : Int32)), (3, .int (0 : Int32)), (0, .ref a0), (1, .int x1), (2, .int x2)]) dX7_alone_69 (pc' := 71) rfl (-2 : Int32) rfl (Nat.le_of_ble_eq_true rfl) rfl ?_
        refine r_iconst C dX7_alone_71 (pc' := 72) rfl (v := 0) rfl ?_
        refine r_istore C (lv' := [(5, .int (0 : Int32)), (4, .int (-2 : Int32)), (3, .int (0 : Int32)), (0, .ref a0), (1, .int x1), (2, .int x2)]) dX7_alone_72 (pc' := 74) rfl (0 : Int32) rfl (Nat.le_of_ble_eq_true rfl) rfl ?_
        obtain ⟨n_39, h⟩ := h
        refine r_sub (lv' := [(0, .ref a0), (1, .int x1), (2, .int x2), (3, .int (0 : Int32)), (4, .int (-2 : Int32)), (5, .int (0 : Int32))]) [3, 4, 5, 2, 1, 0] rfl ?_
        refine B_X7_alone_74 C hE n_39 M_9 (0 : Int32) (-2 : Int32) (0 : Int32) (mMo.kd m_11 (mMo.kd m_7 (mMo.kd m_3 k_a0 (by decide)) (by decide)) (by decide)) h (fun M_40 x3_42 x4_43 m_41 h => ?_)
        refine r_iload_n C dX7_alone_167 (pc' := 168) rfl (j := 0) rfl ?_
        refine r_if_ne C dX7_alone_168 (pc' := 171) rfl (tgt := 175) (by decide) (fun c_44 => ?_) (fun c_44 => ?_)
        · have h := it_f h c_44
          refine r_iload C dX7_alone_175 (pc' := 177) rfl (j := 2) rfl ?_
          exact r_iret C hE (Nat.le_of_ble_eq_true rfl) (Nat.le_of_ble_eq_true rfl) dX7_alone_177 ⟨_, rfl, h⟩
        · have h := it_t h c_44
          refine r_iload_n C dX7_alone_171 (pc' := 172) rfl (j := 1) rfl ?_
          refine r_goto C dX7_alone_172 (tgt := 177) (by decide) ?_
          exact r_iret C hE (Nat.le_of_ble_eq_true rfl) (Nat.le_of_ble_eq_true rfl) dX7_alone_177 ⟨_, rfl, h⟩
      · have h := it_t h c_12
        refine r_bipush C dX7_alone_31 (pc' := 33) rfl (v := 10) rfl ?_
        refine r_istore_n C (lv' := [(3, .int (10 : Int32)), (0, .ref a0), (1, .int x1), (2, .int x2)]) dX7_alone_33 (pc' := 34) rfl rfl (10 : Int32) rfl (Nat.le_of_ble_eq_true rfl) rfl ?_
        obtain ⟨n_52, h⟩ := h
        refine r_sub (lv' := [(0, .ref a0), (1, .int x1), (3, .int (10 : Int32))]) [1, 2, 0] rfl ?_
        refine B_X7_alone_34 C hE n_52 M_9 (10 : Int32) (mMo.kd m_11 (mMo.kd m_7 (mMo.kd m_3 k_a0 (by decide)) (by decide)) (by decide)) h (fun M_53 x3_55 m_54 h => ?_)
        refine r_sub (lv' := [(3, .int x3_55)]) [0] rfl ?_
        exact B_X7_alone_54 C hE h
    · have h := it_t h c_8
      refine r_iconst C dX7_alone_19 (pc' := 20) rfl (v := -1) rfl ?_
      exact r_iret C hE (Nat.le_of_ble_eq_true rfl) (Nat.le_of_ble_eq_true rfl) dX7_alone_20 ⟨_, rfl, h⟩
set_option maxHeartbeats 4000000 in
theorem B_X7_whoDid_107 {E : mE} {a0 : Nat} {x1 : Int32} {x2 : Int32} {x3 : Int32} {x4 : Int32} {x5 : Int32} {x6 : Int64} {x8 : Int32} {x9 : Int32} {x10 : Int32} {X188 : MM → Int32 → Int32 → Prop} {Post : Int64 → MM → Prop} (C : mC E yX7_whoDid cX7_whoDid 14 ((some .long)) { frames := 1, cells := 0, slots := 0, locals := 22 }) (hE : mEnd E { frames := 1, cells := 0, slots := 0, locals := 22 } (pL_ Post)) : ∀ (n_ : Nat) (M : MM) (x11 : Int32) (x12 : Int32) (x13 : Int32), mkd M a0 = 7 → wl_X7_whoDid_107 a0 x1 x2 x3 x4 x5 x6 x8 x9 x10 X188 n_ M x11 x12 x13 → (∀ (M' : MM) (x11' : Int32) (x12' : Int32), mMo M M' → X188 M' x11' x12' → mV E M' 0 0 188 [(0, .ref a0), (1, .int x1), (2, .int x2), (3, .int x3), (4, .int x4), (5, .int x5), (6, .long x6), (8, .int x8), (9, .int x9), (10, .int x10), (11, .int x11'), (12, .int x12')] []) → mV E M 0 0 107 [(0, .ref a0), (1, .int x1), (2, .int x2), (3, .int x3), (4, .int x4), (5, .int x5), (6, .long x6), (8, .int x8), (9, .int x9), (10, .int x10), (11, .int x11), (12, .int x12), (13, .int x13)] [] := by
  intro n_
  induction n_ with
  | zero =>
    intro M x11 x12 x13 k_a0 h hX188
    exact absurd h (by rw [wl_X7_whoDid_107]; exact fun q => q)
  | succ n_ ih =>
    intro M x11 x12 x13 k_a0 h hX188
    rw [wl_X7_whoDid_107] at h
    refine r_iload C dX7_whoDid_107 (pc' := 109) rfl (j := 12) rfl ?_
    refine r_sipush C dX7_whoDid_109 (pc' := 112) rfl (v := 256) rfl ?_
    refine r_icmp_ge C dX7_whoDid_112 (pc' := 115) rfl (tgt := 188) (by decide) (fun c_29 => ?_) (fun c_29 => ?_)
    · have h := it_t h c_29
      refine r_sub (lv' := [(0, .ref a0), (1, .int x1), (2, .int x2), (3, .int x3), (4, .int x4), (5, .int x5), (6, .long x6), (8, .int x8), (9, .int x9), (10, .int x10), (11, .int x11), (12, .int x12)]) [0, 1, 2, 3, 4, 5, 6, 7, 8, 9, 10, 11] rfl ?_
      exact hX188 M x11 x12 mMo.rf h
    · have h := it_f h c_29
      refine r_iload C dX7_whoDid_115 (pc' := 117) rfl (j := 12) rfl ?_
      refine r_iload_n C dX7_whoDid_117 (pc' := 118) rfl (j := 2) rfl ?_
      refine r_iconst C dX7_whoDid_118 (pc' := 119) rfl (v := -1) rfl ?_
      refine r_ixor C dX7_whoDid_119 (pc' := 120) rfl ?_
      refine r_iand C dX7_whoDid_120 (pc' := 121) rfl ?_
      refine r_if_ne C dX7_whoDid_121 (pc' := 124) rfl (tgt := 182) (by decide) (fun c_30 => ?_) (fun c_30 => ?_)
      · have h := it_f h c_30
        obtain ⟨x13_31, e_32, h⟩ := bn_ h
        refine r_iinc C (lv' := [(13, .int x13_31), (0, .ref a0), (1, .int x1), (2, .int x2), (3, .int x3), (4, .int x4), (5, .int x5), (6, .long x6), (8, .int x8), (9, .int x9), (10, .int x10), (11, .int x11), (12, .int x12)]) dX7_whoDid_182 (pc' := 185) rfl (j := 12) rfl x13_31 (by rw [e_32]; rfl) (Nat.le_of_ble_eq_true rfl) rfl ?_
        refine r_goto C dX7_whoDid_185 (tgt := 107) (by decide) ?_
        refine r_sub (lv' := [(0, .ref a0), (1, .int x1), (2, .int x2), (3, .int x3), (4, .int x4), (5, .int x5), (6, .long x6), (8, .int x8), (9, .int x9), (10, .int x10), (11, .int x11), (12, .int x12), (13, .int x13_31)]) [1, 2, 3, 4, 5, 6, 7, 8, 9, 10, 11, 12, 0] rfl ?_
        exact ih M x11 x12 x13_31 k_a0 h (fun M9 w0 w1 hm9 h9 => hX188 M9 w0 w1 hm9 h9)
      · have h := it_t h c_30
        refine r_iconst C dX7_whoDid_124 (pc' := 125) rfl (v := 0) rfl ?_
        refine r_aload_n C dX7_whoDid_125 (pc' := 126) rfl (j := 0) rfl ?_
        refine r_getf C (Cn := RX7) (T := TX7) 3 k_a0 (by decide) vc_X7 in_X7 (by decide) q1227 dX7_whoDid_126 (pc' := 129) rfl (v := va_rf (mgR M a0 3)) rfl ?_
        obtain ⟨b_33, e_34, k_35, h⟩ := h
        refine r_ref [] e_34 ?_
        refine r_iload C dX7_whoDid_129 (pc' := 131) rfl (j := 9) rfl ?_
        obtain ⟨c_36, h⟩ := h
        refine r_bald C (j := (ix_ x10)) k_35 c_36 rfl dX7_whoDid_131 (pc' := 132) rfl ?_
        refine r_sipush C dX7_whoDid_132 (pc' := 135) rfl (v := 255) rfl ?_
        refine r_iand C dX7_whoDid_135 (pc' := 136) rfl ?_
        refine r_iload_n C dX7_whoDid_136 (pc' := 137) rfl (j := 3) rfl ?_
        refine r_iload C dX7_whoDid_137 (pc' := 139) rfl (j := 12) rfl ?_
        refine r_callSi (As := [.int x13]) (rest := [.int x3, .int ((mgI M b_33 (ix_ x10)) &&& (255 : Int32)), .int (0 : Int32)]) C (S_X7_bits h) (lw_S q1542 q1543 q112 q1544) hd_X7_bits rfl rfl (Nat.le_of_ble_eq_true rfl) (Nat.le_of_ble_eq_true rfl) (Nat.le_of_ble_eq_true rfl) rfl rfl (Nat.le_of_ble_eq_true rfl) (Nat.le_of_ble_eq_true rfl) dX7_whoDid_139 (pc' := 142) rfl (fun r_38 M_37 h m_39 => ?_)
        refine r_imul C dX7_whoDid_142 (pc' := 143) rfl ?_
        refine r_iadd C dX7_whoDid_143 (pc' := 144) rfl ?_
        refine r_iload C dX7_whoDid_144 (pc' := 146) rfl (j := 4) rfl ?_
        refine r_isub C dX7_whoDid_146 (pc' := 147) rfl ?_
        refine r_callSi (As := [.int (0 : Int32), .int ((((mgI M b_33 (ix_ x10)) &&& (255 : Int32)) + (x3 * r_38)) - x4)]) (rest := []) C (S_X7_max h) (lw_S q1581 q1582 q112 q1583) hd_X7_max rfl rfl (Nat.le_of_ble_eq_true rfl) (Nat.le_of_ble_eq_true rfl) (Nat.le_of_ble_eq_true rfl) rfl rfl (Nat.le_of_ble_eq_true rfl) (Nat.le_of_ble_eq_true rfl) dX7_whoDid_147 (pc' := 150) rfl (fun r_41 M_40 h m_42 => ?_)
        refine r_aload_n C dX7_whoDid_150 (pc' := 151) rfl (j := 0) rfl ?_
        refine r_getf C (Cn := RX7) (T := TX7) 3 (mMo.kd m_42 (mMo.kd m_39 k_a0 (by decide)) (by decide)) (by decide) vc_X7 in_X7 (by decide) q1227 dX7_whoDid_151 (pc' := 154) rfl (v := va_rf (mgR M_40 a0 3)) rfl ?_
        obtain ⟨b_43, e_44, k_45, h⟩ := h
        refine r_ref [] e_44 ?_
        refine r_iload C dX7_whoDid_154 (pc' := 156) rfl (j := 9) rfl ?_
        refine r_iconst C dX7_whoDid_156 (pc' := 157) rfl (v := 1) rfl ?_
        refine r_iadd C dX7_whoDid_157 (pc' := 158) rfl ?_
        obtain ⟨c_46, h⟩ := h
        refine r_bald C (j := (ix_ (x10 + (1 : Int32)))) k_45 c_46 rfl dX7_whoDid_158 (pc' := 159) rfl ?_
        refine r_sipush C dX7_whoDid_159 (pc' := 162) rfl (v := 255) rfl ?_
        refine r_iand C dX7_whoDid_162 (pc' := 163) rfl ?_
        refine r_icmp_eq C dX7_whoDid_163 (pc' := 166) rfl (tgt := 169) (by decide) (fun c_47 => ?_) (fun c_47 => ?_)
        · have h := it_t h c_47
          refine r_iload C dX7_whoDid_169 (pc' := 171) rfl (j := 10) rfl ?_
          refine r_iconst C dX7_whoDid_171 (pc' := 172) rfl (v := 1) rfl ?_
          refine r_iadd C dX7_whoDid_172 (pc' := 173) rfl ?_
          obtain ⟨x11_48, e_49, h⟩ := bn_ h
          refine r_istore C (lv' := [(11, .int x11_48), (0, .ref a0), (1, .int x1), (2, .int x2), (3, .int x3), (4, .int x4), (5, .int x5), (6, .long x6), (8, .int x8), (9, .int x9), (10, .int x10), (12, .int x12), (13, .int x13)]) dX7_whoDid_173 (pc' := 175) rfl x11_48 e_49 (Nat.le_of_ble_eq_true rfl) rfl ?_
          refine r_iload C dX7_whoDid_175 (pc' := 177) rfl (j := 11) rfl ?_
          refine r_iload C dX7_whoDid_177 (pc' := 179) rfl (j := 12) rfl ?_
          refine r_iand C dX7_whoDid_179 (pc' := 180) rfl ?_
          obtain ⟨x12_50, e_51, h⟩ := bn_ h
          refine r_istore C (lv' := [(12, .int x12_50), (11, .int x11_48), (0, .ref a0), (1, .int x1), (2, .int x2), (3, .int x3), (4, .int x4), (5, .int x5), (6, .long x6), (8, .int x8), (9, .int x9), (10, .int x10), (13, .int x13)]) dX7_whoDid_180 (pc' := 182) rfl x12_50 e_51 (Nat.le_of_ble_eq_true rfl) rfl ?_
          obtain ⟨x13_52, e_53, h⟩ := bn_ h
          refine r_iinc C (lv' := [(13, .int x13_52), (12, .int x12_50), (11, .int x11_48), (0, .ref a0), (1, .int x1), (2, .int x2), (3, .int x3), (4, .int x4), (5, .int x5), (6, .long x6), (8, .int x8), (9, .int x9), (10, .int x10)]) dX7_whoDid_182 (pc' := 185) rfl (j := 12) rfl x13_52 (by rw [e_53]; rfl) (Nat.le_of_ble_eq_true rfl) rfl ?_
          refine r_goto C dX7_whoDid_185 (tgt := 107) (by decide) ?_
          refine r_sub (lv' := [(0, .ref a0), (1, .int x1), (2, .int x2), (3, .int x3), (4, .int x4), (5, .int x5), (6, .long x6), (8, .int x8), (9, .int x9), (10, .int x10), (11, .int x11_48), (12, .int x12_50), (13, .int x13_52)]) [3, 4, 5, 6, 7, 8, 9, 10, 11, 12, 2, 1, 0] rfl ?_
          exact ih M_40 x11_48 x12_50 x13_52 (mMo.kd m_42 (mMo.kd m_39 k_a0 (by decide)) (by decide)) h (fun M9 w0 w1 hm9 h9 => hX188 M9 w0 w1 (mMo.tr (mMo.tr m_39 m_42) hm9) h9)
        · have h := it_f h c_47
          refine r_goto C dX7_whoDid_166 (tgt := 182) (by decide) ?_
          obtain ⟨x13_54, e_55, h⟩ := bn_ h
          refine r_iinc C (lv' := [(13, .int x13_54), (0, .ref a0), (1, .int x1), (2, .int x2), (3, .int x3), (4, .int x4), (5, .int x5), (6, .long x6), (8, .int x8), (9, .int x9), (10, .int x10), (11, .int x11), (12, .int x12)]) dX7_whoDid_182 (pc' := 185) rfl (j := 12) rfl x13_54 (by rw [e_55]; rfl) (Nat.le_of_ble_eq_true rfl) rfl ?_
          refine r_goto C dX7_whoDid_185 (tgt := 107) (by decide) ?_
          refine r_sub (lv' := [(0, .ref a0), (1, .int x1), (2, .int x2), (3, .int x3), (4, .int x4), (5, .int x5), (6, .long x6), (8, .int x8), (9, .int x9), (10, .int x10), (11, .int x11), (12, .int x12), (13, .int x13_54)]) [1, 2, 3, 4, 5, 6, 7, 8, 9, 10, 11, 12, 0] rfl ?_
          exact ih M_40 x11 x12 x13_54 (mMo.kd m_42 (mMo.kd m_39 k_a0 (by decide)) (by decide)) h (fun M9 w0 w1 hm9 h9 => hX188 M9 w0 w1 (mMo.tr (mMo.tr m_39 m_42) hm9) h9)
set_option maxHeartbeats 4000000 in
theorem B_X7_whoDid_212 {E : mE} {M : MM} {a0 : Nat} {x1 : Int32} {x2 : Int32} {x3 : Int32} {x4 : Int32} {x5 : Int32} {x6 : Int64} {x8 : Int32} {x9 : Int32} {x10 : Int32} {x12 : Int32} {R : MM → Int64 → Int32 → Int32 → Int32 → Prop} {X225 : MM → Int64 → Int32 → Int32 → Prop} {Post : Int64 → MM → Prop} (C : mC E yX7_whoDid cX7_whoDid 14 ((some .long)) { frames := 1, cells := 0, slots := 0, locals := 22 }) (hE : mEnd E { frames := 1, cells := 0, slots := 0, locals := 22 } (pL_ Post)) (k_a0 : mkd M a0 = 7) (h : wb_X7_whoDid_212 M a0 x1 x2 x3 x4 x5 x6 x8 x9 x10 x12 R X225) (hR : ∀ (M' : MM) (x6' : Int64) (x8' : Int32) (x9' : Int32) (x10' : Int32), mMo M M' → mkd M' a0 = 7 → R M' x6' x8' x9' x10' → mV E M' 0 0 92 [(0, .ref a0), (1, .int x1), (2, .int x2), (3, .int x3), (4, .int x4), (5, .int x5), (6, .long x6'), (8, .int x8'), (9, .int x9'), (10, .int x10')] []) (hX225 : ∀ (M' : MM) (x6' : Int64) (x8' : Int32) (x9' : Int32), mMo M M' → X225 M' x6' x8' x9' → mV E M' 0 0 225 [(5, .int x5), (6, .long x6'), (8, .int x8'), (9, .int x9')] []) : mV E M 0 0 212 [(0, .ref a0), (1, .int x1), (2, .int x2), (3, .int x3), (4, .int x4), (5, .int x5), (6, .long x6), (8, .int x8), (9, .int x9), (10, .int x10), (12, .int x12)] [] := by
  unfold wb_X7_whoDid_212 at h
  refine r_iload C dX7_whoDid_212 (pc' := 214) rfl (j := 8) rfl ?_
  refine r_iload C dX7_whoDid_214 (pc' := 216) rfl (j := 10) rfl ?_
  refine r_ior C dX7_whoDid_216 (pc' := 217) rfl ?_
  obtain ⟨x9_64, e_65, h⟩ := bn_ h
  refine r_istore C (lv' := [(9, .int x9_64), (0, .ref a0), (1, .int x1), (2, .int x2), (3, .int x3), (4, .int x4), (5, .int x5), (6, .long x6), (8, .int x8), (10, .int x10), (12, .int x12)]) dX7_whoDid_217 (pc' := 219) rfl x9_64 e_65 (Nat.le_of_ble_eq_true rfl) rfl ?_
  obtain ⟨x10_66, e_67, h⟩ := bn_ h
  refine r_iinc C (lv' := [(10, .int x10_66), (9, .int x9_64), (0, .ref a0), (1, .int x1), (2, .int x2), (3, .int x3), (4, .int x4), (5, .int x5), (6, .long x6), (8, .int x8), (12, .int x12)]) dX7_whoDid_219 (pc' := 222) rfl (j := 9) rfl x10_66 (by rw [e_67]; rfl) (Nat.le_of_ble_eq_true rfl) rfl ?_
  refine r_goto C dX7_whoDid_222 (tgt := 92) (by decide) ?_
  refine r_sub (lv' := [(0, .ref a0), (1, .int x1), (2, .int x2), (3, .int x3), (4, .int x4), (5, .int x5), (6, .long x6), (8, .int x8), (9, .int x9_64), (10, .int x10_66)]) [2, 3, 4, 5, 6, 7, 8, 9, 1, 0] rfl ?_
  exact hR M x6 x8 x9_64 x10_66 mMo.rf k_a0 h
set_option maxHeartbeats 4000000 in
theorem B_X7_whoDid_92 {E : mE} {a0 : Nat} {x1 : Int32} {x2 : Int32} {x3 : Int32} {x4 : Int32} {x5 : Int32} {X225 : MM → Int64 → Int32 → Int32 → Prop} {Post : Int64 → MM → Prop} (C : mC E yX7_whoDid cX7_whoDid 14 ((some .long)) { frames := 1, cells := 0, slots := 0, locals := 22 }) (hE : mEnd E { frames := 1, cells := 0, slots := 0, locals := 22 } (pL_ Post)) : ∀ (n_ : Nat) (M : MM) (x6 : Int64) (x8 : Int32) (x9 : Int32) (x10 : Int32), mkd M a0 = 7 → wl_X7_whoDid_92 a0 x1 x2 x3 x4 x5 X225 n_ M x6 x8 x9 x10 → (∀ (M' : MM) (x6' : Int64) (x8' : Int32) (x9' : Int32), mMo M M' → X225 M' x6' x8' x9' → mV E M' 0 0 225 [(5, .int x5), (6, .long x6'), (8, .int x8'), (9, .int x9')] []) → mV E M 0 0 92 [(0, .ref a0), (1, .int x1), (2, .int x2), (3, .int x3), (4, .int x4), (5, .int x5), (6, .long x6), (8, .int x8), (9, .int x9), (10, .int x10)] [] := by
  intro n_
  induction n_ with
  | zero =>
    intro M x6 x8 x9 x10 k_a0 h hX225
    exact absurd h (by rw [wl_X7_whoDid_92]; exact fun q => q)
  | succ n_ ih =>
    intro M x6 x8 x9 x10 k_a0 h hX225
    rw [wl_X7_whoDid_92] at h
    refine r_iload C dX7_whoDid_92 (pc' := 94) rfl (j := 9) rfl ?_
    refine r_iload_n C dX7_whoDid_94 (pc' := 95) rfl (j := 1) rfl ?_
    refine r_icmp_ge C dX7_whoDid_95 (pc' := 98) rfl (tgt := 225) (by decide) (fun c_28 => ?_) (fun c_28 => ?_)
    · have h := it_t h c_28
      refine r_sub (lv' := [(5, .int x5), (6, .long x6), (8, .int x8), (9, .int x9)]) [5, 6, 7, 8] rfl ?_
      exact hX225 M x6 x8 x9 mMo.rf h
    · have h := it_f h c_28
      refine r_iconst C dX7_whoDid_98 (pc' := 99) rfl (v := 0) rfl ?_
      refine r_istore C (lv' := [(11, .int (0 : Int32)), (0, .ref a0), (1, .int x1), (2, .int x2), (3, .int x3), (4, .int x4), (5, .int x5), (6, .long x6), (8, .int x8), (9, .int x9), (10, .int x10)]) dX7_whoDid_99 (pc' := 101) rfl (0 : Int32) rfl (Nat.le_of_ble_eq_true rfl) rfl ?_
      refine r_iload_n C dX7_whoDid_101 (pc' := 102) rfl (j := 3) rfl ?_
      refine r_istore C (lv' := [(12, .int x2), (11, .int (0 : Int32)), (0, .ref a0), (1, .int x1), (2, .int x2), (3, .int x3), (4, .int x4), (5, .int x5), (6, .long x6), (8, .int x8), (9, .int x9), (10, .int x10)]) dX7_whoDid_102 (pc' := 104) rfl x2 rfl (Nat.le_of_ble_eq_true rfl) rfl ?_
      refine r_iconst C dX7_whoDid_104 (pc' := 105) rfl (v := 0) rfl ?_
      refine r_istore C (lv' := [(13, .int (0 : Int32)), (12, .int x2), (11, .int (0 : Int32)), (0, .ref a0), (1, .int x1), (2, .int x2), (3, .int x3), (4, .int x4), (5, .int x5), (6, .long x6), (8, .int x8), (9, .int x9), (10, .int x10)]) dX7_whoDid_105 (pc' := 107) rfl (0 : Int32) rfl (Nat.le_of_ble_eq_true rfl) rfl ?_
      obtain ⟨n_56, h⟩ := h
      refine r_sub (lv' := [(0, .ref a0), (1, .int x1), (2, .int x2), (3, .int x3), (4, .int x4), (5, .int x5), (6, .long x6), (8, .int x8), (9, .int x9), (10, .int x10), (11, .int (0 : Int32)), (12, .int x2), (13, .int (0 : Int32))]) [3, 4, 5, 6, 7, 8, 9, 10, 11, 12, 2, 1, 0] rfl ?_
      refine B_X7_whoDid_107 C hE n_56 M (0 : Int32) x2 (0 : Int32) k_a0 h (fun M_57 x11_59 x12_60 m_58 h => ?_)
      refine r_lload C dX7_whoDid_188 (pc' := 190) rfl (j := 6) rfl ?_
      refine r_iload C dX7_whoDid_190 (pc' := 192) rfl (j := 10) rfl ?_
      refine r_i2l C dX7_whoDid_192 (pc' := 193) rfl ?_
      refine r_lmul C dX7_whoDid_193 (pc' := 194) rfl ?_
      obtain ⟨x6_61, e_62, h⟩ := bn_ h
      refine r_lstore C (lv' := [(6, .long x6_61), (0, .ref a0), (1, .int x1), (2, .int x2), (3, .int x3), (4, .int x4), (5, .int x5), (8, .int x8), (9, .int x9), (10, .int x10), (11, .int x11_59), (12, .int x12_60)]) dX7_whoDid_194 (pc' := 196) rfl x6_61 e_62 (Nat.le_of_ble_eq_true rfl) rfl ?_
      refine r_iload C dX7_whoDid_196 (pc' := 198) rfl (j := 10) rfl ?_
      refine r_if_ne C dX7_whoDid_198 (pc' := 201) rfl (tgt := 212) (by decide) (fun c_63 => ?_) (fun c_63 => ?_)
      · have h := it_f h c_63
        refine r_sub (lv' := [(0, .ref a0), (1, .int x1), (2, .int x2), (3, .int x3), (4, .int x4), (5, .int x5), (6, .long x6_61), (8, .int x8), (9, .int x9), (10, .int x10), (12, .int x12_60)]) [1, 2, 3, 4, 5, 6, 0, 7, 8, 9, 11] rfl ?_
        exact B_X7_whoDid_212 C hE (mMo.kd m_58 k_a0 (by decide)) h (fun M8 v0 v1 v2 v3 hm8 g0 h8 => ih M8 v0 v1 v2 v3 g0 h8 (fun M9 w0 w1 w2 hm9 h9 => hX225 M9 w0 w1 w2 (mMo.tr (mMo.tr m_58 hm8) hm9) h9)) (fun M9 w0 w1 w2 hm9 h9 => hX225 M9 w0 w1 w2 (mMo.tr m_58 hm9) h9)
      · have h := it_t h c_63
        refine r_iload C dX7_whoDid_201 (pc' := 203) rfl (j := 7) rfl ?_
        refine r_bipush C dX7_whoDid_203 (pc' := 205) rfl (v := -2) rfl ?_
        refine r_icmp_ne C dX7_whoDid_205 (pc' := 208) rfl (tgt := 212) (by decide) (fun c_68 => ?_) (fun c_68 => ?_)
        · have h := it_f h c_68
          refine r_sub (lv' := [(0, .ref a0), (1, .int x1), (2, .int x2), (3, .int x3), (4, .int x4), (5, .int x5), (6, .long x6_61), (8, .int x8), (9, .int x9), (10, .int x10), (12, .int x12_60)]) [1, 2, 3, 4, 5, 6, 0, 7, 8, 9, 11] rfl ?_
          exact B_X7_whoDid_212 C hE (mMo.kd m_58 k_a0 (by decide)) h (fun M8 v0 v1 v2 v3 hm8 g0 h8 => ih M8 v0 v1 v2 v3 g0 h8 (fun M9 w0 w1 w2 hm9 h9 => hX225 M9 w0 w1 w2 (mMo.tr (mMo.tr m_58 hm8) hm9) h9)) (fun M9 w0 w1 w2 hm9 h9 => hX225 M9 w0 w1 w2 (mMo.tr m_58 hm9) h9)
        · have h := it_t h c_68
          refine r_iload C dX7_whoDid_208 (pc' := 210) rfl (j := 9) rfl ?_
          refine r_istore C (lv' := [(8, .int x10), (6, .long x6_61), (0, .ref a0), (1, .int x1), (2, .int x2), (3, .int x3), (4, .int x4), (5, .int x5), (9, .int x9), (10, .int x10), (11, .int x11_59), (12, .int x12_60)]) dX7_whoDid_210 (pc' := 212) rfl x10 rfl (Nat.le_of_ble_eq_true rfl) rfl ?_
          refine r_sub (lv' := [(0, .ref a0), (1, .int x1), (2, .int x2), (3, .int x3), (4, .int x4), (5, .int x5), (6, .long x6_61), (8, .int x10), (9, .int x9), (10, .int x10), (12, .int x12_60)]) [2, 3, 4, 5, 6, 7, 1, 0, 8, 9, 11] rfl ?_
          exact B_X7_whoDid_212 C hE (mMo.kd m_58 k_a0 (by decide)) h (fun M8 v0 v1 v2 v3 hm8 g0 h8 => ih M8 v0 v1 v2 v3 g0 h8 (fun M9 w0 w1 w2 hm9 h9 => hX225 M9 w0 w1 w2 (mMo.tr (mMo.tr m_58 hm8) hm9) h9)) (fun M9 w0 w1 w2 hm9 h9 => hX225 M9 w0 w1 w2 (mMo.tr m_58 hm9) h9)
set_option maxHeartbeats 4000000 in
theorem S_X7_whoDid {D : DD} {l : Launch} {M : MM} {a0 : Nat} {x1 : Int32} {x2 : Int32} {x3 : Int32} {x4 : Int32} {x5 : Int32} {Post : Int64 → MM → Prop} (k_a0 : mkd M a0 = 7) (h : wp_X7_whoDid M a0 x1 x2 x3 x4 x5 Post) : mMet D l yX7_whoDid cX7_whoDid 14 ((some .long)) { frames := 1, cells := 0, slots := 0, locals := 22 } M [.ref a0, .int x1, .int x2, .int x3, .int x4, .int x5] (pL_ Post) := by
  refine m_of2 [(0, .ref a0), (1, .int x1), (2, .int x2), (3, .int x3), (4, .int x4), (5, .int x5)] (by decide +kernel) (Nat.le_of_ble_eq_true rfl) rfl (fun E hED hEl C hE => ?_)
  subst hED
  subst hEl
  unfold wp_X7_whoDid at h
  refine r_iload_n C dX7_whoDid_0 (pc' := 1) rfl (j := 1) rfl ?_
  refine r_iconst C dX7_whoDid_1 (pc' := 2) rfl (v := 1) rfl ?_
  refine r_bipush C dX7_whoDid_2 (pc' := 4) rfl (v := 6) rfl ?_
  refine r_callSi (As := [.int x1, .int (1 : Int32), .int (6 : Int32)]) (rest := []) C (S_X7_in h) (lw_S q1391 q1392 q112 q1393) hd_X7_in rfl rfl (Nat.le_of_ble_eq_true rfl) (Nat.le_of_ble_eq_true rfl) (Nat.le_of_ble_eq_true rfl) rfl rfl (Nat.le_of_ble_eq_true rfl) (Nat.le_of_ble_eq_true rfl) dX7_whoDid_4 (pc' := 7) rfl (fun r_2 M_1 h m_3 => ?_)
  refine r_if_eq C dX7_whoDid_7 (pc' := 10) rfl (tgt := 70) (by decide) (fun c_4 => ?_) (fun c_4 => ?_)
  · have h := it_t h c_4
    refine r_ldc2 C dX7_whoDid_70 (pc' := 73) rfl q1607 ?_
    exact r_lret C hE (Nat.le_of_ble_eq_true rfl) (Nat.le_of_ble_eq_true rfl) dX7_whoDid_73 ⟨_, rfl, h⟩
  · have h := it_f h c_4
    refine r_iload_n C dX7_whoDid_10 (pc' := 11) rfl (j := 2) rfl ?_
    refine r_iconst C dX7_whoDid_11 (pc' := 12) rfl (v := 1) rfl ?_
    refine r_sipush C dX7_whoDid_12 (pc' := 15) rfl (v := 255) rfl ?_
    refine r_callSi (As := [.int x2, .int (1 : Int32), .int (255 : Int32)]) (rest := []) C (S_X7_in h) (lw_S q1391 q1392 q112 q1393) hd_X7_in rfl rfl (Nat.le_of_ble_eq_true rfl) (Nat.le_of_ble_eq_true rfl) (Nat.le_of_ble_eq_true rfl) rfl rfl (Nat.le_of_ble_eq_true rfl) (Nat.le_of_ble_eq_true rfl) dX7_whoDid_15 (pc' := 18) rfl (fun r_6 M_5 h m_7 => ?_)
    refine r_if_eq C dX7_whoDid_18 (pc' := 21) rfl (tgt := 70) (by decide) (fun c_8 => ?_) (fun c_8 => ?_)
    · have h := it_t h c_8
      refine r_ldc2 C dX7_whoDid_70 (pc' := 73) rfl q1607 ?_
      exact r_lret C hE (Nat.le_of_ble_eq_true rfl) (Nat.le_of_ble_eq_true rfl) dX7_whoDid_73 ⟨_, rfl, h⟩
    · have h := it_f h c_8
      refine r_iload_n C dX7_whoDid_21 (pc' := 22) rfl (j := 2) rfl ?_
      refine r_callSi (As := [.int x2]) (rest := []) C (S_X7_bits h) (lw_S q1542 q1543 q112 q1544) hd_X7_bits rfl rfl (Nat.le_of_ble_eq_true rfl) (Nat.le_of_ble_eq_true rfl) (Nat.le_of_ble_eq_true rfl) rfl rfl (Nat.le_of_ble_eq_true rfl) (Nat.le_of_ble_eq_true rfl) dX7_whoDid_22 (pc' := 25) rfl (fun r_10 M_9 h m_11 => ?_)
      refine r_iconst C dX7_whoDid_25 (pc' := 26) rfl (v := 5) rfl ?_
      refine r_icmp_gt C dX7_whoDid_26 (pc' := 29) rfl (tgt := 70) (by decide) (fun c_12 => ?_) (fun c_12 => ?_)
      · have h := it_t h c_12
        refine r_ldc2 C dX7_whoDid_70 (pc' := 73) rfl q1607 ?_
        exact r_lret C hE (Nat.le_of_ble_eq_true rfl) (Nat.le_of_ble_eq_true rfl) dX7_whoDid_73 ⟨_, rfl, h⟩
      · have h := it_f h c_12
        refine r_iload_n C dX7_whoDid_29 (pc' := 30) rfl (j := 3) rfl ?_
        refine r_iconst C dX7_whoDid_30 (pc' := 31) rfl (v := 1) rfl ?_
        refine r_bipush C dX7_whoDid_31 (pc' := 33) rfl (v := 9) rfl ?_
        refine r_callSi (As := [.int x3, .int (1 : Int32), .int (9 : Int32)]) (rest := []) C (S_X7_in h) (lw_S q1391 q1392 q112 q1393) hd_X7_in rfl rfl (Nat.le_of_ble_eq_true rfl) (Nat.le_of_ble_eq_true rfl) (Nat.le_of_ble_eq_true rfl) rfl rfl (Nat.le_of_ble_eq_true rfl) (Nat.le_of_ble_eq_true rfl) dX7_whoDid_33 (pc' := 36) rfl (fun r_14 M_13 h m_15 => ?_)
        refine r_if_eq C dX7_whoDid_36 (pc' := 39) rfl (tgt := 70) (by decide) (fun c_16 => ?_) (fun c_16 => ?_)
        · have h := it_t h c_16
          refine r_ldc2 C dX7_whoDid_70 (pc' := 73) rfl q1607 ?_
          exact r_lret C hE (Nat.le_of_ble_eq_true rfl) (Nat.le_of_ble_eq_true rfl) dX7_whoDid_73 ⟨_, rfl, h⟩
        · have h := it_f h c_16
          refine r_iload C dX7_whoDid_39 (pc' := 41) rfl (j := 4) rfl ?_
          refine r_iconst C dX7_whoDid_41 (pc' := 42) rfl (v := 0) rfl ?_
          refine r_bipush C dX7_whoDid_42 (pc' := 44) rfl (v := 9) rfl ?_
          refine r_callSi (As := [.int x4, .int (0 : Int32), .int (9 : Int32)]) (rest := []) C (S_X7_in h) (lw_S q1391 q1392 q112 q1393) hd_X7_in rfl rfl (Nat.le_of_ble_eq_true rfl) (Nat.le_of_ble_eq_true rfl) (Nat.le_of_ble_eq_true rfl) rfl rfl (Nat.le_of_ble_eq_true rfl) (Nat.le_of_ble_eq_true rfl) dX7_whoDid_44 (pc' := 47) rfl (fun r_18 M_17 h m_19 => ?_)
          refine r_if_eq C dX7_whoDid_47 (pc' := 50) rfl (tgt := 70) (by decide) (fun c_20 => ?_) (fun c_20 => ?_)
          · have h := it_t h c_20
            refine r_ldc2 C dX7_whoDid_70 (pc' := 73) rfl q1607 ?_
            exact r_lret C hE (Nat.le_of_ble_eq_true rfl) (Nat.le_of_ble_eq_true rfl) dX7_whoDid_73 ⟨_, rfl, h⟩
          · have h := it_f h c_20
            refine r_iload C dX7_whoDid_50 (pc' := 52) rfl (j := 5) rfl ?_
            refine r_iconst C dX7_whoDid_52 (pc' := 53) rfl (v := 0) rfl ?_
            refine r_iconst C dX7_whoDid_53 (pc' := 54) rfl (v := 2) rfl ?_
            refine r_callSi (As := [.int x5, .int (0 : Int32), .int (2 : Int32)]) (rest := []) C (S_X7_in h) (lw_S q1391 q1392 q112 q1393) hd_X7_in rfl rfl (Nat.le_of_ble_eq_true rfl) (Nat.le_of_ble_eq_true rfl) (Nat.le_of_ble_eq_true rfl) rfl rfl (Nat.le_of_ble_eq_true rfl) (Nat.le_of_ble_eq_true rfl) dX7_whoDid_54 (pc' := 57) rfl (fun r_22 M_21 h m_23 => ?_)
            refine r_if_eq C dX7_whoDid_57 (pc' := 60) rfl (tgt := 70) (by decide) (fun c_24 => ?_) (fun c_24 => ?_)
            · have h := it_t h c_24
              refine r_ldc2 C dX7_whoDid_70 (pc' := 73) rfl q1607 ?_
              exact r_lret C hE (Nat.le_of_ble_eq_true rfl) (Nat.le_of_ble_eq_true rfl) dX7_whoDid_73 ⟨_, rfl, h⟩
            · have h := it_f h c_24
              refine r_iload_n C dX7_whoDid_60 (pc' := 61) rfl (j := 1) rfl ?_
              refine r_iconst C dX7_whoDid_61 (pc' := 62) rfl (v := 1) rfl ?_
              refine r_iadd C dX7_whoDid_62 (pc' := 63) rfl ?_
              refine r_aload_n C dX7_whoDid_63 (pc' := 64) rfl (j := 0) rfl ?_
              refine r_getf C (Cn := RX7) (T := TX7) 4 (mMo.kd m_23 (mMo.kd m_19 (mMo.kd m_15 (mMo.kd m_11 (mMo.kd m_7 (mMo.kd m_3 k_a0 (by decide)) (by decide)) (by decide)) (by decide)) (by decide)) (by decide)) (by decide) vc_X7 in_X7 (by decide) q1228 dX7_whoDid_64 (pc' := 67) rfl (v := .int (mgI M_21 a0 4)) rfl ?_
              refine r_icmp_le C dX7_whoDid_67 (pc' := 70) rfl (tgt := 74) (by decide) (fun c_25 => ?_) (fun c_25 => ?_)
              · have h := it_t h c_25
                refine r_aload_n C dX7_whoDid_74 (pc' := 75) rfl (j := 0) rfl ?_
                refine r_iconst C dX7_whoDid_75 (pc' := 76) rfl (v := 0) rfl ?_
                obtain ⟨M_26, e_27, h⟩ := bn_ h
                refine r_putI C (Cn := RX7) (T := TX7) tyX7 4 (mMo.kd m_23 (mMo.kd m_19 (mMo.kd m_15 (mMo.kd m_11 (mMo.kd m_7 (mMo.kd m_3 k_a0 (by decide)) (by decide)) (by decide)) (by decide)) (by decide)) (by decide)) (by decide) vc_X7 in_X7 tyX7_ok nmX7 (by decide) q1228 rfl rfl dX7_whoDid_76 (pc' := 79) rfl rfl rfl M_26 e_27 ?_
                refine r_lconst C dX7_whoDid_79 (pc' := 80) rfl (v := 1) rfl ?_
                refine r_lstore C (lv' := [(6, .long (1 : Int64)), (0, .ref a0), (1, .int x1), (2, .int x2), (3, .int x3), (4, .int x4), (5, .int x5)]) dX7_whoDid_80 (pc' := 82) rfl (1 : Int64) rfl (Nat.le_of_ble_eq_true rfl) rfl ?_
                refine r_bipush C dX7_whoDid_82 (pc' := 84) rfl (v := -2) rfl ?_
                refine r_istore C (lv' := [(8, .int (-2 : Int32)), (6, .long (1 : Int64)), (0, .ref a0), (1, .int x1), (2, .int x2), (3, .int x3), (4, .int x4), (5, .int x5)]) dX7_whoDid_84 (pc' := 86) rfl (-2 : Int32) rfl (Nat.le_of_ble_eq_true rfl) rfl ?_
                refine r_iconst C dX7_whoDid_86 (pc' := 87) rfl (v := 0) rfl ?_
                refine r_istore C (lv' := [(9, .int (0 : Int32)), (8, .int (-2 : Int32)), (6, .long (1 : Int64)), (0, .ref a0), (1, .int x1), (2, .int x2), (3, .int x3), (4, .int x4), (5, .int x5)]) dX7_whoDid_87 (pc' := 89) rfl (0 : Int32) rfl (Nat.le_of_ble_eq_true rfl) rfl ?_
                refine r_iconst C dX7_whoDid_89 (pc' := 90) rfl (v := 0) rfl ?_
                refine r_istore C (lv' := [(10, .int (0 : Int32)), (9, .int (0 : Int32)), (8, .int (-2 : Int32)), (6, .long (1 : Int64)), (0, .ref a0), (1, .int x1), (2, .int x2), (3, .int x3), (4, .int x4), (5, .int x5)]) dX7_whoDid_90 (pc' := 92) rfl (0 : Int32) rfl (Nat.le_of_ble_eq_true rfl) rfl ?_
                obtain ⟨n_69, h⟩ := h
                refine r_sub (lv' := [(0, .ref a0), (1, .int x1), (2, .int x2), (3, .int x3), (4, .int x4), (5, .int x5), (6, .long (1 : Int64)), (8, .int (-2 : Int32)), (9, .int (0 : Int32)), (10, .int (0 : Int32))]) [4, 5, 6, 7, 8, 9, 3, 2, 1, 0] rfl ?_
                refine B_X7_whoDid_92 C hE n_69 M_26 (1 : Int64) (-2 : Int32) (0 : Int32) (0 : Int32) (mMo.kd (mo_I e_27) (mMo.kd m_23 (mMo.kd m_19 (mMo.kd m_15 (mMo.kd m_11 (mMo.kd m_7 (mMo.kd m_3 k_a0 (by decide)) (by decide)) (by decide)) (by decide)) (by decide)) (by decide)) (by decide)) h (fun M_70 x6_72 x8_73 x9_74 m_71 h => ?_)
                refine r_iload C dX7_whoDid_225 (pc' := 227) rfl (j := 0) rfl ?_
                refine r_if_ne C dX7_whoDid_227 (pc' := 230) rfl (tgt := 235) (by decide) (fun c_75 => ?_) (fun c_75 => ?_)
                · have h := it_f h c_75
                  refine r_iload C dX7_whoDid_235 (pc' := 237) rfl (j := 0) rfl ?_
                  refine r_iconst C dX7_whoDid_237 (pc' := 238) rfl (v := 1) rfl ?_
                  refine r_icmp_ne C dX7_whoDid_238 (pc' := 241) rfl (tgt := 247) (by decide) (fun c_76 => ?_) (fun c_76 => ?_)
                  · have h := it_f h c_76
                    refine r_lload C dX7_whoDid_247 (pc' := 249) rfl (j := 1) rfl ?_
                    refine r_lconst C dX7_whoDid_249 (pc' := 250) rfl (v := 0) rfl ?_
                    refine r_lc_ne C dX7_whoDid_250 (pc1 := 251) (pc' := 254) rfl dX7_whoDid_251 rfl (tgt := 258) (by decide) (fun c_77 => ?_) (fun c_77 => ?_)
                    · have h := it_f h c_77
                      refine r_iload C dX7_whoDid_258 (pc' := 260) rfl (j := 3) rfl ?_
                      refine r_i2l C dX7_whoDid_260 (pc' := 261) rfl ?_
                      exact r_lret C hE (Nat.le_of_ble_eq_true rfl) (Nat.le_of_ble_eq_true rfl) dX7_whoDid_261 ⟨_, rfl, h⟩
                    · have h := it_t h c_77
                      refine r_lconst C dX7_whoDid_254 (pc' := 255) rfl (v := 0) rfl ?_
                      refine r_goto C dX7_whoDid_255 (tgt := 261) (by decide) ?_
                      exact r_lret C hE (Nat.le_of_ble_eq_true rfl) (Nat.le_of_ble_eq_true rfl) dX7_whoDid_261 ⟨_, rfl, h⟩
                  · have h := it_t h c_76
                    refine r_iload C dX7_whoDid_241 (pc' := 243) rfl (j := 2) rfl ?_
                    refine r_i2l C dX7_whoDid_243 (pc' := 244) rfl ?_
                    refine r_goto C dX7_whoDid_244 (tgt := 261) (by decide) ?_
                    exact r_lret C hE (Nat.le_of_ble_eq_true rfl) (Nat.le_of_ble_eq_true rfl) dX7_whoDid_261 ⟨_, rfl, h⟩
                · have h := it_t h c_75
                  refine r_lload C dX7_whoDid_230 (pc' := 232) rfl (j := 1) rfl ?_
                  refine r_goto C dX7_whoDid_232 (tgt := 261) (by decide) ?_
                  exact r_lret C hE (Nat.le_of_ble_eq_true rfl) (Nat.le_of_ble_eq_true rfl) dX7_whoDid_261 ⟨_, rfl, h⟩
              · have h := it_f h c_25
                refine r_ldc2 C dX7_whoDid_70 (pc' := 73) rfl q1607 ?_
                exact r_lret C hE (Nat.le_of_ble_eq_true rfl) (Nat.le_of_ble_eq_true rfl) dX7_whoDid_73 ⟨_, rfl, h⟩
set_option maxHeartbeats 4000000 in
theorem B_X7_can_80 {E : mE} {a0 : Nat} {x1 : Int32} {x2 : Int32} {x3 : Int32} {x4 : Int32} {X124 : MM → Int64 → Prop} {Post : Int64 → MM → Prop} (C : mC E yX7_can cX7_can 8 ((some .long)) { frames := 2, cells := 0, slots := 0, locals := 55 }) (hE : mEnd E { frames := 2, cells := 0, slots := 0, locals := 55 } (pL_ Post)) : ∀ (n_ : Nat) (M : MM) (x5 : Int64) (x7 : Int32), mkd M a0 = 7 → wl_X7_can_80 a0 x1 x2 x3 x4 X124 n_ M x5 x7 → (∀ (M' : MM) (x5' : Int64), mMo M M' → X124 M' x5' → mV E M' 0 0 124 [(1, .int x1), (4, .int x4), (5, .long x5')] []) → mV E M 0 0 80 [(0, .ref a0), (1, .int x1), (2, .int x2), (3, .int x3), (4, .int x4), (5, .long x5), (7, .int x7)] [] := by
  intro n_
  induction n_ with
  | zero =>
    intro M x5 x7 k_a0 h hX124
    exact absurd h (by rw [wl_X7_can_80]; exact fun q => q)
  | succ n_ ih =>
    intro M x5 x7 k_a0 h hX124
    rw [wl_X7_can_80] at h
    refine r_iload C dX7_can_80 (pc' := 82) rfl (j := 6) rfl ?_
    refine r_iload_n C dX7_can_82 (pc' := 83) rfl (j := 1) rfl ?_
    refine r_icmp_gt C dX7_can_83 (pc' := 86) rfl (tgt := 124) (by decide) (fun c_27 => ?_) (fun c_27 => ?_)
    · have h := it_t h c_27
      refine r_sub (lv' := [(1, .int x1), (4, .int x4), (5, .long x5)]) [1, 4, 5] rfl ?_
      exact hX124 M x5 mMo.rf h
    · have h := it_f h c_27
      refine r_lload C dX7_can_86 (pc' := 88) rfl (j := 5) rfl ?_
      refine r_aload_n C dX7_can_88 (pc' := 89) rfl (j := 0) rfl ?_
      refine r_getf C (Cn := RX7) (T := TX7) 45 k_a0 (by decide) vc_X7 in_X7 (by decide) q1269 dX7_can_89 (pc' := 92) rfl (v := va_rf (mgR M a0 45)) rfl ?_
      obtain ⟨b_28, e_29, k_30, h⟩ := h
      refine r_ref [] e_29 ?_
      refine r_iload C dX7_can_92 (pc' := 94) rfl (j := 6) rfl ?_
      obtain ⟨c_31, h⟩ := h
      refine r_lald C (j := (ix_ x7)) k_30 c_31 rfl dX7_can_94 (pc' := 95) rfl ?_
      refine r_iconst C dX7_can_95 (pc' := 96) rfl (v := 0) rfl ?_
      refine r_iload_n C dX7_can_96 (pc' := 97) rfl (j := 2) rfl ?_
      refine r_iload C dX7_can_97 (pc' := 99) rfl (j := 6) rfl ?_
      refine r_imul C dX7_can_99 (pc' := 100) rfl ?_
      refine r_iload_n C dX7_can_100 (pc' := 101) rfl (j := 3) rfl ?_
      refine r_isub C dX7_can_101 (pc' := 102) rfl ?_
      refine r_callSi (As := [.int (0 : Int32), .int ((x2 * x7) - x3)]) (rest := [.long (mgL M b_28 (ix_ x7)), .long x5]) C (S_X7_max h) (lw_S q1581 q1582 q112 q1583) hd_X7_max rfl rfl (Nat.le_of_ble_eq_true rfl) (Nat.le_of_ble_eq_true rfl) (Nat.le_of_ble_eq_true rfl) rfl rfl (Nat.le_of_ble_eq_true rfl) (Nat.le_of_ble_eq_true rfl) dX7_can_102 (pc' := 105) rfl (fun r_33 M_32 h m_34 => ?_)
      refine r_iconst C dX7_can_105 (pc' := 106) rfl (v := 0) rfl ?_
      refine r_iload_n C dX7_can_106 (pc' := 107) rfl (j := 2) rfl ?_
      refine r_iload_n C dX7_can_107 (pc' := 108) rfl (j := 3) rfl ?_
      refine r_isub C dX7_can_108 (pc' := 109) rfl ?_
      refine r_callSi (As := [.int (0 : Int32), .int (x2 - x3)]) (rest := [.int r_33, .long (mgL M b_28 (ix_ x7)), .long x5]) C (S_X7_max h) (lw_S q1581 q1582 q112 q1583) hd_X7_max rfl rfl (Nat.le_of_ble_eq_true rfl) (Nat.le_of_ble_eq_true rfl) (Nat.le_of_ble_eq_true rfl) rfl rfl (Nat.le_of_ble_eq_true rfl) (Nat.le_of_ble_eq_true rfl) dX7_can_109 (pc' := 112) rfl (fun r_36 M_35 h m_37 => ?_)
      refine r_isub C dX7_can_112 (pc' := 113) rfl ?_
      refine r_i2l C dX7_can_113 (pc' := 114) rfl ?_
      refine r_lmul C dX7_can_114 (pc' := 115) rfl ?_
      refine r_ladd C dX7_can_115 (pc' := 116) rfl ?_
      obtain ⟨x5_38, e_39, h⟩ := bn_ h
      refine r_lstore C (lv' := [(5, .long x5_38), (0, .ref a0), (1, .int x1), (2, .int x2), (3, .int x3), (4, .int x4), (7, .int x7)]) dX7_can_116 (pc' := 118) rfl x5_38 e_39 (Nat.le_of_ble_eq_true rfl) rfl ?_
      obtain ⟨x7_40, e_41, h⟩ := bn_ h
      refine r_iinc C (lv' := [(7, .int x7_40), (5, .long x5_38), (0, .ref a0), (1, .int x1), (2, .int x2), (3, .int x3), (4, .int x4)]) dX7_can_118 (pc' := 121) rfl (j := 6) rfl x7_40 (by rw [e_41]; rfl) (Nat.le_of_ble_eq_true rfl) rfl ?_
      refine r_goto C dX7_can_121 (tgt := 80) (by decide) ?_
      refine r_sub (lv' := [(0, .ref a0), (1, .int x1), (2, .int x2), (3, .int x3), (4, .int x4), (5, .long x5_38), (7, .int x7_40)]) [2, 3, 4, 5, 6, 1, 0] rfl ?_
      exact ih M_35 x5_38 x7_40 (mMo.kd m_37 (mMo.kd m_34 k_a0 (by decide)) (by decide)) h (fun M9 w0 hm9 h9 => hX124 M9 w0 (mMo.tr (mMo.tr m_34 m_37) hm9) h9)
set_option maxHeartbeats 4000000 in
theorem S_X7_can {D : DD} {l : Launch} {M : MM} {a0 : Nat} {x1 : Int32} {x2 : Int32} {x3 : Int32} {x4 : Int32} {Post : Int64 → MM → Prop} (k_a0 : mkd M a0 = 7) (h : wp_X7_can M a0 x1 x2 x3 x4 Post) : mMet D l yX7_can cX7_can 8 ((some .long)) { frames := 2, cells := 0, slots := 0, locals := 55 } M [.ref a0, .int x1, .int x2, .int x3, .int x4] (pL_ Post) := by
  refine m_of2 [(0, .ref a0), (1, .int x1), (2, .int x2), (3, .int x3), (4, .int x4)] (by decide +kernel) (Nat.le_of_ble_eq_true rfl) rfl (fun E hED hEl C hE => ?_)
  subst hED
  subst hEl
  unfold wp_X7_can at h
  refine r_iload_n C dX7_can_0 (pc' := 1) rfl (j := 1) rfl ?_
  refine r_iconst C dX7_can_1 (pc' := 2) rfl (v := 1) rfl ?_
  refine r_bipush C dX7_can_2 (pc' := 4) rfl (v := 6) rfl ?_
  refine r_callSi (As := [.int x1, .int (1 : Int32), .int (6 : Int32)]) (rest := []) C (S_X7_in h) (lw_S q1391 q1392 q112 q1393) hd_X7_in rfl rfl (Nat.le_of_ble_eq_true rfl) (Nat.le_of_ble_eq_true rfl) (Nat.le_of_ble_eq_true rfl) rfl rfl (Nat.le_of_ble_eq_true rfl) (Nat.le_of_ble_eq_true rfl) dX7_can_4 (pc' := 7) rfl (fun r_2 M_1 h m_3 => ?_)
  refine r_if_eq C dX7_can_7 (pc' := 10) rfl (tgt := 48) (by decide) (fun c_4 => ?_) (fun c_4 => ?_)
  · have h := it_t h c_4
    refine r_ldc2 C dX7_can_48 (pc' := 51) rfl q1607 ?_
    exact r_lret C hE (Nat.le_of_ble_eq_true rfl) (Nat.le_of_ble_eq_true rfl) dX7_can_51 ⟨_, rfl, h⟩
  · have h := it_f h c_4
    refine r_iload_n C dX7_can_10 (pc' := 11) rfl (j := 2) rfl ?_
    refine r_iconst C dX7_can_11 (pc' := 12) rfl (v := 1) rfl ?_
    refine r_bipush C dX7_can_12 (pc' := 14) rfl (v := 9) rfl ?_
    refine r_callSi (As := [.int x2, .int (1 : Int32), .int (9 : Int32)]) (rest := []) C (S_X7_in h) (lw_S q1391 q1392 q112 q1393) hd_X7_in rfl rfl (Nat.le_of_ble_eq_true rfl) (Nat.le_of_ble_eq_true rfl) (Nat.le_of_ble_eq_true rfl) rfl rfl (Nat.le_of_ble_eq_true rfl) (Nat.le_of_ble_eq_true rfl) dX7_can_14 (pc' := 17) rfl (fun r_6 M_5 h m_7 => ?_)
    refine r_if_eq C dX7_can_17 (pc' := 20) rfl (tgt := 48) (by decide) (fun c_8 => ?_) (fun c_8 => ?_)
    · have h := it_t h c_8
      refine r_ldc2 C dX7_can_48 (pc' := 51) rfl q1607 ?_
      exact r_lret C hE (Nat.le_of_ble_eq_true rfl) (Nat.le_of_ble_eq_true rfl) dX7_can_51 ⟨_, rfl, h⟩
    · have h := it_f h c_8
      refine r_iload_n C dX7_can_20 (pc' := 21) rfl (j := 3) rfl ?_
      refine r_iconst C dX7_can_21 (pc' := 22) rfl (v := 0) rfl ?_
      refine r_bipush C dX7_can_22 (pc' := 24) rfl (v := 60) rfl ?_
      refine r_callSi (As := [.int x3, .int (0 : Int32), .int (60 : Int32)]) (rest := []) C (S_X7_in h) (lw_S q1391 q1392 q112 q1393) hd_X7_in rfl rfl (Nat.le_of_ble_eq_true rfl) (Nat.le_of_ble_eq_true rfl) (Nat.le_of_ble_eq_true rfl) rfl rfl (Nat.le_of_ble_eq_true rfl) (Nat.le_of_ble_eq_true rfl) dX7_can_24 (pc' := 27) rfl (fun r_10 M_9 h m_11 => ?_)
      refine r_if_eq C dX7_can_27 (pc' := 30) rfl (tgt := 48) (by decide) (fun c_12 => ?_) (fun c_12 => ?_)
      · have h := it_t h c_12
        refine r_ldc2 C dX7_can_48 (pc' := 51) rfl q1607 ?_
        exact r_lret C hE (Nat.le_of_ble_eq_true rfl) (Nat.le_of_ble_eq_true rfl) dX7_can_51 ⟨_, rfl, h⟩
      · have h := it_f h c_12
        refine r_iload C dX7_can_30 (pc' := 32) rfl (j := 4) rfl ?_
        refine r_iconst C dX7_can_32 (pc' := 33) rfl (v := 0) rfl ?_
        refine r_iconst C dX7_can_33 (pc' := 34) rfl (v := 1) rfl ?_
        refine r_callSi (As := [.int x4, .int (0 : Int32), .int (1 : Int32)]) (rest := []) C (S_X7_in h) (lw_S q1391 q1392 q112 q1393) hd_X7_in rfl rfl (Nat.le_of_ble_eq_true rfl) (Nat.le_of_ble_eq_true rfl) (Nat.le_of_ble_eq_true rfl) rfl rfl (Nat.le_of_ble_eq_true rfl) (Nat.le_of_ble_eq_true rfl) dX7_can_34 (pc' := 37) rfl (fun r_14 M_13 h m_15 => ?_)
        refine r_if_eq C dX7_can_37 (pc' := 40) rfl (tgt := 48) (by decide) (fun c_16 => ?_) (fun c_16 => ?_)
        · have h := it_t h c_16
          refine r_ldc2 C dX7_can_48 (pc' := 51) rfl q1607 ?_
          exact r_lret C hE (Nat.le_of_ble_eq_true rfl) (Nat.le_of_ble_eq_true rfl) dX7_can_51 ⟨_, rfl, h⟩
        · have h := it_f h c_16
          refine r_iload_n C dX7_can_40 (pc' := 41) rfl (j := 1) rfl ?_
          refine r_aload_n C dX7_can_41 (pc' := 42) rfl (j := 0) rfl ?_
          refine r_getf C (Cn := RX7) (T := TX7) 4 (mMo.kd m_15 (mMo.kd m_11 (mMo.kd m_7 (mMo.kd m_3 k_a0 (by decide)) (by decide)) (by decide)) (by decide)) (by decide) vc_X7 in_X7 (by decide) q1228 dX7_can_42 (pc' := 45) rfl (v := .int (mgI M_13 a0 4)) rfl ?_
          refine r_icmp_le C dX7_can_45 (pc' := 48) rfl (tgt := 52) (by decide) (fun c_17 => ?_) (fun c_17 => ?_)
          · have h := it_t h c_17
            refine r_aload_n C dX7_can_52 (pc' := 53) rfl (j := 0) rfl ?_
            refine r_iconst C dX7_can_53 (pc' := 54) rfl (v := 0) rfl ?_
            obtain ⟨M_18, e_19, h⟩ := bn_ h
            refine r_putI C (Cn := RX7) (T := TX7) tyX7 4 (mMo.kd m_15 (mMo.kd m_11 (mMo.kd m_7 (mMo.kd m_3 k_a0 (by decide)) (by decide)) (by decide)) (by decide)) (by decide) vc_X7 in_X7 tyX7_ok nmX7 (by decide) q1228 rfl rfl dX7_can_54 (pc' := 57) rfl rfl rfl M_18 e_19 ?_
            refine r_aload_n C dX7_can_57 (pc' := 58) rfl (j := 0) rfl ?_
            refine r_iload_n C dX7_can_58 (pc' := 59) rfl (j := 1) rfl ?_
            refine r_callVi (As := [.int x1]) (rest := []) (Cn := RX7) (T := TX7) C (mMo.kd (mo_I e_19) (mMo.kd m_15 (mMo.kd m_11 (mMo.kd m_7 (mMo.kd m_3 k_a0 (by decide)) (by decide)) (by decide)) (by decide)) (by decide)) (by decide) vc_X7 (S_X7_areTenths (mMo.kd (mo_I e_19) (mMo.kd m_15 (mMo.kd m_11 (mMo.kd m_7 (mMo.kd m_3 k_a0 (by decide)) (by decide)) (by decide)) (by decide)) (by decide)) h) (lw_V q1713 q1715 qs96 q112 q1716) rfl hd_X7_areTenths rfl rfl (Nat.le_of_ble_eq_true rfl) (Nat.le_of_ble_eq_true rfl) (Nat.le_of_ble_eq_true rfl) rfl rfl (Nat.le_of_ble_eq_true rfl) (Nat.le_of_ble_eq_true rfl) dX7_can_59 (pc' := 62) rfl (fun r_21 M_20 h m_22 => ?_)
            refine r_if_ne C dX7_can_62 (pc' := 65) rfl (tgt := 69) (by decide) (fun c_23 => ?_) (fun c_23 => ?_)
            · have h := it_f h c_23
              refine r_aload_n C dX7_can_69 (pc' := 70) rfl (j := 0) rfl ?_
              refine r_iload_n C dX7_can_70 (pc' := 71) rfl (j := 1) rfl ?_
              refine r_callVv (As := [.int x1]) (rest := []) (Cn := RX7) (T := TX7) C (mMo.kd m_22 (mMo.kd (mo_I e_19) (mMo.kd m_15 (mMo.kd m_11 (mMo.kd m_7 (mMo.kd m_3 k_a0 (by decide)) (by decide)) (by decide)) (by decide)) (by decide)) (by decide)) (by decide) vc_X7 (S_X7_laysComes (mMo.kd m_22 (mMo.kd (mo_I e_19) (mMo.kd m_15 (mMo.kd m_11 (mMo.kd m_7 (mMo.kd m_3 k_a0 (by decide)) (by decide)) (by decide)) (by decide)) (by decide)) (by decide)) h) (lw_V q1718 q1720 qs97 q112 q1721) rfl hd_X7_laysComes rfl rfl (Nat.le_of_ble_eq_true rfl) (Nat.le_of_ble_eq_true rfl) (Nat.le_of_ble_eq_true rfl) rfl rfl (Nat.le_of_ble_eq_true rfl) (Nat.le_of_ble_eq_true rfl) dX7_can_71 (pc' := 74) rfl (fun M_24 h m_26 => ?_)
              refine r_lconst C dX7_can_74 (pc' := 75) rfl (v := 0) rfl ?_
              refine r_lstore C (lv' := [(5, .long (0 : Int64)), (0, .ref a0), (1, .int x1), (2, .int x2), (3, .int x3), (4, .int x4)]) dX7_can_75 (pc' := 77) rfl (0 : Int64) rfl (Nat.le_of_ble_eq_true rfl) rfl ?_
              refine r_iconst C dX7_can_77 (pc' := 78) rfl (v := 1) rfl ?_
              refine r_istore C (lv' := [(7, .int (1 : Int32)), (5, .long (0 : Int64)), (0, .ref a0), (1, .int x1), (2, .int x2), (3, .int x3), (4, .int x4)]) dX7_can_78 (pc' := 80) rfl (1 : Int32) rfl (Nat.le_of_ble_eq_true rfl) rfl ?_
              obtain ⟨n_42, h⟩ := h
              refine r_sub (lv' := [(0, .ref a0), (1, .int x1), (2, .int x2), (3, .int x3), (4, .int x4), (5, .long (0 : Int64)), (7, .int (1 : Int32))]) [2, 3, 4, 5, 6, 1, 0] rfl ?_
              refine B_X7_can_80 C hE n_42 M_24 (0 : Int64) (1 : Int32) (mMo.kd m_26 (mMo.kd m_22 (mMo.kd (mo_I e_19) (mMo.kd m_15 (mMo.kd m_11 (mMo.kd m_7 (mMo.kd m_3 k_a0 (by decide)) (by decide)) (by decide)) (by decide)) (by decide)) (by decide)) (by decide)) h (fun M_43 x5_45 m_44 h => ?_)
              refine r_lload C dX7_can_124 (pc' := 126) rfl (j := 2) rfl ?_
              refine r_iload_n C dX7_can_126 (pc' := 127) rfl (j := 0) rfl ?_
              refine r_callSl (As := [.int x1]) (rest := [.long x5_45]) C (S_X7_tens h) (lw_S q1615 q1616 q112 q1617) hd_X7_tens rfl rfl (Nat.le_of_ble_eq_true rfl) (Nat.le_of_ble_eq_true rfl) (Nat.le_of_ble_eq_true rfl) rfl rfl (Nat.le_of_ble_eq_true rfl) (Nat.le_of_ble_eq_true rfl) dX7_can_127 (pc' := 130) rfl (fun r_47 M_46 h m_48 => ?_)
              refine r_iload C dX7_can_130 (pc' := 132) rfl (j := 1) rfl ?_
              refine r_callSl (As := [.long x5_45, .long r_47, .int x4]) (rest := []) C (S_X7_through h) (lw_S q1722 q1723 q112 q1724) hd_X7_through rfl rfl (Nat.le_of_ble_eq_true rfl) (Nat.le_of_ble_eq_true rfl) (Nat.le_of_ble_eq_true rfl) rfl rfl (Nat.le_of_ble_eq_true rfl) (Nat.le_of_ble_eq_true rfl) dX7_can_132 (pc' := 135) rfl (fun r_50 M_49 h m_51 => ?_)
              exact r_lret C hE (Nat.le_of_ble_eq_true rfl) (Nat.le_of_ble_eq_true rfl) dX7_can_135 ⟨_, rfl, h⟩
            · have h := it_t h c_23
              refine r_ldc2 C dX7_can_65 (pc' := 68) rfl q1717 ?_
              exact r_lret C hE (Nat.le_of_ble_eq_true rfl) (Nat.le_of_ble_eq_true rfl) dX7_can_68 ⟨_, rfl, h⟩
          · have h := it_f h c_17
            refine r_ldc2 C dX7_can_48 (pc' := 51) rfl q1607 ?_
            exact r_lret C hE (Nat.le_of_ble_eq_true rfl) (Nat.le_of_ble_eq_true rfl) dX7_can_51 ⟨_, rfl, h⟩
set_option maxHeartbeats 4000000 in
theorem S_X7_seed {D : DD} {l : Launch} {M : MM} {a0 : Nat} {x1 : Int32} {Post : Int32 → MM → Prop} (k_a0 : mkd M a0 = 7) (h : wp_X7_seed M a0 x1 Post) : mMet D l yX7_seed cX7_seed 2 ((some .boolean)) { frames := 1, cells := 0, slots := 0, locals := 22 } M [.ref a0, .int x1] (pI_ Post) := by
  refine m_of2 [(0, .ref a0), (1, .int x1)] (by decide +kernel) (Nat.le_of_ble_eq_true rfl) rfl (fun E hED hEl C hE => ?_)
  subst hED
  subst hEl
  unfold wp_X7_seed at h
  refine r_iload_n C dX7_seed_0 (pc' := 1) rfl (j := 1) rfl ?_
  refine r_iconst C dX7_seed_1 (pc' := 2) rfl (v := 0) rfl ?_
  refine r_ldcw C dX7_seed_2 (pc' := 5) rfl q1775 ?_
  refine r_callSi (As := [.int x1, .int (0 : Int32), .int (65535 : Int32)]) (rest := []) C (S_X7_in h) (lw_S q1391 q1392 q112 q1393) hd_X7_in rfl rfl (Nat.le_of_ble_eq_true rfl) (Nat.le_of_ble_eq_true rfl) (Nat.le_of_ble_eq_true rfl) rfl rfl (Nat.le_of_ble_eq_true rfl) (Nat.le_of_ble_eq_true rfl) dX7_seed_5 (pc' := 8) rfl (fun r_2 M_1 h m_3 => ?_)
  refine r_if_ne C dX7_seed_8 (pc' := 11) rfl (tgt := 13) (by decide) (fun c_4 => ?_) (fun c_4 => ?_)
  · have h := it_f h c_4
    refine r_aload_n C dX7_seed_13 (pc' := 14) rfl (j := 0) rfl ?_
    refine r_getf C (Cn := RX7) (T := TX7) 0 (mMo.kd m_3 k_a0 (by decide)) (by decide) vc_X7 in_X7 (by decide) q1224 dX7_seed_14 (pc' := 17) rfl (v := va_rf (mgR M_1 a0 0)) rfl ?_
    obtain ⟨b_5, e_6, k_7, h⟩ := h
    refine r_ref [] e_6 ?_
    refine r_bipush C dX7_seed_17 (pc' := 19) rfl (v := 80) rfl ?_
    refine r_iload_n C dX7_seed_19 (pc' := 20) rfl (j := 1) rfl ?_
    obtain ⟨c_8, h⟩ := h
    obtain ⟨M_9, e_10, h⟩ := bn_ h
    refine r_iast C (j := 80) k_7 (vp_l (by decide) (by decide) c_8) (by decide) dX7_seed_20 (pc' := 21) rfl M_9 e_10 ?_
    refine r_iconst C dX7_seed_21 (pc' := 22) rfl (v := 1) rfl ?_
    exact r_zret C hE (Or.inr rfl) (Nat.le_of_ble_eq_true rfl) (Nat.le_of_ble_eq_true rfl) dX7_seed_22 ⟨_, rfl, h⟩
  · have h := it_t h c_4
    refine r_iconst C dX7_seed_11 (pc' := 12) rfl (v := 0) rfl ?_
    exact r_zret C hE (Or.inl rfl) (Nat.le_of_ble_eq_true rfl) (Nat.le_of_ble_eq_true rfl) dX7_seed_12 ⟨_, rfl, h⟩
set_option maxHeartbeats 4000000 in
theorem B_X7_keep_20 {E : mE} {a0 : Nat} {X54 : MM → Int32 → Prop} {Post : Int32 → MM → Prop} (C : mC E yX7_keep cX7_keep 3 ((some .int)) { frames := 2, cells := 0, slots := 0, locals := 42 }) (hE : mEnd E { frames := 2, cells := 0, slots := 0, locals := 42 } (pI_ Post)) : ∀ (n_ : Nat) (M : MM) (x1 : Int32) (x2 : Int32), mkd M a0 = 7 → wl_X7_keep_20 a0 X54 n_ M x1 x2 → (∀ (M' : MM) (x1' : Int32), mMo M M' → X54 M' x1' → mV E M' 0 0 54 [(1, .int x1')] []) → mV E M 0 0 20 [(0, .ref a0), (1, .int x1), (2, .int x2)] [] := by
  intro n_
  induction n_ with
  | zero =>
    intro M x1 x2 k_a0 h hX54
    exact absurd h (by rw [wl_X7_keep_20]; exact fun q => q)
  | succ n_ ih =>
    intro M x1 x2 k_a0 h hX54
    rw [wl_X7_keep_20] at h
    refine r_iload_n C dX7_keep_20 (pc' := 21) rfl (j := 2) rfl ?_
    refine r_iconst C dX7_keep_21 (pc' := 22) rfl (v := 4) rfl ?_
    refine r_icmp_ge C dX7_keep_22 (pc' := 25) rfl (tgt := 54) (by decide) (fun c_12 => ?_) (fun c_12 => ?_)
    · have h := it_t h c_12
      refine r_sub (lv' := [(1, .int x1)]) [1] rfl ?_
      exact hX54 M x1 mMo.rf h
    · have h := it_f h c_12
      refine r_iload_n C dX7_keep_25 (pc' := 26) rfl (j := 1) rfl ?_
      refine r_aload_n C dX7_keep_26 (pc' := 27) rfl (j := 0) rfl ?_
      refine r_iload_n C dX7_keep_27 (pc' := 28) rfl (j := 2) rfl ?_
      refine r_callVi (As := [.int x2]) (rest := [.int x1]) (Cn := RX7) (T := TX7) C k_a0 (by decide) vc_X7 (S_X7_isPlant k_a0 h) (lw_V q1402 q1404 qs51 q112 q1405) rfl hd_X7_isPlant rfl rfl (Nat.le_of_ble_eq_true rfl) (Nat.le_of_ble_eq_true rfl) (Nat.le_of_ble_eq_true rfl) rfl rfl (Nat.le_of_ble_eq_true rfl) (Nat.le_of_ble_eq_true rfl) dX7_keep_28 (pc' := 31) rfl (fun r_14 M_13 h m_15 => ?_)
      refine r_if_eq C dX7_keep_31 (pc' := 34) rfl (tgt := 45) (by decide) (fun c_16 => ?_) (fun c_16 => ?_)
      · have h := it_t h c_16
        refine r_iconst C dX7_keep_45 (pc' := 46) rfl (v := 0) rfl ?_
        refine r_iadd C dX7_keep_46 (pc' := 47) rfl ?_
        obtain ⟨x1_17, e_18, h⟩ := bn_ h
        refine r_istore_n C (lv' := [(1, .int x1_17), (0, .ref a0), (2, .int x2)]) dX7_keep_47 (pc' := 48) rfl rfl x1_17 e_18 (Nat.le_of_ble_eq_true rfl) rfl ?_
        obtain ⟨x2_19, e_20, h⟩ := bn_ h
        refine r_iinc C (lv' := [(2, .int x2_19), (1, .int x1_17), (0, .ref a0)]) dX7_keep_48 (pc' := 51) rfl (j := 2) rfl x2_19 (by rw [e_20]; rfl) (Nat.le_of_ble_eq_true rfl) rfl ?_
        refine r_goto C dX7_keep_51 (tgt := 20) (by decide) ?_
        refine r_sub (lv' := [(0, .ref a0), (1, .int x1_17), (2, .int x2_19)]) [2, 1, 0] rfl ?_
        exact ih M_13 x1_17 x2_19 (mMo.kd m_15 k_a0 (by decide)) h (fun M9 w0 hm9 h9 => hX54 M9 w0 (mMo.tr m_15 hm9) h9)
      · have h := it_f h c_16
        refine r_aload_n C dX7_keep_34 (pc' := 35) rfl (j := 0) rfl ?_
        refine r_getf C (Cn := RX7) (T := TX7) 0 (mMo.kd m_15 k_a0 (by decide)) (by decide) vc_X7 in_X7 (by decide) q1224 dX7_keep_35 (pc' := 38) rfl (v := va_rf (mgR M_13 a0 0)) rfl ?_
        obtain ⟨b_21, e_22, k_23, h⟩ := h
        refine r_ref [] e_22 ?_
        refine r_iconst C dX7_keep_38 (pc' := 39) rfl (v := 4) rfl ?_
        refine r_iload_n C dX7_keep_39 (pc' := 40) rfl (j := 2) rfl ?_
        refine r_iadd C dX7_keep_40 (pc' := 41) rfl ?_
        obtain ⟨c_24, h⟩ := h
        refine r_iald C (j := (ix_ ((4 : Int32) + x2))) k_23 c_24 rfl dX7_keep_41 (pc' := 42) rfl ?_
        refine r_goto C dX7_keep_42 (tgt := 46) (by decide) ?_
        refine r_iadd C dX7_keep_46 (pc' := 47) rfl ?_
        obtain ⟨x1_25, e_26, h⟩ := bn_ h
        refine r_istore_n C (lv' := [(1, .int x1_25), (0, .ref a0), (2, .int x2)]) dX7_keep_47 (pc' := 48) rfl rfl x1_25 e_26 (Nat.le_of_ble_eq_true rfl) rfl ?_
        obtain ⟨x2_27, e_28, h⟩ := bn_ h
        refine r_iinc C (lv' := [(2, .int x2_27), (1, .int x1_25), (0, .ref a0)]) dX7_keep_48 (pc' := 51) rfl (j := 2) rfl x2_27 (by rw [e_28]; rfl) (Nat.le_of_ble_eq_true rfl) rfl ?_
        refine r_goto C dX7_keep_51 (tgt := 20) (by decide) ?_
        refine r_sub (lv' := [(0, .ref a0), (1, .int x1_25), (2, .int x2_27)]) [2, 1, 0] rfl ?_
        exact ih M_13 x1_25 x2_27 (mMo.kd m_15 k_a0 (by decide)) h (fun M9 w0 hm9 h9 => hX54 M9 w0 (mMo.tr m_15 hm9) h9)
set_option maxHeartbeats 4000000 in
theorem S_X7_keep {D : DD} {l : Launch} {M : MM} {a0 : Nat} {Post : Int32 → MM → Prop} (k_a0 : mkd M a0 = 7) (h : wp_X7_keep M a0 Post) : mMet D l yX7_keep cX7_keep 3 ((some .int)) { frames := 2, cells := 0, slots := 0, locals := 42 } M [.ref a0] (pI_ Post) := by
  refine m_of2 [(0, .ref a0)] (by decide +kernel) (Nat.le_of_ble_eq_true rfl) rfl (fun E hED hEl C hE => ?_)
  subst hED
  subst hEl
  unfold wp_X7_keep at h
  refine r_aload_n C dX7_keep_0 (pc' := 1) rfl (j := 0) rfl ?_
  refine r_iconst C dX7_keep_1 (pc' := 2) rfl (v := 1) rfl ?_
  obtain ⟨M_1, e_2, h⟩ := bn_ h
  refine r_putI C (Cn := RX7) (T := TX7) tyX7 53 k_a0 (by decide) vc_X7 in_X7 tyX7_ok nmX7 (by decide) q1277 rfl rfl dX7_keep_2 (pc' := 5) rfl rfl rfl M_1 e_2 ?_
  refine r_aload_n C dX7_keep_5 (pc' := 6) rfl (j := 0) rfl ?_
  refine r_getf C (Cn := RX7) (T := TX7) 0 (mMo.kd (mo_I e_2) k_a0 (by decide)) (by decide) vc_X7 in_X7 (by decide) q1224 dX7_keep_6 (pc' := 9) rfl (v := va_rf (mgR M_1 a0 0)) rfl ?_
  obtain ⟨b_3, e_4, k_5, h⟩ := h
  refine r_ref [] e_4 ?_
  refine r_aload_n C dX7_keep_9 (pc' := 10) rfl (j := 0) rfl ?_
  refine r_getf C (Cn := RX7) (T := TX7) 2 (mMo.kd (mo_I e_2) k_a0 (by decide)) (by decide) vc_X7 in_X7 (by decide) q1226 dX7_keep_10 (pc' := 13) rfl (v := va_rf (mgR M_1 a0 2)) rfl ?_
  obtain ⟨b_6, e_7, k_8, h⟩ := h
  refine r_ref [] e_7 ?_
  refine r_callSv (As := [.ref b_3, .ref b_6]) (rest := []) C (S_X7_copies k_5 k_8 h) (lw_S q1588 q1589 q112 q1590) hd_X7_copies rfl rfl (Nat.le_of_ble_eq_true rfl) (Nat.le_of_ble_eq_true rfl) (Nat.le_of_ble_eq_true rfl) rfl rfl (Nat.le_of_ble_eq_true rfl) (Nat.le_of_ble_eq_true rfl) dX7_keep_13 (pc' := 16) rfl (fun M_9 h m_11 => ?_)
  refine r_iconst C dX7_keep_16 (pc' := 17) rfl (v := 0) rfl ?_
  refine r_istore_n C (lv' := [(1, .int (0 : Int32)), (0, .ref a0)]) dX7_keep_17 (pc' := 18) rfl rfl (0 : Int32) rfl (Nat.le_of_ble_eq_true rfl) rfl ?_
  refine r_iconst C dX7_keep_18 (pc' := 19) rfl (v := 0) rfl ?_
  refine r_istore_n C (lv' := [(2, .int (0 : Int32)), (1, .int (0 : Int32)), (0, .ref a0)]) dX7_keep_19 (pc' := 20) rfl rfl (0 : Int32) rfl (Nat.le_of_ble_eq_true rfl) rfl ?_
  obtain ⟨n_29, h⟩ := h
  refine r_sub (lv' := [(0, .ref a0), (1, .int (0 : Int32)), (2, .int (0 : Int32))]) [2, 1, 0] rfl ?_
  refine B_X7_keep_20 C hE n_29 M_9 (0 : Int32) (0 : Int32) (mMo.kd m_11 (mMo.kd (mo_I e_2) k_a0 (by decide)) (by decide)) h (fun M_30 x1_32 m_31 h => ?_)
  refine r_iload_n C dX7_keep_54 (pc' := 55) rfl (j := 0) rfl ?_
  exact r_iret C hE (Nat.le_of_ble_eq_true rfl) (Nat.le_of_ble_eq_true rfl) dX7_keep_55 ⟨_, rfl, h⟩
set_option maxHeartbeats 4000000 in
theorem S_X7_undo {D : DD} {l : Launch} {M : MM} {a0 : Nat} {Post : Int32 → MM → Prop} (k_a0 : mkd M a0 = 7) (h : wp_X7_undo M a0 Post) : mMet D l yX7_undo cX7_undo 1 ((some .boolean)) { frames := 1, cells := 0, slots := 0, locals := 22 } M [.ref a0] (pI_ Post) := by
  refine m_of2 [(0, .ref a0)] (by decide +kernel) (Nat.le_of_ble_eq_true rfl) rfl (fun E hED hEl C hE => ?_)
  subst hED
  subst hEl
  unfold wp_X7_undo at h
  refine r_aload_n C dX7_undo_0 (pc' := 1) rfl (j := 0) rfl ?_
  refine r_getf C (Cn := RX7) (T := TX7) 53 k_a0 (by decide) vc_X7 in_X7 (by decide) q1277 dX7_undo_1 (pc' := 4) rfl (v := .int (mgI M a0 53)) rfl ?_
  refine r_if_ne C dX7_undo_4 (pc' := 7) rfl (tgt := 9) (by decide) (fun c_1 => ?_) (fun c_1 => ?_)
  · have h := it_f h c_1
    refine r_aload_n C dX7_undo_9 (pc' := 10) rfl (j := 0) rfl ?_
    refine r_getf C (Cn := RX7) (T := TX7) 2 k_a0 (by decide) vc_X7 in_X7 (by decide) q1226 dX7_undo_10 (pc' := 13) rfl (v := va_rf (mgR M a0 2)) rfl ?_
    obtain ⟨b_2, e_3, k_4, h⟩ := h
    refine r_ref [] e_3 ?_
    refine r_aload_n C dX7_undo_13 (pc' := 14) rfl (j := 0) rfl ?_
    refine r_getf C (Cn := RX7) (T := TX7) 0 k_a0 (by decide) vc_X7 in_X7 (by decide) q1224 dX7_undo_14 (pc' := 17) rfl (v := va_rf (mgR M a0 0)) rfl ?_
    obtain ⟨b_5, e_6, k_7, h⟩ := h
    refine r_ref [] e_6 ?_
    refine r_callSv (As := [.ref b_2, .ref b_5]) (rest := []) C (S_X7_copies k_4 k_7 h) (lw_S q1588 q1589 q112 q1590) hd_X7_copies rfl rfl (Nat.le_of_ble_eq_true rfl) (Nat.le_of_ble_eq_true rfl) (Nat.le_of_ble_eq_true rfl) rfl rfl (Nat.le_of_ble_eq_true rfl) (Nat.le_of_ble_eq_true rfl) dX7_undo_17 (pc' := 20) rfl (fun M_8 h m_10 => ?_)
    refine r_iconst C dX7_undo_20 (pc' := 21) rfl (v := 1) rfl ?_
    exact r_zret C hE (Or.inr rfl) (Nat.le_of_ble_eq_true rfl) (Nat.le_of_ble_eq_true rfl) dX7_undo_21 ⟨_, rfl, h⟩
  · have h := it_t h c_1
    refine r_iconst C dX7_undo_7 (pc' := 8) rfl (v := 0) rfl ?_
    exact r_zret C hE (Or.inl rfl) (Nat.le_of_ble_eq_true rfl) (Nat.le_of_ble_eq_true rfl) dX7_undo_8 ⟨_, rfl, h⟩
set_option maxHeartbeats 4000000 in
theorem B_X7_tapeNumber_6 {E : mE} {a0 : Nat} {x1 : Int32} {X37 : MM → Int32 → Prop} {Post : Int32 → MM → Prop} (C : mC E yX7_tapeNumber cX7_tapeNumber 4 ((some .int)) { frames := 0, cells := 0, slots := 0, locals := 0 }) (hE : mEnd E { frames := 0, cells := 0, slots := 0, locals := 0 } (pI_ Post)) : ∀ (n_ : Nat) (M : MM) (x2 : Int32) (x3 : Int32), mkd M a0 = 7 → wl_X7_tapeNumber_6 a0 x1 X37 n_ M x2 x3 → (∀ (M' : MM) (x2' : Int32), mMo M M' → X37 M' x2' → mV E M' 0 0 37 [(2, .int x2')] []) → mV E M 0 0 6 [(0, .ref a0), (1, .int x1), (2, .int x2), (3, .int x3)] [] := by
  intro n_
  induction n_ with
  | zero =>
    intro M x2 x3 k_a0 h hX37
    exact absurd h (by rw [wl_X7_tapeNumber_6]; exact fun q => q)
  | succ n_ ih =>
    intro M x2 x3 k_a0 h hX37
    rw [wl_X7_tapeNumber_6] at h
    refine r_iload_n C dX7_tapeNumber_6 (pc' := 7) rfl (j := 3) rfl ?_
    refine r_iconst C dX7_tapeNumber_7 (pc' := 8) rfl (v := 4) rfl ?_
    refine r_iload_n C dX7_tapeNumber_8 (pc' := 9) rfl (j := 1) rfl ?_
    refine r_imul C dX7_tapeNumber_9 (pc' := 10) rfl ?_
    refine r_iconst C dX7_tapeNumber_10 (pc' := 11) rfl (v := 4) rfl ?_
    refine r_iadd C dX7_tapeNumber_11 (pc' := 12) rfl ?_
    refine r_icmp_ge C dX7_tapeNumber_12 (pc' := 15) rfl (tgt := 37) (by decide) (fun c_3 => ?_) (fun c_3 => ?_)
    · have h := it_t h c_3
      refine r_sub (lv' := [(2, .int x2)]) [2] rfl ?_
      exact hX37 M x2 mMo.rf h
    · have h := it_f h c_3
      refine r_iload_n C dX7_tapeNumber_15 (pc' := 16) rfl (j := 2) rfl ?_
      refine r_bipush C dX7_tapeNumber_16 (pc' := 18) rfl (v := 8) rfl ?_
      refine r_ishl C dX7_tapeNumber_18 (pc' := 19) rfl ?_
      refine r_aload_n C dX7_tapeNumber_19 (pc' := 20) rfl (j := 0) rfl ?_
      refine r_getf C (Cn := RX7) (T := TX7) 3 k_a0 (by decide) vc_X7 in_X7 (by decide) q1227 dX7_tapeNumber_20 (pc' := 23) rfl (v := va_rf (mgR M a0 3)) rfl ?_
      obtain ⟨b_4, e_5, k_6, h⟩ := h
      refine r_ref [] e_5 ?_
      refine r_iload_n C dX7_tapeNumber_23 (pc' := 24) rfl (j := 3) rfl ?_
      obtain ⟨c_7, h⟩ := h
      refine r_bald C (j := (ix_ x3)) k_6 c_7 rfl dX7_tapeNumber_24 (pc' := 25) rfl ?_
      refine r_sipush C dX7_tapeNumber_25 (pc' := 28) rfl (v := 255) rfl ?_
      refine r_iand C dX7_tapeNumber_28 (pc' := 29) rfl ?_
      refine r_ior C dX7_tapeNumber_29 (pc' := 30) rfl ?_
      obtain ⟨x2_8, e_9, h⟩ := bn_ h
      refine r_istore_n C (lv' := [(2, .int x2_8), (0, .ref a0), (1, .int x1), (3, .int x3)]) dX7_tapeNumber_30 (pc' := 31) rfl rfl x2_8 e_9 (Nat.le_of_ble_eq_true rfl) rfl ?_
      obtain ⟨x3_10, e_11, h⟩ := bn_ h
      refine r_iinc C (lv' := [(3, .int x3_10), (2, .int x2_8), (0, .ref a0), (1, .int x1)]) dX7_tapeNumber_31 (pc' := 34) rfl (j := 3) rfl x3_10 (by rw [e_11]; rfl) (Nat.le_of_ble_eq_true rfl) rfl ?_
      refine r_goto C dX7_tapeNumber_34 (tgt := 6) (by decide) ?_
      refine r_sub (lv' := [(0, .ref a0), (1, .int x1), (2, .int x2_8), (3, .int x3_10)]) [2, 3, 1, 0] rfl ?_
      exact ih M x2_8 x3_10 k_a0 h (fun M9 w0 hm9 h9 => hX37 M9 w0 hm9 h9)
set_option maxHeartbeats 4000000 in
theorem S_X7_tapeNumber {D : DD} {l : Launch} {M : MM} {a0 : Nat} {x1 : Int32} {Post : Int32 → MM → Prop} (k_a0 : mkd M a0 = 7) (h : wp_X7_tapeNumber M a0 x1 Post) : mMet D l yX7_tapeNumber cX7_tapeNumber 4 ((some .int)) { frames := 0, cells := 0, slots := 0, locals := 0 } M [.ref a0, .int x1] (pI_ Post) := by
  refine m_of2 [(0, .ref a0), (1, .int x1)] (by decide +kernel) (Nat.le_of_ble_eq_true rfl) rfl (fun E hED hEl C hE => ?_)
  subst hED
  subst hEl
  unfold wp_X7_tapeNumber at h
  refine r_iconst C dX7_tapeNumber_0 (pc' := 1) rfl (v := 0) rfl ?_
  refine r_istore_n C (lv' := [(2, .int (0 : Int32)), (0, .ref a0), (1, .int x1)]) dX7_tapeNumber_1 (pc' := 2) rfl rfl (0 : Int32) rfl (Nat.le_of_ble_eq_true rfl) rfl ?_
  refine r_iconst C dX7_tapeNumber_2 (pc' := 3) rfl (v := 4) rfl ?_
  refine r_iload_n C dX7_tapeNumber_3 (pc' := 4) rfl (j := 2) rfl ?_
  refine r_imul C dX7_tapeNumber_4 (pc' := 5) rfl ?_
  obtain ⟨x3_1, e_2, h⟩ := bn_ h
  refine r_istore_n C (lv' := [(3, .int x3_1), (2, .int (0 : Int32)), (0, .ref a0), (1, .int x1)]) dX7_tapeNumber_5 (pc' := 6) rfl rfl x3_1 e_2 (Nat.le_of_ble_eq_true rfl) rfl ?_
  obtain ⟨n_12, h⟩ := h
  refine r_sub (lv' := [(0, .ref a0), (1, .int x1), (2, .int (0 : Int32)), (3, .int x3_1)]) [2, 3, 1, 0] rfl ?_
  refine B_X7_tapeNumber_6 C hE n_12 M (0 : Int32) x3_1 k_a0 h (fun M_13 x2_15 m_14 h => ?_)
  refine r_iload_n C dX7_tapeNumber_37 (pc' := 38) rfl (j := 0) rfl ?_
  exact r_iret C hE (Nat.le_of_ble_eq_true rfl) (Nat.le_of_ble_eq_true rfl) dX7_tapeNumber_38 ⟨_, rfl, h⟩
set_option maxHeartbeats 4000000 in
theorem B_X7_check_38 {E : mE} {a0 : Nat} {x1 : Int32} {x2 : Int32} {X68 : MM → Int32 → Prop} {X76 : MM → Prop} {Post : Int32 → MM → Prop} (C : mC E yX7_check cX7_check 4 ((some .int)) { frames := 2, cells := 0, slots := 0, locals := 42 }) (hE : mEnd E { frames := 2, cells := 0, slots := 0, locals := 42 } (pI_ Post)) : ∀ (n_ : Nat) (M : MM) (x3 : Int32), mkd M a0 = 7 → wl_X7_check_38 a0 x1 x2 X68 X76 n_ M x3 → (∀ (M' : MM) (x3' : Int32), mMo M M' → X68 M' x3' → mV E M' 0 0 68 [(3, .int x3')] []) → (∀ (M' : MM), mMo M M' → X76 M' → mV E M' 0 0 76 [] []) → mV E M 0 0 38 [(0, .ref a0), (1, .int x1), (2, .int x2), (3, .int x3)] [] := by
  intro n_
  induction n_ with
  | zero =>
    intro M x3 k_a0 h hX68 hX76
    exact absurd h (by rw [wl_X7_check_38]; exact fun q => q)
  | succ n_ ih =>
    intro M x3 k_a0 h hX68 hX76
    rw [wl_X7_check_38] at h
    refine r_iload_n C dX7_check_38 (pc' := 39) rfl (j := 3) rfl ?_
    refine r_iload_n C dX7_check_39 (pc' := 40) rfl (j := 2) rfl ?_
    refine r_icmp_ge C dX7_check_40 (pc' := 43) rfl (tgt := 76) (by decide) (fun c_12 => ?_) (fun c_12 => ?_)
    · have h := it_t h c_12
      refine r_sub (lv' := []) [] rfl ?_
      exact hX76 M mMo.rf h
    · have h := it_f h c_12
      refine r_aload_n C dX7_check_43 (pc' := 44) rfl (j := 0) rfl ?_
      refine r_iload_n C dX7_check_44 (pc' := 45) rfl (j := 3) rfl ?_
      refine r_callVi (As := [.int x3]) (rest := []) (Cn := RX7) (T := TX7) C k_a0 (by decide) vc_X7 (S_X7_tapeNumber k_a0 h) (lw_V q1788 q1790 qs103 q112 q1791) rfl hd_X7_tapeNumber rfl rfl (Nat.le_of_ble_eq_true rfl) (Nat.le_of_ble_eq_true rfl) (Nat.le_of_ble_eq_true rfl) rfl rfl (Nat.le_of_ble_eq_true rfl) (Nat.le_of_ble_eq_true rfl) dX7_check_45 (pc' := 48) rfl (fun r_14 M_13 h m_15 => ?_)
      refine r_aload_n C dX7_check_48 (pc' := 49) rfl (j := 0) rfl ?_
      refine r_getf C (Cn := RX7) (T := TX7) 0 (mMo.kd m_15 k_a0 (by decide)) (by decide) vc_X7 in_X7 (by decide) q1224 dX7_check_49 (pc' := 52) rfl (v := va_rf (mgR M_13 a0 0)) rfl ?_
      obtain ⟨b_16, e_17, k_18, h⟩ := h
      refine r_ref [] e_17 ?_
      refine r_bipush C dX7_check_52 (pc' := 54) rfl (v := 24) rfl ?_
      refine r_bipush C dX7_check_54 (pc' := 56) rfl (v := 7) rfl ?_
      refine r_iload_n C dX7_check_56 (pc' := 57) rfl (j := 1) rfl ?_
      refine r_imul C dX7_check_57 (pc' := 58) rfl ?_
      refine r_iadd C dX7_check_58 (pc' := 59) rfl ?_
      refine r_bipush C dX7_check_59 (pc' := 61) rfl (v := 6) rfl ?_
      refine r_iadd C dX7_check_61 (pc' := 62) rfl ?_
      refine r_iload_n C dX7_check_62 (pc' := 63) rfl (j := 3) rfl ?_
      refine r_isub C dX7_check_63 (pc' := 64) rfl ?_
      obtain ⟨c_19, h⟩ := h
      refine r_iald C (j := (ix_ ((((24 : Int32) + ((7 : Int32) * x1)) + (6 : Int32)) - x3))) k_18 c_19 rfl dX7_check_64 (pc' := 65) rfl ?_
      refine r_icmp_eq C dX7_check_65 (pc' := 68) rfl (tgt := 70) (by decide) (fun c_20 => ?_) (fun c_20 => ?_)
      · have h := it_t h c_20
        obtain ⟨x3_21, e_22, h⟩ := bn_ h
        refine r_iinc C (lv' := [(3, .int x3_21), (0, .ref a0), (1, .int x1), (2, .int x2)]) dX7_check_70 (pc' := 73) rfl (j := 3) rfl x3_21 (by rw [e_22]; rfl) (Nat.le_of_ble_eq_true rfl) rfl ?_
        refine r_goto C dX7_check_73 (tgt := 38) (by decide) ?_
        refine r_sub (lv' := [(0, .ref a0), (1, .int x1), (2, .int x2), (3, .int x3_21)]) [1, 2, 3, 0] rfl ?_
        exact ih M_13 x3_21 (mMo.kd m_15 k_a0 (by decide)) h (fun M9 w0 hm9 h9 => hX68 M9 w0 (mMo.tr m_15 hm9) h9) (fun M9 hm9 h9 => hX76 M9 (mMo.tr m_15 hm9) h9)
      · have h := it_f h c_20
        refine r_sub (lv' := [(3, .int x3)]) [3] rfl ?_
        exact hX68 M_13 x3 m_15 h
set_option maxHeartbeats 4000000 in
theorem S_X7_check {D : DD} {l : Launch} {M : MM} {a0 : Nat} {x1 : Int32} {x2 : Int32} {Post : Int32 → MM → Prop} (k_a0 : mkd M a0 = 7) (h : wp_X7_check M a0 x1 x2 Post) : mMet D l yX7_check cX7_check 4 ((some .int)) { frames := 2, cells := 0, slots := 0, locals := 42 } M [.ref a0, .int x1, .int x2] (pI_ Post) := by
  refine m_of2 [(0, .ref a0), (1, .int x1), (2, .int x2)] (by decide +kernel) (Nat.le_of_ble_eq_true rfl) rfl (fun E hED hEl C hE => ?_)
  subst hED
  subst hEl
  unfold wp_X7_check at h
  refine r_aload_n C dX7_check_0 (pc' := 1) rfl (j := 0) rfl ?_
  refine r_iload_n C dX7_check_1 (pc' := 2) rfl (j := 1) rfl ?_
  refine r_callVi (As := [.int x1]) (rest := []) (Cn := RX7) (T := TX7) C k_a0 (by decide) vc_X7 (S_X7_isPlant k_a0 h) (lw_V q1402 q1404 qs51 q112 q1405) rfl hd_X7_isPlant rfl rfl (Nat.le_of_ble_eq_true rfl) (Nat.le_of_ble_eq_true rfl) (Nat.le_of_ble_eq_true rfl) rfl rfl (Nat.le_of_ble_eq_true rfl) (Nat.le_of_ble_eq_true rfl) dX7_check_2 (pc' := 5) rfl (fun r_2 M_1 h m_3 => ?_)
  refine r_if_eq C dX7_check_5 (pc' := 8) rfl (tgt := 28) (by decide) (fun c_4 => ?_) (fun c_4 => ?_)
  · have h := it_t h c_4
    refine r_bipush C dX7_check_28 (pc' := 30) rfl (v := -2) rfl ?_
    exact r_iret C hE (Nat.le_of_ble_eq_true rfl) (Nat.le_of_ble_eq_true rfl) dX7_check_30 ⟨_, rfl, h⟩
  · have h := it_f h c_4
    refine r_iload_n C dX7_check_8 (pc' := 9) rfl (j := 2) rfl ?_
    refine r_iconst C dX7_check_9 (pc' := 10) rfl (v := 0) rfl ?_
    refine r_bipush C dX7_check_10 (pc' := 12) rfl (v := 7) rfl ?_
    refine r_callSi (As := [.int x2, .int (0 : Int32), .int (7 : Int32)]) (rest := []) C (S_X7_in h) (lw_S q1391 q1392 q112 q1393) hd_X7_in rfl rfl (Nat.le_of_ble_eq_true rfl) (Nat.le_of_ble_eq_true rfl) (Nat.le_of_ble_eq_true rfl) rfl rfl (Nat.le_of_ble_eq_true rfl) (Nat.le_of_ble_eq_true rfl) dX7_check_12 (pc' := 15) rfl (fun r_6 M_5 h m_7 => ?_)
    refine r_if_eq C dX7_check_15 (pc' := 18) rfl (tgt := 28) (by decide) (fun c_8 => ?_) (fun c_8 => ?_)
    · have h := it_t h c_8
      refine r_bipush C dX7_check_28 (pc' := 30) rfl (v := -2) rfl ?_
      exact r_iret C hE (Nat.le_of_ble_eq_true rfl) (Nat.le_of_ble_eq_true rfl) dX7_check_30 ⟨_, rfl, h⟩
    · have h := it_f h c_8
      refine r_iload_n C dX7_check_18 (pc' := 19) rfl (j := 2) rfl ?_
      refine r_aload_n C dX7_check_19 (pc' := 20) rfl (j := 0) rfl ?_
      refine r_getf C (Cn := RX7) (T := TX7) 4 (mMo.kd m_7 (mMo.kd m_3 k_a0 (by decide)) (by decide)) (by decide) vc_X7 in_X7 (by decide) q1228 dX7_check_20 (pc' := 23) rfl (v := .int (mgI M_5 a0 4)) rfl ?_
      refine r_iconst C dX7_check_23 (pc' := 24) rfl (v := 4) rfl ?_
      refine r_idiv C dX7_check_24 (pc' := 25) rfl (by decide) ?_
      refine r_icmp_le C dX7_check_25 (pc' := 28) rfl (tgt := 31) (by decide) (fun c_9 => ?_) (fun c_9 => ?_)
      · have h := it_t h c_9
        refine r_aload_n C dX7_check_31 (pc' := 32) rfl (j := 0) rfl ?_
        refine r_iconst C dX7_check_32 (pc' := 33) rfl (v := 0) rfl ?_
        obtain ⟨M_10, e_11, h⟩ := bn_ h
        refine r_putI C (Cn := RX7) (T := TX7) tyX7 4 (mMo.kd m_7 (mMo.kd m_3 k_a0 (by decide)) (by decide)) (by decide) vc_X7 in_X7 tyX7_ok nmX7 (by decide) q1228 rfl rfl dX7_check_33 (pc' := 36) rfl rfl rfl M_10 e_11 ?_
        refine r_iconst C dX7_check_36 (pc' := 37) rfl (v := 0) rfl ?_
        refine r_istore_n C (lv' := [(3, .int (0 : Int32)), (0, .ref a0), (1, .int x1), (2, .int x2)]) dX7_check_37 (pc' := 38) rfl rfl (0 : Int32) rfl (Nat.le_of_ble_eq_true rfl) rfl ?_
        obtain ⟨n_23, h⟩ := h
        refine r_sub (lv' := [(0, .ref a0), (1, .int x1), (2, .int x2), (3, .int (0 : Int32))]) [1, 2, 3, 0] rfl ?_
        refine B_X7_check_38 C hE n_23 M_10 (0 : Int32) (mMo.kd (mo_I e_11) (mMo.kd m_7 (mMo.kd m_3 k_a0 (by decide)) (by decide)) (by decide)) h (fun M_24 x3_26 m_25 h => ?_) (fun M_27 m_28 h => ?_)
        · refine r_iload_n C dX7_check_68 (pc' := 69) rfl (j := 0) rfl ?_
          exact r_iret C hE (Nat.le_of_ble_eq_true rfl) (Nat.le_of_ble_eq_true rfl) dX7_check_69 ⟨_, rfl, h⟩
        · refine r_iconst C dX7_check_76 (pc' := 77) rfl (v := -1) rfl ?_
          exact r_iret C hE (Nat.le_of_ble_eq_true rfl) (Nat.le_of_ble_eq_true rfl) dX7_check_77 ⟨_, rfl, h⟩
      · have h := it_f h c_9
        refine r_bipush C dX7_check_28 (pc' := 30) rfl (v := -2) rfl ?_
        exact r_iret C hE (Nat.le_of_ble_eq_true rfl) (Nat.le_of_ble_eq_true rfl) dX7_check_30 ⟨_, rfl, h⟩
set_option maxHeartbeats 4000000 in
theorem B_X7_count_187 {E : mE} {M : MM} {a0 : Nat} {x1 : Int32} {Post : Int32 → MM → Prop} (C : mC E yX7_count cX7_count 2 ((some .int)) { frames := 2, cells := 0, slots := 0, locals := 42 }) (hE : mEnd E { frames := 2, cells := 0, slots := 0, locals := 42 } (pI_ Post)) (k_a0 : mkd M a0 = 7) (h : wb_X7_count_187 M a0 x1 Post) : mV E M 0 0 187 [(0, .ref a0), (1, .int x1)] [] := by
  unfold wb_X7_count_187 at h
  refine r_iload_n C dX7_count_187 (pc' := 188) rfl (j := 1) rfl ?_
  refine r_bipush C dX7_count_188 (pc' := 190) rfl (v := 40) rfl ?_
  refine r_bipush C dX7_count_190 (pc' := 192) rfl (v := 47) rfl ?_
  refine r_callSi (As := [.int x1, .int (40 : Int32), .int (47 : Int32)]) (rest := []) C (S_X7_in h) (lw_S q1391 q1392 q112 q1393) hd_X7_in rfl rfl (Nat.le_of_ble_eq_true rfl) (Nat.le_of_ble_eq_true rfl) (Nat.le_of_ble_eq_true rfl) rfl rfl (Nat.le_of_ble_eq_true rfl) (Nat.le_of_ble_eq_true rfl) dX7_count_192 (pc' := 195) rfl (fun r_45 M_44 h m_46 => ?_)
  refine r_if_eq C dX7_count_195 (pc' := 198) rfl (tgt := 224) (by decide) (fun c_47 => ?_) (fun c_47 => ?_)
  · have h := it_t h c_47
    refine r_iconst C dX7_count_224 (pc' := 225) rfl (v := -1) rfl ?_
    exact r_iret C hE (Nat.le_of_ble_eq_true rfl) (Nat.le_of_ble_eq_true rfl) dX7_count_225 ⟨_, rfl, h⟩
  · have h := it_f h c_47
    refine r_aload_n C dX7_count_198 (pc' := 199) rfl (j := 0) rfl ?_
    refine r_iload_n C dX7_count_199 (pc' := 200) rfl (j := 1) rfl ?_
    refine r_bipush C dX7_count_200 (pc' := 202) rfl (v := 40) rfl ?_
    refine r_isub C dX7_count_202 (pc' := 203) rfl ?_
    refine r_callVi (As := [.int (x1 - (40 : Int32))]) (rest := []) (Cn := RX7) (T := TX7) C (mMo.kd m_46 k_a0 (by decide)) (by decide) vc_X7 (S_X7_isPerson (mMo.kd m_46 k_a0 (by decide)) h) (lw_V q1526 q1528 qs73 q112 q1529) rfl hd_X7_isPerson rfl rfl (Nat.le_of_ble_eq_true rfl) (Nat.le_of_ble_eq_true rfl) (Nat.le_of_ble_eq_true rfl) rfl rfl (Nat.le_of_ble_eq_true rfl) (Nat.le_of_ble_eq_true rfl) dX7_count_203 (pc' := 206) rfl (fun r_49 M_48 h m_50 => ?_)
    refine r_if_eq C dX7_count_206 (pc' := 209) rfl (tgt := 224) (by decide) (fun c_51 => ?_) (fun c_51 => ?_)
    · have h := it_t h c_51
      refine r_iconst C dX7_count_224 (pc' := 225) rfl (v := -1) rfl ?_
      exact r_iret C hE (Nat.le_of_ble_eq_true rfl) (Nat.le_of_ble_eq_true rfl) dX7_count_225 ⟨_, rfl, h⟩
    · have h := it_f h c_51
      refine r_aload_n C dX7_count_209 (pc' := 210) rfl (j := 0) rfl ?_
      refine r_getf C (Cn := RX7) (T := TX7) 0 (mMo.kd m_50 (mMo.kd m_46 k_a0 (by decide)) (by decide)) (by decide) vc_X7 in_X7 (by decide) q1224 dX7_count_210 (pc' := 213) rfl (v := va_rf (mgR M_48 a0 0)) rfl ?_
      obtain ⟨b_52, e_53, k_54, h⟩ := h
      refine r_ref [] e_53 ?_
      refine r_bipush C dX7_count_213 (pc' := 215) rfl (v := 68) rfl ?_
      refine r_iload_n C dX7_count_215 (pc' := 216) rfl (j := 1) rfl ?_
      refine r_iadd C dX7_count_216 (pc' := 217) rfl ?_
      refine r_bipush C dX7_count_217 (pc' := 219) rfl (v := 40) rfl ?_
      refine r_isub C dX7_count_219 (pc' := 220) rfl ?_
      obtain ⟨c_55, h⟩ := h
      refine r_iald C (j := (ix_ (((68 : Int32) + x1) - (40 : Int32)))) k_54 c_55 rfl dX7_count_220 (pc' := 221) rfl ?_
      refine r_goto C dX7_count_221 (tgt := 225) (by decide) ?_
      exact r_iret C hE (Nat.le_of_ble_eq_true rfl) (Nat.le_of_ble_eq_true rfl) dX7_count_225 ⟨_, rfl, h⟩
set_option maxHeartbeats 4000000 in
theorem B_X7_count_152 {E : mE} {M : MM} {a0 : Nat} {x1 : Int32} {Post : Int32 → MM → Prop} (C : mC E yX7_count cX7_count 2 ((some .int)) { frames := 2, cells := 0, slots := 0, locals := 42 }) (hE : mEnd E { frames := 2, cells := 0, slots := 0, locals := 42 } (pI_ Post)) (k_a0 : mkd M a0 = 7) (h : wb_X7_count_152 M a0 x1 Post) : mV E M 0 0 152 [(0, .ref a0), (1, .int x1)] [] := by
  unfold wb_X7_count_152 at h
  refine r_iload_n C dX7_count_152 (pc' := 153) rfl (j := 1) rfl ?_
  refine r_bipush C dX7_count_153 (pc' := 155) rfl (v := 30) rfl ?_
  refine r_bipush C dX7_count_155 (pc' := 157) rfl (v := 37) rfl ?_
  refine r_callSi (As := [.int x1, .int (30 : Int32), .int (37 : Int32)]) (rest := []) C (S_X7_in h) (lw_S q1391 q1392 q112 q1393) hd_X7_in rfl rfl (Nat.le_of_ble_eq_true rfl) (Nat.le_of_ble_eq_true rfl) (Nat.le_of_ble_eq_true rfl) rfl rfl (Nat.le_of_ble_eq_true rfl) (Nat.le_of_ble_eq_true rfl) dX7_count_157 (pc' := 160) rfl (fun r_41 M_40 h m_42 => ?_)
  refine r_if_eq C dX7_count_160 (pc' := 163) rfl (tgt := 187) (by decide) (fun c_43 => ?_) (fun c_43 => ?_)
  · have h := it_t h c_43
    refine r_sub (lv' := [(0, .ref a0), (1, .int x1)]) [0, 1] rfl ?_
    exact B_X7_count_187 C hE (mMo.kd m_42 k_a0 (by decide)) h
  · have h := it_f h c_43
    refine r_aload_n C dX7_count_163 (pc' := 164) rfl (j := 0) rfl ?_
    refine r_iload_n C dX7_count_164 (pc' := 165) rfl (j := 1) rfl ?_
    refine r_bipush C dX7_count_165 (pc' := 167) rfl (v := 30) rfl ?_
    refine r_isub C dX7_count_167 (pc' := 168) rfl ?_
    refine r_callVi (As := [.int (x1 - (30 : Int32))]) (rest := []) (Cn := RX7) (T := TX7) C (mMo.kd m_42 k_a0 (by decide)) (by decide) vc_X7 (S_X7_isPerson (mMo.kd m_42 k_a0 (by decide)) h) (lw_V q1526 q1528 qs73 q112 q1529) rfl hd_X7_isPerson rfl rfl (Nat.le_of_ble_eq_true rfl) (Nat.le_of_ble_eq_true rfl) (Nat.le_of_ble_eq_true rfl) rfl rfl (Nat.le_of_ble_eq_true rfl) (Nat.le_of_ble_eq_true rfl) dX7_count_168 (pc' := 171) rfl (fun r_57 M_56 h m_58 => ?_)
    refine r_if_eq C dX7_count_171 (pc' := 174) rfl (tgt := 187) (by decide) (fun c_59 => ?_) (fun c_59 => ?_)
    · have h := it_t h c_59
      refine r_sub (lv' := [(0, .ref a0), (1, .int x1)]) [0, 1] rfl ?_
      exact B_X7_count_187 C hE (mMo.kd m_58 (mMo.kd m_42 k_a0 (by decide)) (by decide)) h
    · have h := it_f h c_59
      refine r_aload_n C dX7_count_174 (pc' := 175) rfl (j := 0) rfl ?_
      refine r_getf C (Cn := RX7) (T := TX7) 0 (mMo.kd m_58 (mMo.kd m_42 k_a0 (by decide)) (by decide)) (by decide) vc_X7 in_X7 (by decide) q1224 dX7_count_175 (pc' := 178) rfl (v := va_rf (mgR M_56 a0 0)) rfl ?_
      obtain ⟨b_60, e_61, k_62, h⟩ := h
      refine r_ref [] e_61 ?_
      refine r_bipush C dX7_count_178 (pc' := 180) rfl (v := 60) rfl ?_
      refine r_iload_n C dX7_count_180 (pc' := 181) rfl (j := 1) rfl ?_
      refine r_iadd C dX7_count_181 (pc' := 182) rfl ?_
      refine r_bipush C dX7_count_182 (pc' := 184) rfl (v := 30) rfl ?_
      refine r_isub C dX7_count_184 (pc' := 185) rfl ?_
      obtain ⟨c_63, h⟩ := h
      refine r_iald C (j := (ix_ (((60 : Int32) + x1) - (30 : Int32)))) k_62 c_63 rfl dX7_count_185 (pc' := 186) rfl ?_
      exact r_iret C hE (Nat.le_of_ble_eq_true rfl) (Nat.le_of_ble_eq_true rfl) dX7_count_186 ⟨_, rfl, h⟩
set_option maxHeartbeats 4000000 in
theorem S_X7_count {D : DD} {l : Launch} {M : MM} {a0 : Nat} {x1 : Int32} {Post : Int32 → MM → Prop} (k_a0 : mkd M a0 = 7) (h : wp_X7_count M a0 x1 Post) : mMet D l yX7_count cX7_count 2 ((some .int)) { frames := 2, cells := 0, slots := 0, locals := 42 } M [.ref a0, .int x1] (pI_ Post) := by
  refine m_of2 [(0, .ref a0), (1, .int x1)] (by decide +kernel) (Nat.le_of_ble_eq_true rfl) rfl (fun E hED hEl C hE => ?_)
  subst hED
  subst hEl
  unfold wp_X7_count at h
  refine r_iload_n C dX7_count_0 (pc' := 1) rfl (j := 1) rfl ?_
  by_cases c_1 : x1 = 0
  · have h := it_t h c_1
    refine r_tsIn C dX7_count_1 (off := 43) (tgt := 44) (by rw [c_1]; decide) (by rw [c_1]; decide) (by rw [c_1]; decide) (by decide) ?_
    refine r_aload_n C dX7_count_44 (pc' := 45) rfl (j := 0) rfl ?_
    refine r_getf C (Cn := RX7) (T := TX7) 0 k_a0 (by decide) vc_X7 in_X7 (by decide) q1224 dX7_count_45 (pc' := 48) rfl (v := va_rf (mgR M a0 0)) rfl ?_
    obtain ⟨b_2, e_3, k_4, h⟩ := h
    refine r_ref [] e_3 ?_
    refine r_bipush C dX7_count_48 (pc' := 50) rfl (v := 79) rfl ?_
    obtain ⟨c_5, h⟩ := h
    refine r_iald C (j := 79) k_4 (vp_l (by decide) (by decide) c_5) (by decide) dX7_count_50 (pc' := 51) rfl ?_
    exact r_iret C hE (Nat.le_of_ble_eq_true rfl) (Nat.le_of_ble_eq_true rfl) dX7_count_51 ⟨_, rfl, h⟩
  have h := it_f h c_1
  by_cases c_6 : x1 = 1
  · have h := it_t h c_6
    refine r_tsIn C dX7_count_1 (off := 51) (tgt := 52) (by rw [c_6]; decide) (by rw [c_6]; decide) (by rw [c_6]; decide) (by decide) ?_
    refine r_aload_n C dX7_count_52 (pc' := 53) rfl (j := 0) rfl ?_
    refine r_getf C (Cn := RX7) (T := TX7) 0 k_a0 (by decide) vc_X7 in_X7 (by decide) q1224 dX7_count_53 (pc' := 56) rfl (v := va_rf (mgR M a0 0)) rfl ?_
    obtain ⟨b_7, e_8, k_9, h⟩ := h
    refine r_ref [] e_8 ?_
    refine r_bipush C dX7_count_56 (pc' := 58) rfl (v := 76) rfl ?_
    obtain ⟨c_10, h⟩ := h
    refine r_iald C (j := 76) k_9 (vp_l (by decide) (by decide) c_10) (by decide) dX7_count_58 (pc' := 59) rfl ?_
    exact r_iret C hE (Nat.le_of_ble_eq_true rfl) (Nat.le_of_ble_eq_true rfl) dX7_count_59 ⟨_, rfl, h⟩
  have h := it_f h c_6
  by_cases c_11 : x1 = 2
  · have h := it_t h c_11
    refine r_tsIn C dX7_count_1 (off := 59) (tgt := 60) (by rw [c_11]; decide) (by rw [c_11]; decide) (by rw [c_11]; decide) (by decide) ?_
    refine r_aload_n C dX7_count_60 (pc' := 61) rfl (j := 0) rfl ?_
    refine r_getf C (Cn := RX7) (T := TX7) 0 k_a0 (by decide) vc_X7 in_X7 (by decide) q1224 dX7_count_61 (pc' := 64) rfl (v := va_rf (mgR M a0 0)) rfl ?_
    obtain ⟨b_12, e_13, k_14, h⟩ := h
    refine r_ref [] e_13 ?_
    refine r_bipush C dX7_count_64 (pc' := 66) rfl (v := 77) rfl ?_
    obtain ⟨c_15, h⟩ := h
    refine r_iald C (j := 77) k_14 (vp_l (by decide) (by decide) c_15) (by decide) dX7_count_66 (pc' := 67) rfl ?_
    exact r_iret C hE (Nat.le_of_ble_eq_true rfl) (Nat.le_of_ble_eq_true rfl) dX7_count_67 ⟨_, rfl, h⟩
  have h := it_f h c_11
  by_cases c_16 : x1 = 3
  · have h := it_t h c_16
    refine r_tsIn C dX7_count_1 (off := 67) (tgt := 68) (by rw [c_16]; decide) (by rw [c_16]; decide) (by rw [c_16]; decide) (by decide) ?_
    refine r_aload_n C dX7_count_68 (pc' := 69) rfl (j := 0) rfl ?_
    refine r_getf C (Cn := RX7) (T := TX7) 0 k_a0 (by decide) vc_X7 in_X7 (by decide) q1224 dX7_count_69 (pc' := 72) rfl (v := va_rf (mgR M a0 0)) rfl ?_
    obtain ⟨b_17, e_18, k_19, h⟩ := h
    refine r_ref [] e_18 ?_
    refine r_bipush C dX7_count_72 (pc' := 74) rfl (v := 78) rfl ?_
    obtain ⟨c_20, h⟩ := h
    refine r_iald C (j := 78) k_19 (vp_l (by decide) (by decide) c_20) (by decide) dX7_count_74 (pc' := 75) rfl ?_
    exact r_iret C hE (Nat.le_of_ble_eq_true rfl) (Nat.le_of_ble_eq_true rfl) dX7_count_75 ⟨_, rfl, h⟩
  have h := it_f h c_16
  by_cases c_21 : x1 = 4
  · have h := it_t h c_21
    refine r_tsIn C dX7_count_1 (off := 75) (tgt := 76) (by rw [c_21]; decide) (by rw [c_21]; decide) (by rw [c_21]; decide) (by decide) ?_
    refine r_aload_n C dX7_count_76 (pc' := 77) rfl (j := 0) rfl ?_
    refine r_getf C (Cn := RX7) (T := TX7) 20 k_a0 (by decide) vc_X7 in_X7 (by decide) q1244 dX7_count_77 (pc' := 80) rfl (v := va_rf (mgR M a0 20)) rfl ?_
    obtain ⟨b_22, e_23, k_24, h⟩ := h
    refine r_ref [] e_23 ?_
    refine r_iconst C dX7_count_80 (pc' := 81) rfl (v := 0) rfl ?_
    obtain ⟨c_25, h⟩ := h
    refine r_iald C (j := 0) k_24 (vp_l (by decide) (by decide) c_25) (by decide) dX7_count_81 (pc' := 82) rfl ?_
    exact r_iret C hE (Nat.le_of_ble_eq_true rfl) (Nat.le_of_ble_eq_true rfl) dX7_count_82 ⟨_, rfl, h⟩
  have h := it_f h c_21
  by_cases c_26 : x1 = 5
  · have h := it_t h c_26
    refine r_tsIn C dX7_count_1 (off := 82) (tgt := 83) (by rw [c_26]; decide) (by rw [c_26]; decide) (by rw [c_26]; decide) (by decide) ?_
    refine r_aload_n C dX7_count_83 (pc' := 84) rfl (j := 0) rfl ?_
    refine r_getf C (Cn := RX7) (T := TX7) 4 k_a0 (by decide) vc_X7 in_X7 (by decide) q1228 dX7_count_84 (pc' := 87) rfl (v := .int (mgI M a0 4)) rfl ?_
    exact r_iret C hE (Nat.le_of_ble_eq_true rfl) (Nat.le_of_ble_eq_true rfl) dX7_count_87 ⟨_, rfl, h⟩
  have h := it_f h c_26
  by_cases c_27 : x1 = 6
  · have h := it_t h c_27
    refine r_tsIn C dX7_count_1 (off := 87) (tgt := 88) (by rw [c_27]; decide) (by rw [c_27]; decide) (by rw [c_27]; decide) (by decide) ?_
    refine r_aload_n C dX7_count_88 (pc' := 89) rfl (j := 0) rfl ?_
    refine r_getf C (Cn := RX7) (T := TX7) 0 k_a0 (by decide) vc_X7 in_X7 (by decide) q1224 dX7_count_89 (pc' := 92) rfl (v := va_rf (mgR M a0 0)) rfl ?_
    obtain ⟨b_28, e_29, k_30, h⟩ := h
    refine r_ref [] e_29 ?_
    refine r_bipush C dX7_count_92 (pc' := 94) rfl (v := 80) rfl ?_
    obtain ⟨c_31, h⟩ := h
    refine r_iald C (j := 80) k_30 (vp_l (by decide) (by decide) c_31) (by decide) dX7_count_94 (pc' := 95) rfl ?_
    exact r_iret C hE (Nat.le_of_ble_eq_true rfl) (Nat.le_of_ble_eq_true rfl) dX7_count_95 ⟨_, rfl, h⟩
  have h := it_f h c_27
  have c_1 := lv_neT c_1 (show ((0 : Int32)).toInt = 0 from by decide)
  have c_6 := lv_neT c_6 (show ((1 : Int32)).toInt = 1 from by decide)
  have c_11 := lv_neT c_11 (show ((2 : Int32)).toInt = 2 from by decide)
  have c_16 := lv_neT c_16 (show ((3 : Int32)).toInt = 3 from by decide)
  have c_21 := lv_neT c_21 (show ((4 : Int32)).toInt = 4 from by decide)
  have c_26 := lv_neT c_26 (show ((5 : Int32)).toInt = 5 from by decide)
  have c_27 := lv_neT c_27 (show ((6 : Int32)).toInt = 6 from by decide)
  refine r_tsOut C dX7_count_1 (tgt := 96) (by omega) (by decide) ?_
  refine r_iload_n C dX7_count_96 (pc' := 97) rfl (j := 1) rfl ?_
  refine r_bipush C dX7_count_97 (pc' := 99) rfl (v := 10) rfl ?_
  refine r_bipush C dX7_count_99 (pc' := 101) rfl (v := 13) rfl ?_
  refine r_callSi (As := [.int x1, .int (10 : Int32), .int (13 : Int32)]) (rest := []) C (S_X7_in h) (lw_S q1391 q1392 q112 q1393) hd_X7_in rfl rfl (Nat.le_of_ble_eq_true rfl) (Nat.le_of_ble_eq_true rfl) (Nat.le_of_ble_eq_true rfl) rfl rfl (Nat.le_of_ble_eq_true rfl) (Nat.le_of_ble_eq_true rfl) dX7_count_101 (pc' := 104) rfl (fun r_33 M_32 h m_34 => ?_)
  refine r_if_eq C dX7_count_104 (pc' := 107) rfl (tgt := 117) (by decide) (fun c_35 => ?_) (fun c_35 => ?_)
  · have h := it_t h c_35
    refine r_iload_n C dX7_count_117 (pc' := 118) rfl (j := 1) rfl ?_
    refine r_bipush C dX7_count_118 (pc' := 120) rfl (v := 20) rfl ?_
    refine r_bipush C dX7_count_120 (pc' := 122) rfl (v := 27) rfl ?_
    refine r_callSi (As := [.int x1, .int (20 : Int32), .int (27 : Int32)]) (rest := []) C (S_X7_in h) (lw_S q1391 q1392 q112 q1393) hd_X7_in rfl rfl (Nat.le_of_ble_eq_true rfl) (Nat.le_of_ble_eq_true rfl) (Nat.le_of_ble_eq_true rfl) rfl rfl (Nat.le_of_ble_eq_true rfl) (Nat.le_of_ble_eq_true rfl) dX7_count_122 (pc' := 125) rfl (fun r_37 M_36 h m_38 => ?_)
    refine r_if_eq C dX7_count_125 (pc' := 128) rfl (tgt := 152) (by decide) (fun c_39 => ?_) (fun c_39 => ?_)
    · have h := it_t h c_39
      refine r_sub (lv' := [(0, .ref a0), (1, .int x1)]) [0, 1] rfl ?_
      exact B_X7_count_152 C hE (mMo.kd m_38 (mMo.kd m_34 k_a0 (by decide)) (by decide)) h
    · have h := it_f h c_39
      refine r_aload_n C dX7_count_128 (pc' := 129) rfl (j := 0) rfl ?_
      refine r_iload_n C dX7_count_129 (pc' := 130) rfl (j := 1) rfl ?_
      refine r_bipush C dX7_count_130 (pc' := 132) rfl (v := 20) rfl ?_
      refine r_isub C dX7_count_132 (pc' := 133) rfl ?_
      refine r_callVi (As := [.int (x1 - (20 : Int32))]) (rest := []) (Cn := RX7) (T := TX7) C (mMo.kd m_38 (mMo.kd m_34 k_a0 (by decide)) (by decide)) (by decide) vc_X7 (S_X7_isPerson (mMo.kd m_38 (mMo.kd m_34 k_a0 (by decide)) (by decide)) h) (lw_V q1526 q1528 qs73 q112 q1529) rfl hd_X7_isPerson rfl rfl (Nat.le_of_ble_eq_true rfl) (Nat.le_of_ble_eq_true rfl) (Nat.le_of_ble_eq_true rfl) rfl rfl (Nat.le_of_ble_eq_true rfl) (Nat.le_of_ble_eq_true rfl) dX7_count_133 (pc' := 136) rfl (fun r_65 M_64 h m_66 => ?_)
      refine r_if_eq C dX7_count_136 (pc' := 139) rfl (tgt := 152) (by decide) (fun c_67 => ?_) (fun c_67 => ?_)
      · have h := it_t h c_67
        refine r_sub (lv' := [(0, .ref a0), (1, .int x1)]) [0, 1] rfl ?_
        exact B_X7_count_152 C hE (mMo.kd m_66 (mMo.kd m_38 (mMo.kd m_34 k_a0 (by decide)) (by decide)) (by decide)) h
      · have h := it_f h c_67
        refine r_aload_n C dX7_count_139 (pc' := 140) rfl (j := 0) rfl ?_
        refine r_getf C (Cn := RX7) (T := TX7) 0 (mMo.kd m_66 (mMo.kd m_38 (mMo.kd m_34 k_a0 (by decide)) (by decide)) (by decide)) (by decide) vc_X7 in_X7 (by decide) q1224 dX7_count_140 (pc' := 143) rfl (v := va_rf (mgR M_64 a0 0)) rfl ?_
        obtain ⟨b_68, e_69, k_70, h⟩ := h
        refine r_ref [] e_69 ?_
        refine r_bipush C dX7_count_143 (pc' := 145) rfl (v := 52) rfl ?_
        refine r_iload_n C dX7_count_145 (pc' := 146) rfl (j := 1) rfl ?_
        refine r_iadd C dX7_count_146 (pc' := 147) rfl ?_
        refine r_bipush C dX7_count_147 (pc' := 149) rfl (v := 20) rfl ?_
        refine r_isub C dX7_count_149 (pc' := 150) rfl ?_
        obtain ⟨c_71, h⟩ := h
        refine r_iald C (j := (ix_ (((52 : Int32) + x1) - (20 : Int32)))) k_70 c_71 rfl dX7_count_150 (pc' := 151) rfl ?_
        exact r_iret C hE (Nat.le_of_ble_eq_true rfl) (Nat.le_of_ble_eq_true rfl) dX7_count_151 ⟨_, rfl, h⟩
  · have h := it_f h c_35
    refine r_aload_n C dX7_count_107 (pc' := 108) rfl (j := 0) rfl ?_
    refine r_getf C (Cn := RX7) (T := TX7) 20 (mMo.kd m_34 k_a0 (by decide)) (by decide) vc_X7 in_X7 (by decide) q1244 dX7_count_108 (pc' := 111) rfl (v := va_rf (mgR M_32 a0 20)) rfl ?_
    obtain ⟨b_72, e_73, k_74, h⟩ := h
    refine r_ref [] e_73 ?_
    refine r_iload_n C dX7_count_111 (pc' := 112) rfl (j := 1) rfl ?_
    refine r_bipush C dX7_count_112 (pc' := 114) rfl (v := 9) rfl ?_
    refine r_isub C dX7_count_114 (pc' := 115) rfl ?_
    obtain ⟨c_75, h⟩ := h
    refine r_iald C (j := (ix_ (x1 - (9 : Int32)))) k_74 c_75 rfl dX7_count_115 (pc' := 116) rfl ?_
    exact r_iret C hE (Nat.le_of_ble_eq_true rfl) (Nat.le_of_ble_eq_true rfl) dX7_count_116 ⟨_, rfl, h⟩
