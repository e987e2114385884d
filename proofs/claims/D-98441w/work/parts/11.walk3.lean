set_option maxRecDepth 100000
def wp_X8_here (M : MM) (a0 : Nat) (Post : Int32 → MM → Prop) : Prop :=
  if (mgI M a0 0) ≤ (mgI M a0 3) then (Post (0 : Int32) M)
  else (∃ b_2, mgR M a0 7 = some b_2 ∧ mkd M b_2 = 1 ∧ ∃ b_5, mgR M b_2 4 = some b_5 ∧ mkd M b_5 = 102 ∧ vp_in (mgI M a0 3) (mln M b_5) ∧ Post ((mgI M b_5 (ix_ (mgI M a0 3))) &&& (255 : Int32)) M)
def wp_X8_isGood (M : MM) (a0 : Nat) (Post : Int32 → MM → Prop) : Prop :=
  if (mgI M a0 5) = 0 then (Post (1 : Int32) M)
  else (Post (0 : Int32) M)
def wp_X8_bad (M : MM) (a0 : Nat) (x1 : Int32) (x2 : Int32) (Post : MM → Prop) : Prop :=
  if (mgI M a0 5) ≤ 0 then (∀ M_2, M_2 = msI M a0 5 x1 → ∀ M_4, M_4 = msI M_2 a0 6 x2 → Post M_4)
  else (Post M)
def wp_X8_seesDigit (M : MM) (a0 : Nat) (Post : Int32 → MM → Prop) : Prop :=
  wp_X8_here M a0 (fun r_2 M_1 => if r_2 < (48 : Int32) then (Post (0 : Int32) M_1)
  else (wp_X8_here M_1 a0 (fun r_6 M_5 => if (57 : Int32) < r_6 then (Post (0 : Int32) M_5)
  else (Post (1 : Int32) M_5))))
def wb_X8_number_40 (M : MM) (a0 : Nat) (x1 : Int32) (x2 : Int32) (R : MM → Int32 → Prop) (X66 : MM → Int32 → Prop) : Prop :=
  wp_X8_here M a0 (fun r_13 M_12 => ∀ x2_15, x2_15 = (((10 : Int32) * x2) + r_13) - (48 : Int32) → ∀ M_17, M_17 = msI M_12 a0 3 ((mgI M_12 a0 3) + (1 : Int32)) → R M_17 x2_15)
def wl_X8_number_7 (a0 : Nat) (x1 : Int32) (X66 : MM → Int32 → Prop) : Nat → MM → Int32 → Prop
  | 0, _, _ => False
  | n_ + 1, M, x2 =>
  wp_X8_isGood M a0 (fun r_4 M_3 => if r_4 = 0 then (X66 M_3 x2)
  else (wp_X8_seesDigit M_3 a0 (fun r_8 M_7 => if r_8 = 0 then (X66 M_7 x2)
  else (if (mgI M_7 a0 3) = (x1 + (5 : Int32)) then (wp_X8_bad M_7 a0 (2 : Int32) (mgI M_7 a0 3) (fun M_19 => wb_X8_number_40 M_19 a0 x1 x2 (wl_X8_number_7 a0 x1 X66 n_) X66))
  else (wb_X8_number_40 M_7 a0 x1 x2 (wl_X8_number_7 a0 x1 X66 n_) X66)))))
def wp_X8_number (M : MM) (a0 : Nat) (Post : Int32 → MM → Prop) : Prop :=
  ∀ x1_1, x1_1 = mgI M a0 3 → ∃ n_22, wl_X8_number_7 a0 x1_1
    (fun (M_23 : MM) (x2_25 : Int32) => Post x2_25 M_23) n_22 M (0 : Int32)
def wb_X8_must_17 (M : MM) (a0 : Nat) (Post : MM → Prop) : Prop :=
  ∀ M_5, M_5 = msI M a0 3 ((mgI M a0 3) + (1 : Int32)) → Post M_5
def wp_X8_must (M : MM) (a0 : Nat) (x1 : Int32) (Post : MM → Prop) : Prop :=
  wp_X8_here M a0 (fun r_2 M_1 => if r_2 = x1 then (wb_X8_must_17 M_1 a0 Post)
  else (wp_X8_bad M_1 a0 (1 : Int32) (mgI M_1 a0 3) (fun M_7 => wb_X8_must_17 M_7 a0 Post)))
def wb_X8_opens_18 (M : MM) (a0 : Nat) (Post : MM → Prop) : Prop :=
  ∀ M_2, M_2 = msI M a0 4 ((mgI M a0 4) + (1 : Int32)) → ∀ M_4, M_4 = msI M_2 a0 3 ((mgI M_2 a0 3) + (1 : Int32)) → Post M_4
def wp_X8_opens (M : MM) (a0 : Nat) (Post : MM → Prop) : Prop :=
  if (mgI M a0 4) = (6 : Int32) then (wp_X8_bad M a0 (5 : Int32) (mgI M a0 3) (fun M_6 => wb_X8_opens_18 M_6 a0 Post))
  else (wb_X8_opens_18 M a0 Post)
def wp_X8_init (M : MM) (a0 : Nat) (a1 : Nat) (x2 : Int32) (o3 : Option Nat) (Post : MM → Prop) : Prop :=
  ∀ M_1, M_1 = msR M a0 7 (some a1) → ∀ b_5, b_5 = msz M_1 → ∀ M_7, M_7 = mnw M_1 6 0 → wp_X6_init M_7 b_5 (fun M_9 => ∀ M_12, M_12 = msR M_9 a0 2 (some b_5) → ∀ M_14, M_14 = msI M_12 a0 0 x2 → ∀ M_16, M_16 = msR M_14 a0 1 o3 → Post M_16)
abbrev RT : Type := Nat → Nat → Nat → MM → Nat → (Option Nat → MM → Prop) → Prop

def wb_X8_factor_97 (D : DD) (Rc : RT) (bc bs : Nat) (k n : Nat) (M : MM) (a0 : Nat) (x1 : Int32) (Post : Option Nat → MM → Prop) : Prop :=
  ∀ M_13, M_13 = msI M a0 3 ((mgI M a0 3) + (1 : Int32)) → ∀ b_17, b_17 = msz M_13 → ∀ M_19, M_19 = mnw M_13 11 0 → (k + 1 ≤ bc ∧ n + 1 ≤ bs) ∧ wp_X12_init M_19 b_17 x1 (fun M_22 => Post (some b_17) M_22)
def wb_X8_factor_88 (D : DD) (Rc : RT) (bc bs : Nat) (k n : Nat) (M : MM) (a0 : Nat) (x1 : Int32) (Post : Option Nat → MM → Prop) : Prop :=
  wp_X8_bad M a0 (1 : Int32) (mgI M a0 3) (fun M_10 => wb_X8_factor_97 D Rc bc bs k n M_10 a0 x1 Post)
def wb_X8_factor_44 (D : DD) (Rc : RT) (bc bs : Nat) (k n : Nat) (M : MM) (a0 : Nat) (o2 : Option Nat) (Post : Option Nat → MM → Prop) : Prop :=
  ∀ M_55, M_55 = msI M a0 4 ((mgI M a0 4) - (1 : Int32)) → Post o2 M_55
def wb_X8_factor_30 (D : DD) (Rc : RT) (bc bs : Nat) (k n : Nat) (M : MM) (a0 : Nat) (os0 : Option Nat) (Post : Option Nat → MM → Prop) : Prop :=
  wp_X8_isGood M a0 (fun r_52 M_51 => if r_52 = 0 then (wb_X8_factor_44 D Rc bc bs k n M_51 a0 os0 Post)
  else (wp_X8_must M_51 a0 (93 : Int32) (fun M_57 => wb_X8_factor_44 D Rc bc bs k n M_57 a0 os0 Post)))
def wp_X8_factor (D : DD) (Rc : RT) (bc bs : Nat) (M : MM) (a0 : Nat) (Post : Option Nat → MM → Prop) : Prop :=
  wp_X8_here M a0 (fun r_2 M_1 => if r_2 = (91 : Int32) then (wp_X8_opens M_1 a0 (fun M_44 => wp_X8_isGood M_44 a0 (fun r_48 M_47 => if r_48 = 0 then (wb_X8_factor_30 D Rc bc bs 0 0 M_47 a0 none Post)
  else (∃ c_60 s_61, (0 + c_60 ≤ bc ∧ 0 + s_61 ≤ bs) ∧ Rc 2 c_60 s_61 M_47 a0 (fun r_64 M_63 => wb_X8_factor_30 D Rc bc bs (0 + c_60) (0 + s_61) M_63 a0 r_64 Post)))))
  else (wp_X8_seesDigit M_1 a0 (fun r_6 M_5 => if r_6 = 0 then (if r_2 = 0 then (wb_X8_factor_88 D Rc bc bs 0 0 M_5 a0 r_2 Post)
  else (∃ i_25, i_25 < 3 ∧ (some (D.2.2.1 2)) = some (D.2.2.1 i_25) ∧ if 0 ≤ (mIx i_25 r_2) then (wb_X8_factor_97 D Rc bc bs 0 0 M_5 a0 r_2 Post)
  else (wb_X8_factor_88 D Rc bc bs 0 0 M_5 a0 r_2 Post)))
  else (∀ b_33, b_33 = msz M_5 → ∀ M_35, M_35 = mnw M_5 10 0 → (0 + 1 ≤ bc ∧ 0 + 1 ≤ bs) ∧ wp_X8_number M_35 a0 (fun r_39 M_38 => wp_X11_init M_38 b_33 r_39 (fun M_41 => Post (some b_33) M_41))))))
def wb_X8_product_49 (D : DD) (Rc : RT) (bc bs : Nat) (k n : Nat) (M : MM) (a0 : Nat) (a1 : Nat) (o2 : Option Nat) (R : Nat → Nat → MM → Option Nat → Prop) (X88 : Nat → Nat → MM → Prop) : Prop :=
  wp_X8_here M a0 (fun r_26 M_25 => ∀ M_28, M_28 = msI M_25 a0 3 ((mgI M_25 a0 3) + (1 : Int32)) → ∀ b_32, b_32 = msz M_28 → ∀ M_34, M_34 = mnw M_28 9 0 → (k + 1 ≤ bc ∧ n + 3 ≤ bs) ∧ ∃ c_37 s_38, ((k + 1) + c_37 ≤ bc ∧ (n + 3) + s_38 ≤ bs) ∧ Rc 0 c_37 s_38 M_34 a0 (fun r_41 M_40 => wp_X10_init M_40 b_32 r_26 r_41 (fun M_43 => ∃ b_46, o2 = some b_46 ∧ mkd M_43 b_46 = 9 ∧ ∀ M_49, M_49 = msR M_43 b_46 2 (some b_32) → ∃ b_51, o2 = some b_51 ∧ mkd M_49 b_51 = 9 ∧ R ((k + 1) + c_37) ((n + 3) + s_38) M_49 (mgR M_49 b_51 2))))
def wl_X8_product_15 (D : DD) (Rc : RT) (bc bs : Nat) (a0 : Nat) (a1 : Nat) (X88 : Nat → Nat → MM → Prop) : Nat → Nat → Nat → MM → Option Nat → Prop
  | 0, _, _, _, _ => False
  | n_ + 1, k, n, M, o2 =>
  wp_X8_isGood M a0 (fun r_18 M_17 => if r_18 = 0 then (X88 k n M_17)
  else (wp_X8_here M_17 a0 (fun r_22 M_21 => if r_22 = (42 : Int32) then (wb_X8_product_49 D Rc bc bs k n M_21 a0 a1 o2 (wl_X8_product_15 D Rc bc bs a0 a1 X88 n_) X88)
  else (wp_X8_here M_21 a0 (fun r_55 M_54 => if r_55 = (47 : Int32) then (wb_X8_product_49 D Rc bc bs k n M_54 a0 a1 o2 (wl_X8_product_15 D Rc bc bs a0 a1 X88 n_) X88)
  else (wp_X8_here M_54 a0 (fun r_59 M_58 => if r_59 = (37 : Int32) then (wb_X8_product_49 D Rc bc bs k n M_58 a0 a1 o2 (wl_X8_product_15 D Rc bc bs a0 a1 X88 n_) X88)
  else (X88 k n M_58))))))))
def wp_X8_product (D : DD) (Rc : RT) (bc bs : Nat) (M : MM) (a0 : Nat) (Post : Option Nat → MM → Prop) : Prop :=
  ∀ b_3, b_3 = msz M → ∀ M_5, M_5 = mnw M 9 0 → (0 + 1 ≤ bc ∧ 0 + 3 ≤ bs) ∧ ∃ c_8 s_9, ((0 + 1) + c_8 ≤ bc ∧ (0 + 3) + s_9 ≤ bs) ∧ Rc 0 c_8 s_9 M_5 a0 (fun r_12 M_11 => wp_X10_init M_11 b_3 (0 : Int32) r_12 (fun M_14 => ∃ n_62, wl_X8_product_15 D Rc bc bs a0 b_3
    (fun (k_65 n_66 : Nat) (M_63 : MM) => Post (some b_3) M_63) n_62 ((0 + 1) + c_8) ((0 + 3) + s_9) M_14 (some b_3)))
def wb_X8_sum_40 (D : DD) (Rc : RT) (bc bs : Nat) (k n : Nat) (M : MM) (a0 : Nat) (a1 : Nat) (o2 : Option Nat) (R : Nat → Nat → MM → Option Nat → Prop) (X79 : Nat → Nat → MM → Prop) : Prop :=
  wp_X8_here M a0 (fun r_26 M_25 => ∀ M_28, M_28 = msI M_25 a0 3 ((mgI M_25 a0 3) + (1 : Int32)) → ∀ b_32, b_32 = msz M_28 → ∀ M_34, M_34 = mnw M_28 9 0 → (k + 1 ≤ bc ∧ n + 3 ≤ bs) ∧ ∃ c_37 s_38, ((k + 1) + c_37 ≤ bc ∧ (n + 3) + s_38 ≤ bs) ∧ Rc 1 c_37 s_38 M_34 a0 (fun r_41 M_40 => wp_X10_init M_40 b_32 r_26 r_41 (fun M_43 => ∃ b_46, o2 = some b_46 ∧ mkd M_43 b_46 = 9 ∧ ∀ M_49, M_49 = msR M_43 b_46 2 (some b_32) → ∃ b_51, o2 = some b_51 ∧ mkd M_49 b_51 = 9 ∧ R ((k + 1) + c_37) ((n + 3) + s_38) M_49 (mgR M_49 b_51 2))))
def wl_X8_sum_15 (D : DD) (Rc : RT) (bc bs : Nat) (a0 : Nat) (a1 : Nat) (X79 : Nat → Nat → MM → Prop) : Nat → Nat → Nat → MM → Option Nat → Prop
  | 0, _, _, _, _ => False
  | n_ + 1, k, n, M, o2 =>
  wp_X8_isGood M a0 (fun r_18 M_17 => if r_18 = 0 then (X79 k n M_17)
  else (wp_X8_here M_17 a0 (fun r_22 M_21 => if r_22 = (43 : Int32) then (wb_X8_sum_40 D Rc bc bs k n M_21 a0 a1 o2 (wl_X8_sum_15 D Rc bc bs a0 a1 X79 n_) X79)
  else (wp_X8_here M_21 a0 (fun r_55 M_54 => if r_55 = (45 : Int32) then (wb_X8_sum_40 D Rc bc bs k n M_54 a0 a1 o2 (wl_X8_sum_15 D Rc bc bs a0 a1 X79 n_) X79)
  else (X79 k n M_54))))))
def wp_X8_sum (D : DD) (Rc : RT) (bc bs : Nat) (M : MM) (a0 : Nat) (Post : Option Nat → MM → Prop) : Prop :=
  ∀ b_3, b_3 = msz M → ∀ M_5, M_5 = mnw M 9 0 → (0 + 1 ≤ bc ∧ 0 + 3 ≤ bs) ∧ ∃ c_8 s_9, ((0 + 1) + c_8 ≤ bc ∧ (0 + 3) + s_9 ≤ bs) ∧ Rc 1 c_8 s_9 M_5 a0 (fun r_12 M_11 => wp_X10_init M_11 b_3 (0 : Int32) r_12 (fun M_14 => ∃ n_58, wl_X8_sum_15 D Rc bc bs a0 b_3
    (fun (k_61 n_62 : Nat) (M_59 : MM) => Post (some b_3) M_59) n_58 ((0 + 1) + c_8) ((0 + 3) + s_9) M_14 (some b_3)))
def wb_X8_piece_129 (D : DD) (Rc : RT) (bc bs : Nat) (k n : Nat) (M : MM) (as0 : Nat) (as1 : Nat) (os2 : Option Nat) (xs3 : Int32) (os4 : Option Nat) (Post : Option Nat → MM → Prop) : Prop :=
  wp_X16_init M as1 os2 xs3 os4 (fun M_29 => Post (some as0) M_29)
def wb_X8_piece_98 (D : DD) (Rc : RT) (bc bs : Nat) (k n : Nat) (M : MM) (a0 : Nat) (o2 : Option Nat) (x3 : Int32) (Post : Option Nat → MM → Prop) : Prop :=
  ∀ M_16, M_16 = msI M a0 3 ((mgI M a0 3) + (1 : Int32)) → ∀ b_20, b_20 = msz M_16 → ∀ M_22, M_22 = mnw M_16 14 0 → (k + 1 ≤ bc ∧ n + 3 ≤ bs) ∧ wp_X8_isGood M_22 a0 (fun r_26 M_25 => if r_26 = 0 then (wb_X8_piece_129 D Rc bc bs (k + 1) (n + 3) M_25 b_20 b_20 o2 x3 none Post)
  else (∃ c_32 s_33, ((k + 1) + c_32 ≤ bc ∧ (n + 3) + s_33 ≤ bs) ∧ Rc 2 c_32 s_33 M_25 a0 (fun r_36 M_35 => wb_X8_piece_129 D Rc bc bs ((k + 1) + c_32) ((n + 3) + s_33) M_35 b_20 b_20 o2 x3 r_36 Post)))
def wb_X8_piece_30 (D : DD) (Rc : RT) (bc bs : Nat) (k n : Nat) (M : MM) (a0 : Nat) (os0 : Option Nat) (Post : Option Nat → MM → Prop) : Prop :=
  ∀ M_56, M_56 = msI M a0 4 ((mgI M a0 4) - (1 : Int32)) → ∀ b_60, b_60 = msz M_56 → ∀ M_62, M_62 = mnw M_56 13 0 → (k + 1 ≤ bc ∧ n + 1 ≤ bs) ∧ wp_X15_init M_62 b_60 os0 (fun M_65 => Post (some b_60) M_65)
def wp_X8_piece (D : DD) (Rc : RT) (bc bs : Nat) (M : MM) (a0 : Nat) (Post : Option Nat → MM → Prop) : Prop :=
  wp_X8_here M a0 (fun r_2 M_1 => if r_2 = (33 : Int32) then (wp_X8_opens M_1 a0 (fun M_49 => wp_X8_isGood M_49 a0 (fun r_53 M_52 => if r_53 = 0 then (wb_X8_piece_30 D Rc bc bs 0 0 M_52 a0 none Post)
  else (∃ c_68 s_69, (0 + c_68 ≤ bc ∧ 0 + s_69 ≤ bs) ∧ Rc 3 c_68 s_69 M_52 a0 (fun r_72 M_71 => wb_X8_piece_30 D Rc bc bs (0 + c_68) (0 + s_69) M_71 a0 r_72 Post)))))
  else (if r_2 = (40 : Int32) then (∃ c_43 s_44, (0 + c_43 ≤ bc ∧ 0 + s_44 ≤ bs) ∧ Rc 5 c_43 s_44 M_1 a0 (fun r_47 M_46 => Post r_47 M_46))
  else (∃ c_6 s_7, (0 + c_6 ≤ bc ∧ 0 + s_7 ≤ bs) ∧ Rc 2 c_6 s_7 M_1 a0 (fun r_10 M_9 => wp_X8_here M_9 a0 (fun r_13 M_12 => if r_13 = (60 : Int32) then (wb_X8_piece_98 D Rc bc bs (0 + c_6) (0 + s_7) M_12 a0 r_10 r_13 Post)
  else (if r_13 = (62 : Int32) then (wb_X8_piece_98 D Rc bc bs (0 + c_6) (0 + s_7) M_12 a0 r_10 r_13 Post)
  else (if r_13 = (61 : Int32) then (wb_X8_piece_98 D Rc bc bs (0 + c_6) (0 + s_7) M_12 a0 r_10 r_13 Post)
  else (wp_X8_bad M_12 a0 (1 : Int32) (mgI M_12 a0 3) (fun M_40 => wb_X8_piece_98 D Rc bc bs (0 + c_6) (0 + s_7) M_40 a0 r_10 r_13 Post)))))))))
def wl_X8_pieces_15 (D : DD) (Rc : RT) (bc bs : Nat) (a0 : Nat) (a1 : Nat) (X65 : Nat → Nat → MM → Prop) : Nat → Nat → Nat → MM → Option Nat → Prop
  | 0, _, _, _, _ => False
  | n_ + 1, k, n, M, o2 =>
  wp_X8_isGood M a0 (fun r_18 M_17 => if r_18 = 0 then (X65 k n M_17)
  else (wp_X8_here M_17 a0 (fun r_22 M_21 => if r_22 = (38 : Int32) then (∀ M_25, M_25 = msI M_21 a0 3 ((mgI M_21 a0 3) + (1 : Int32)) → ∀ b_29, b_29 = msz M_25 → ∀ M_31, M_31 = mnw M_25 12 0 → (k + 1 ≤ bc ∧ n + 3 ≤ bs) ∧ ∃ c_34 s_35, ((k + 1) + c_34 ≤ bc ∧ (n + 3) + s_35 ≤ bs) ∧ Rc 3 c_34 s_35 M_31 a0 (fun r_38 M_37 => wp_X14_init M_37 b_29 r_38 (0 : Int32) (fun M_40 => ∃ b_43, o2 = some b_43 ∧ mkd M_40 b_43 = 12 ∧ ∀ M_46, M_46 = msR M_40 b_43 2 (some b_29) → ∃ b_48, o2 = some b_48 ∧ mkd M_46 b_48 = 12 ∧ wl_X8_pieces_15 D Rc bc bs a0 a1 X65 n_ ((k + 1) + c_34) ((n + 3) + s_35) M_46 (mgR M_46 b_48 2))))
  else (X65 k n M_21))))
def wp_X8_pieces (D : DD) (Rc : RT) (bc bs : Nat) (M : MM) (a0 : Nat) (Post : Option Nat → MM → Prop) : Prop :=
  ∀ b_3, b_3 = msz M → ∀ M_5, M_5 = mnw M 12 0 → (0 + 1 ≤ bc ∧ 0 + 3 ≤ bs) ∧ ∃ c_8 s_9, ((0 + 1) + c_8 ≤ bc ∧ (0 + 3) + s_9 ≤ bs) ∧ Rc 3 c_8 s_9 M_5 a0 (fun r_12 M_11 => wp_X14_init M_11 b_3 r_12 (0 : Int32) (fun M_14 => ∃ n_51, wl_X8_pieces_15 D Rc bc bs a0 b_3
    (fun (k_54 n_55 : Nat) (M_52 : MM) => Post (some b_3) M_52) n_51 ((0 + 1) + c_8) ((0 + 3) + s_9) M_14 (some b_3)))
def wl_X8_condition_30 (D : DD) (Rc : RT) (bc bs : Nat) (a0 : Nat) (o1 : Option Nat) (X80 : Nat → Nat → MM → Prop) : Nat → Nat → Nat → MM → Option Nat → Prop
  | 0, _, _, _, _ => False
  | n_ + 1, k, n, M, o2 =>
  wp_X8_isGood M a0 (fun r_9 M_8 => if r_9 = 0 then (X80 k n M_8)
  else (wp_X8_here M_8 a0 (fun r_13 M_12 => if r_13 = (124 : Int32) then (∀ M_16, M_16 = msI M_12 a0 3 ((mgI M_12 a0 3) + (1 : Int32)) → ∀ b_20, b_20 = msz M_16 → ∀ M_22, M_22 = mnw M_16 12 0 → (k + 1 ≤ bc ∧ n + 3 ≤ bs) ∧ ∃ c_25 s_26, ((k + 1) + c_25 ≤ bc ∧ (n + 3) + s_26 ≤ bs) ∧ Rc 4 c_25 s_26 M_22 a0 (fun r_29 M_28 => wp_X14_init M_28 b_20 r_29 (1 : Int32) (fun M_31 => ∃ b_34, o2 = some b_34 ∧ mkd M_31 b_34 = 12 ∧ ∀ M_37, M_37 = msR M_31 b_34 2 (some b_20) → ∃ b_39, o2 = some b_39 ∧ mkd M_37 b_39 = 12 ∧ wl_X8_condition_30 D Rc bc bs a0 o1 X80 n_ ((k + 1) + c_25) ((n + 3) + s_26) M_37 (mgR M_37 b_39 2))))
  else (X80 k n M_12))))
def wb_X8_condition_93 (D : DD) (Rc : RT) (bc bs : Nat) (k n : Nat) (M : MM) (a0 : Nat) (o1 : Option Nat) (Post : Option Nat → MM → Prop) : Prop :=
  ∀ M_53, M_53 = msI M a0 4 ((mgI M a0 4) - (1 : Int32)) → Post o1 M_53
def wb_X8_condition_80 (D : DD) (Rc : RT) (bc bs : Nat) (k n : Nat) (M : MM) (a0 : Nat) (o1 : Option Nat) (Post : Option Nat → MM → Prop) : Prop :=
  wp_X8_isGood M a0 (fun r_50 M_49 => if r_50 = 0 then (wb_X8_condition_93 D Rc bc bs k n M_49 a0 o1 Post)
  else (wp_X8_must M_49 a0 (41 : Int32) (fun M_55 => wb_X8_condition_93 D Rc bc bs k n M_55 a0 o1 Post)))
def wp_X8_condition (D : DD) (Rc : RT) (bc bs : Nat) (M : MM) (a0 : Nat) (Post : Option Nat → MM → Prop) : Prop :=
  wp_X8_opens M a0 (fun M_1 => wp_X8_isGood M_1 a0 (fun r_5 M_4 => if r_5 = 0 then (∃ n_42, wl_X8_condition_30 D Rc bc bs a0 none
    (fun (k_45 n_46 : Nat) (M_43 : MM) => wb_X8_condition_80 D Rc bc bs k_45 n_46 M_43 a0 none Post) n_42 0 0 M_4 none)
  else (∀ b_60, b_60 = msz M_4 → ∀ M_62, M_62 = mnw M_4 12 0 → (0 + 1 ≤ bc ∧ 0 + 3 ≤ bs) ∧ ∃ c_65 s_66, ((0 + 1) + c_65 ≤ bc ∧ (0 + 3) + s_66 ≤ bs) ∧ Rc 4 c_65 s_66 M_62 a0 (fun r_69 M_68 => wp_X14_init M_68 b_60 r_69 (1 : Int32) (fun M_71 => ∃ n_74, wl_X8_condition_30 D Rc bc bs a0 (some b_60)
    (fun (k_77 n_78 : Nat) (M_75 : MM) => wb_X8_condition_80 D Rc bc bs k_77 n_78 M_75 a0 (some b_60) Post) n_74 ((0 + 1) + c_65) ((0 + 3) + s_66) M_71 (some b_60))))))
def wpR (D : DD) : Nat → RT
  | 0 => fun _ _ _ _ _ _ => False
  | d + 1 => fun t bc bs M a P => match t with
    | 0 => wp_X8_factor D (wpR D d) bc bs M a P
    | 1 => wp_X8_product D (wpR D d) bc bs M a P
    | 2 => wp_X8_sum D (wpR D d) bc bs M a P
    | 3 => wp_X8_piece D (wpR D d) bc bs M a P
    | 4 => wp_X8_pieces D (wpR D d) bc bs M a P
    | _ => wp_X8_condition D (wpR D d) bc bs M a P

def wb_X8_clause_121 (D : DD) (bc bs : Nat) (k n : Nat) (M : MM) (a0 : Nat) (x1 : Int32) (o2 : Option Nat) (os0 : Option Nat) (Post : MM → Prop) : Prop :=
  ∃ b_30, mgR M a0 2 = some b_30 ∧ mkd M b_30 = 6 ∧ ∃ b_33, mgR M b_30 0 = some b_33 ∧ mkd M b_33 = 100 ∧ ∃ b_36, mgR M a0 2 = some b_36 ∧ mkd M b_36 = 6 ∧ vp_in (mgI M b_36 3) (mln M b_33) ∧ ∀ M_40, M_40 = msI M b_33 (ix_ (mgI M b_36 3)) x1 → ∃ b_42, mgR M_40 a0 2 = some b_42 ∧ mkd M_40 b_42 = 6 ∧ ∃ b_45, mgR M_40 b_42 1 = some b_45 ∧ mkd M_40 b_45 = 106 ∧ ∃ b_48, mgR M_40 a0 2 = some b_48 ∧ mkd M_40 b_48 = 6 ∧ vp_in (mgI M_40 b_48 3) (mln M_40 b_45) ∧ (∀ v_, o2 = some v_ → mOk (mkd M_40 v_ - 1) 6 = true ∧ mkd M_40 v_ ≠ 0) ∧ ∀ M_53, M_53 = msR M_40 b_45 (ix_ (mgI M_40 b_48 3)) o2 → ∃ b_55, mgR M_53 a0 2 = some b_55 ∧ mkd M_53 b_55 = 6 ∧ ∃ b_58, mgR M_53 b_55 2 = some b_58 ∧ mkd M_53 b_58 = 107 ∧ ∃ b_61, mgR M_53 a0 2 = some b_61 ∧ mkd M_53 b_61 = 6 ∧ vp_in (mgI M_53 b_61 3) (mln M_53 b_58) ∧ (∀ v_, os0 = some v_ → mOk (mkd M_53 v_ - 1) 7 = true ∧ mkd M_53 v_ ≠ 0) ∧ ∀ M_66, M_66 = msR M_53 b_58 (ix_ (mgI M_53 b_61 3)) os0 → ∃ b_68, mgR M_66 a0 2 = some b_68 ∧ mkd M_66 b_68 = 6 ∧ ∀ M_71, M_71 = msI M_66 b_68 3 ((mgI M_66 b_68 3) + (1 : Int32)) → Post M_71
def wb_X8_clause_106 (D : DD) (bc bs : Nat) (k n : Nat) (M : MM) (a0 : Nat) (x1 : Int32) (o2 : Option Nat) (Post : MM → Prop) : Prop :=
  wp_X8_isGood M a0 (fun r_27 M_26 => if r_27 = 0 then (wb_X8_clause_121 D bc bs k n M_26 a0 x1 o2 none Post)
  else (∃ c_73 s_74, (k + c_73 ≤ bc ∧ n + s_74 ≤ bs) ∧ wpR D 60 5 c_73 s_74 M_26 a0 (fun r_77 M_76 => wb_X8_clause_121 D bc bs (k + c_73) (n + s_74) M_76 a0 x1 o2 r_77 Post)))
def wb_X8_clause_53 (D : DD) (bc bs : Nat) (k n : Nat) (M : MM) (a0 : Nat) (x1 : Int32) (Post : MM → Prop) : Prop :=
  wp_X8_isGood M a0 (fun r_9 M_8 => if r_9 = 0 then (Post M_8)
  else (∀ M_12, M_12 = msI M_8 a0 3 ((mgI M_8 a0 3) + (1 : Int32)) → ∀ M_14, M_14 = msI M_12 a0 4 (0 : Int32) → ∃ c_16 s_17, (k + c_16 ≤ bc ∧ n + s_17 ≤ bs) ∧ wpR D 60 2 c_16 s_17 M_14 a0 (fun r_20 M_19 => wp_X8_isGood M_19 a0 (fun r_23 M_22 => if r_23 = 0 then (wb_X8_clause_106 D bc bs (k + c_16) (n + s_17) M_22 a0 x1 r_20 Post)
  else (wp_X8_here M_22 a0 (fun r_80 M_79 => if r_80 = (40 : Int32) then (wb_X8_clause_106 D bc bs (k + c_16) (n + s_17) M_79 a0 x1 r_20 Post)
  else (wp_X8_bad M_79 a0 (1 : Int32) (mgI M_79 a0 3) (fun M_83 => wb_X8_clause_106 D bc bs (k + c_16) (n + s_17) M_83 a0 x1 r_20 Post))))))))
def wb_X8_clause_20 (D : DD) (bc bs : Nat) (k n : Nat) (M : MM) (a0 : Nat) (x1 : Int32) (Post : MM → Prop) : Prop :=
  wp_X8_bad M a0 (1 : Int32) (mgI M a0 3) (fun M_5 => wb_X8_clause_53 D bc bs k n M_5 a0 x1 Post)
def wp_X8_clause (D : DD) (bc bs : Nat) (M : MM) (a0 : Nat) (Post : MM → Prop) : Prop :=
  wp_X8_here M a0 (fun r_2 M_1 => if r_2 = 0 then (wb_X8_clause_20 D bc bs 0 0 M_1 a0 r_2 Post)
  else (∃ i_86, i_86 < 3 ∧ (mgR M_1 a0 1) = some (D.2.2.1 i_86) ∧ if 0 ≤ (mIx i_86 r_2) then (∃ b_92, mgR M_1 a0 2 = some b_92 ∧ mkd M_1 b_92 = 6 ∧ if (mgI M_1 b_92 3) = (14 : Int32) then (wp_X8_bad M_1 a0 (4 : Int32) (mgI M_1 a0 3) (fun M_96 => wb_X8_clause_53 D bc bs 0 0 M_96 a0 r_2 Post))
  else (wb_X8_clause_53 D bc bs 0 0 M_1 a0 r_2 Post))
  else (wb_X8_clause_20 D bc bs 0 0 M_1 a0 r_2 Post)))
def wb_X8_read_40 (D : DD) (bc bs : Nat) (k n : Nat) (M : MM) (a0 : Nat) (xs0 : Int32) (R : Nat → Nat → MM → Int32 → Prop) (X54 : Nat → Nat → MM → Prop) : Prop :=
  if xs0 = 0 then (R k n M xs0)
  else (wp_X8_must M a0 (59 : Int32) (fun M_17 => R k n M_17 xs0))
def wb_X8_read_39 (D : DD) (bc bs : Nat) (k n : Nat) (M : MM) (a0 : Nat) (R : Nat → Nat → MM → Int32 → Prop) (X54 : Nat → Nat → MM → Prop) : Prop :=
  wb_X8_read_40 D bc bs k n M a0 (0 : Int32) R X54
def wl_X8_read_2 (D : DD) (bc bs : Nat) (a0 : Nat) (X54 : Nat → Nat → MM → Prop) : Nat → Nat → Nat → MM → Int32 → Prop
  | 0, _, _, _, _ => False
  | n_ + 1, k, n, M, x1 =>
  if x1 = 0 then (X54 k n M)
  else (wp_X8_isGood M a0 (fun r_3 M_2 => if r_3 = 0 then (X54 k n M_2)
  else (∃ c_6 s_7, (k + c_6 ≤ bc ∧ n + s_7 ≤ bs) ∧ wp_X8_clause D c_6 s_7 M_2 a0 (fun M_9 => wp_X8_isGood M_9 a0 (fun r_13 M_12 => if r_13 = 0 then (wb_X8_read_39 D bc bs (k + c_6) (n + s_7) M_12 a0 (wl_X8_read_2 D bc bs a0 X54 n_) X54)
  else (if (mgI M_12 a0 0) ≤ (mgI M_12 a0 3) then (wb_X8_read_39 D bc bs (k + c_6) (n + s_7) M_12 a0 (wl_X8_read_2 D bc bs a0 X54 n_) X54)
  else (wb_X8_read_40 D bc bs (k + c_6) (n + s_7) M_12 a0 (1 : Int32) (wl_X8_read_2 D bc bs a0 X54 n_) X54)))))))
def wb_X8_read_54 (D : DD) (bc bs : Nat) (k n : Nat) (M : MM) (a0 : Nat) (Post : Int32 → MM → Prop) : Prop :=
  wp_X8_isGood M a0 (fun r_29 M_28 => if r_29 = 0 then (Post (((-1000 : Int32) * (mgI M_28 a0 5)) - (mgI M_28 a0 6)) M_28)
  else (∃ b_32, mgR M_28 a0 2 = some b_32 ∧ mkd M_28 b_32 = 6 ∧ Post (mgI M_28 b_32 3) M_28))
def wp_X8_read (D : DD) (bc bs : Nat) (M : MM) (a0 : Nat) (Post : Int32 → MM → Prop) : Prop :=
  ∃ n_21, wl_X8_read_2 D bc bs a0
    (fun (k_24 n_25 : Nat) (M_22 : MM) => wb_X8_read_54 D bc bs k_24 n_25 M_22 a0 Post) n_21 0 0 M (1 : Int32)
theorem hd_X8_here : mHd yX8_here 0 := ⟨by decide, by decide, by decide +kernel⟩
theorem hd_X8_isGood : mHd yX8_isGood 0 := ⟨by decide, by decide, by decide +kernel⟩
theorem hd_X8_bad : mHd yX8_bad 2 := ⟨by decide, by decide, by decide +kernel⟩
theorem hd_X8_seesDigit : mHd yX8_seesDigit 0 := ⟨by decide, by decide, by decide +kernel⟩
theorem hd_X8_number : mHd yX8_number 0 := ⟨by decide, by decide, by decide +kernel⟩
theorem hd_X8_must : mHd yX8_must 1 := ⟨by decide, by decide, by decide +kernel⟩
theorem hd_X8_opens : mHd yX8_opens 0 := ⟨by decide, by decide, by decide +kernel⟩
theorem hd_X8_init : mHd yX8_init 3 := ⟨by decide, by decide, by decide +kernel⟩
set_option maxHeartbeats 4000000 in
theorem S_X8_here {D : DD} {l : Launch} {M : MM} {a0 : Nat} {Post : Int32 → MM → Prop} (k_a0 : mkd M a0 = 8) (h : wp_X8_here M a0 Post) : mMet D l yX8_here cX8_here 1 ((some .int)) { frames := 0, cells := 0, slots := 0, locals := 0 } M [.ref a0] (pI_ Post) := by
  refine m_of2 [(0, .ref a0)] (by decide +kernel) (Nat.le_of_ble_eq_true rfl) rfl (fun E hED hEl C hE => ?_)
  subst hED
  subst hEl
  unfold wp_X8_here at h
  refine r_aload_n C dX8_here_0 (pc' := 1) rfl (j := 0) rfl ?_
  refine r_getf C (Cn := RX8) (T := TX8) 3 k_a0 (by decide) vc_X8 in_X8 (by decide) q517 dX8_here_1 (pc' := 4) rfl (v := .int (mgI M a0 3)) rfl ?_
  refine r_aload_n C dX8_here_4 (pc' := 5) rfl (j := 0) rfl ?_
  refine r_getf C (Cn := RX8) (T := TX8) 0 k_a0 (by decide) vc_X8 in_X8 (by decide) q513 dX8_here_5 (pc' := 8) rfl (v := .int (mgI M a0 0)) rfl ?_
  refine r_icmp_ge C dX8_here_8 (pc' := 11) rfl (tgt := 30) (by decide) (fun c_1 => ?_) (fun c_1 => ?_)
  · have h := it_t h c_1
    refine r_iconst C dX8_here_30 (pc' := 31) rfl (v := 0) rfl ?_
    exact r_iret C hE (Nat.le_of_ble_eq_true rfl) (Nat.le_of_ble_eq_true rfl) dX8_here_31 ⟨_, rfl, h⟩
  · have h := it_f h c_1
    refine r_aload_n C dX8_here_11 (pc' := 12) rfl (j := 0) rfl ?_
    refine r_getf C (Cn := RX8) (T := TX8) 7 k_a0 (by decide) vc_X8 in_X8 (by decide) q521 dX8_here_12 (pc' := 15) rfl (v := va_rf (mgR M a0 7)) rfl ?_
    obtain ⟨b_2, e_3, k_4, h⟩ := h
    refine r_ref [] e_3 ?_
    refine r_getfN C (Cn := RX0) (T := TX0) 4 k_4 (by decide) vc_X0 in_X0 (by decide) (List.mem_of_getElem? (i := 46) rfl) dX8_here_15 (pc' := 18) rfl (v := va_rf (mgR M b_2 4)) rfl ?_
    obtain ⟨b_5, e_6, k_7, h⟩ := h
    refine r_ref [] e_6 ?_
    refine r_aload_n C dX8_here_18 (pc' := 19) rfl (j := 0) rfl ?_
    refine r_getf C (Cn := RX8) (T := TX8) 3 k_a0 (by decide) vc_X8 in_X8 (by decide) q517 dX8_here_19 (pc' := 22) rfl (v := .int (mgI M a0 3)) rfl ?_
    obtain ⟨c_8, h⟩ := h
    refine r_bald C (j := (ix_ (mgI M a0 3))) k_7 c_8 rfl dX8_here_22 (pc' := 23) rfl ?_
    refine r_sipush C dX8_here_23 (pc' := 26) rfl (v := 255) rfl ?_
    refine r_iand C dX8_here_26 (pc' := 27) rfl ?_
    refine r_goto C dX8_here_27 (tgt := 31) (by decide) ?_
    exact r_iret C hE (Nat.le_of_ble_eq_true rfl) (Nat.le_of_ble_eq_true rfl) dX8_here_31 ⟨_, rfl, h⟩
set_option maxHeartbeats 4000000 in
theorem S_X8_isGood {D : DD} {l : Launch} {M : MM} {a0 : Nat} {Post : Int32 → MM → Prop} (k_a0 : mkd M a0 = 8) (h : wp_X8_isGood M a0 Post) : mMet D l yX8_isGood cX8_isGood 1 ((some .boolean)) { frames := 0, cells := 0, slots := 0, locals := 0 } M [.ref a0] (pI_ Post) := by
  refine m_of2 [(0, .ref a0)] (by decide +kernel) (Nat.le_of_ble_eq_true rfl) rfl (fun E hED hEl C hE => ?_)
  subst hED
  subst hEl
  unfold wp_X8_isGood at h
  refine r_aload_n C dX8_isGood_0 (pc' := 1) rfl (j := 0) rfl ?_
  refine r_getf C (Cn := RX8) (T := TX8) 5 k_a0 (by decide) vc_X8 in_X8 (by decide) q519 dX8_isGood_1 (pc' := 4) rfl (v := .int (mgI M a0 5)) rfl ?_
  refine r_if_ne C dX8_isGood_4 (pc' := 7) rfl (tgt := 11) (by decide) (fun c_1 => ?_) (fun c_1 => ?_)
  · have h := it_f h c_1
    refine r_iconst C dX8_isGood_11 (pc' := 12) rfl (v := 0) rfl ?_
    exact r_zret C hE (Or.inl rfl) (Nat.le_of_ble_eq_true rfl) (Nat.le_of_ble_eq_true rfl) dX8_isGood_12 ⟨_, rfl, h⟩
  · have h := it_t h c_1
    refine r_iconst C dX8_isGood_7 (pc' := 8) rfl (v := 1) rfl ?_
    refine r_goto C dX8_isGood_8 (tgt := 12) (by decide) ?_
    exact r_zret C hE (Or.inr rfl) (Nat.le_of_ble_eq_true rfl) (Nat.le_of_ble_eq_true rfl) dX8_isGood_12 ⟨_, rfl, h⟩
set_option maxHeartbeats 4000000 in
theorem S_X8_bad {D : DD} {l : Launch} {M : MM} {a0 : Nat} {x1 : Int32} {x2 : Int32} {Post : MM → Prop} (k_a0 : mkd M a0 = 8) (h : wp_X8_bad M a0 x1 x2 Post) : mMet D l yX8_bad cX8_bad 3 (none) { frames := 0, cells := 0, slots := 0, locals := 0 } M [.ref a0, .int x1, .int x2] (pV_ Post) := by
  refine m_of2 [(0, .ref a0), (1, .int x1), (2, .int x2)] (by decide +kernel) (Nat.le_of_ble_eq_true rfl) rfl (fun E hED hEl C hE => ?_)
  subst hED
  subst hEl
  unfold wp_X8_bad at h
  refine r_aload_n C dX8_bad_0 (pc' := 1) rfl (j := 0) rfl ?_
  refine r_getf C (Cn := RX8) (T := TX8) 5 k_a0 (by decide) vc_X8 in_X8 (by decide) q519 dX8_bad_1 (pc' := 4) rfl (v := .int (mgI M a0 5)) rfl ?_
  refine r_if_le C dX8_bad_4 (pc' := 7) rfl (tgt := 8) (by decide) (fun c_1 => ?_) (fun c_1 => ?_)
  · have h := it_t h c_1
    refine r_aload_n C dX8_bad_8 (pc' := 9) rfl (j := 0) rfl ?_
    refine r_iload_n C dX8_bad_9 (pc' := 10) rfl (j := 1) rfl ?_
    obtain ⟨M_2, e_3, h⟩ := bn_ h
    refine r_putI C (Cn := RX8) (T := TX8) tyX8 5 k_a0 (by decide) vc_X8 in_X8 tyX8_ok nmX8 (by decide) q519 rfl rfl dX8_bad_10 (pc' := 13) rfl rfl rfl M_2 e_3 ?_
    refine r_aload_n C dX8_bad_13 (pc' := 14) rfl (j := 0) rfl ?_
    refine r_iload_n C dX8_bad_14 (pc' := 15) rfl (j := 2) rfl ?_
    obtain ⟨M_4, e_5, h⟩ := bn_ h
    refine r_putI C (Cn := RX8) (T := TX8) tyX8 6 (mMo.kd (mo_I e_3) k_a0 (by decide)) (by decide) vc_X8 in_X8 tyX8_ok nmX8 (by decide) q520 rfl rfl dX8_bad_15 (pc' := 18) rfl rfl rfl M_4 e_5 ?_
    exact r_vret C hE (Nat.le_of_ble_eq_true rfl) (Nat.le_of_ble_eq_true rfl) dX8_bad_18 ⟨rfl, h⟩
  · have h := it_f h c_1
    exact r_vret C hE (Nat.le_of_ble_eq_true rfl) (Nat.le_of_ble_eq_true rfl) dX8_bad_7 ⟨rfl, h⟩
set_option maxHeartbeats 4000000 in
theorem S_X8_seesDigit {D : DD} {l : Launch} {M : MM} {a0 : Nat} {Post : Int32 → MM → Prop} (k_a0 : mkd M a0 = 8) (h : wp_X8_seesDigit M a0 Post) : mMet D l yX8_seesDigit cX8_seesDigit 1 ((some .boolean)) { frames := 1, cells := 0, slots := 0, locals := 20 } M [.ref a0] (pI_ Post) := by
  refine m_of2 [(0, .ref a0)] (by decide +kernel) (Nat.le_of_ble_eq_true rfl) rfl (fun E hED hEl C hE => ?_)
  subst hED
  subst hEl
  unfold wp_X8_seesDigit at h
  refine r_aload_n C dX8_seesDigit_0 (pc' := 1) rfl (j := 0) rfl ?_
  refine r_callVi (As := []) (rest := []) (Cn := RX8) (T := TX8) C k_a0 (by decide) vc_X8 (S_X8_here k_a0 h) (lw_V q551 q553 qs4 q114 q554) rfl hd_X8_here rfl rfl (Nat.le_of_ble_eq_true rfl) (Nat.le_of_ble_eq_true rfl) (Nat.le_of_ble_eq_true rfl) rfl rfl (Nat.le_of_ble_eq_true rfl) (Nat.le_of_ble_eq_true rfl) dX8_seesDigit_1 (pc' := 4) rfl (fun r_2 M_1 h m_3 => ?_)
  refine r_bipush C dX8_seesDigit_4 (pc' := 6) rfl (v := 48) rfl ?_
  refine r_icmp_lt C dX8_seesDigit_6 (pc' := 9) rfl (tgt := 22) (by decide) (fun c_4 => ?_) (fun c_4 => ?_)
  · have h := it_t h c_4
    refine r_iconst C dX8_seesDigit_22 (pc' := 23) rfl (v := 0) rfl ?_
    exact r_zret C hE (Or.inl rfl) (Nat.le_of_ble_eq_true rfl) (Nat.le_of_ble_eq_true rfl) dX8_seesDigit_23 ⟨_, rfl, h⟩
  · have h := it_f h c_4
    refine r_aload_n C dX8_seesDigit_9 (pc' := 10) rfl (j := 0) rfl ?_
    refine r_callVi (As := []) (rest := []) (Cn := RX8) (T := TX8) C (mMo.kd m_3 k_a0 (by decide)) (by decide) vc_X8 (S_X8_here (mMo.kd m_3 k_a0 (by decide)) h) (lw_V q551 q553 qs4 q114 q554) rfl hd_X8_here rfl rfl (Nat.le_of_ble_eq_true rfl) (Nat.le_of_ble_eq_true rfl) (Nat.le_of_ble_eq_true rfl) rfl rfl (Nat.le_of_ble_eq_true rfl) (Nat.le_of_ble_eq_true rfl) dX8_seesDigit_10 (pc' := 13) rfl (fun r_6 M_5 h m_7 => ?_)
    refine r_bipush C dX8_seesDigit_13 (pc' := 15) rfl (v := 57) rfl ?_
    refine r_icmp_gt C dX8_seesDigit_15 (pc' := 18) rfl (tgt := 22) (by decide) (fun c_8 => ?_) (fun c_8 => ?_)
    · have h := it_t h c_8
      refine r_iconst C dX8_seesDigit_22 (pc' := 23) rfl (v := 0) rfl ?_
      exact r_zret C hE (Or.inl rfl) (Nat.le_of_ble_eq_true rfl) (Nat.le_of_ble_eq_true rfl) dX8_seesDigit_23 ⟨_, rfl, h⟩
    · have h := it_f h c_8
      refine r_iconst C dX8_seesDigit_18 (pc' := 19) rfl (v := 1) rfl ?_
      refine r_goto C dX8_seesDigit_19 (tgt := 23) (by decide) ?_
      exact r_zret C hE (Or.inr rfl) (Nat.le_of_ble_eq_true rfl) (Nat.le_of_ble_eq_true rfl) dX8_seesDigit_23 ⟨_, rfl, h⟩
set_option maxHeartbeats 4000000 in
theorem B_X8_number_40 {E : mE} {M : MM} {a0 : Nat} {x1 : Int32} {x2 : Int32} {R : MM → Int32 → Prop} {X66 : MM → Int32 → Prop} {Post : Int32 → MM → Prop} (C : mC E yX8_number cX8_number 3 ((some .int)) { frames := 2, cells := 0, slots := 0, locals := 40 }) (hE : mEnd E { frames := 2, cells := 0, slots := 0, locals := 40 } (pI_ Post)) (k_a0 : mkd M a0 = 8) (h : wb_X8_number_40 M a0 x1 x2 R X66) (hR : ∀ (M' : MM) (x2' : Int32), mMo M M' → mkd M' a0 = 8 → R M' x2' → mV E M' 0 0 7 [(0, .ref a0), (1, .int x1), (2, .int x2')] []) (hX66 : ∀ (M' : MM) (x2' : Int32), mMo M M' → X66 M' x2' → mV E M' 0 0 66 [(2, .int x2')] []) : mV E M 0 0 40 [(0, .ref a0), (1, .int x1), (2, .int x2)] [] := by
  unfold wb_X8_number_40 at h
  refine r_bipush C dX8_number_40 (pc' := 42) rfl (v := 10) rfl ?_
  refine r_iload_n C dX8_number_42 (pc' := 43) rfl (j := 2) rfl ?_
  refine r_imul C dX8_number_43 (pc' := 44) rfl ?_
  refine r_aload_n C dX8_number_44 (pc' := 45) rfl (j := 0) rfl ?_
  refine r_callVi (As := []) (rest := [.int ((10 : Int32) * x2)]) (Cn := RX8) (T := TX8) C k_a0 (by decide) vc_X8 (S_X8_here k_a0 h) (lw_V q551 q553 qs4 q114 q554) rfl hd_X8_here rfl rfl (Nat.le_of_ble_eq_true rfl) (Nat.le_of_ble_eq_true rfl) (Nat.le_of_ble_eq_true rfl) rfl rfl (Nat.le_of_ble_eq_true rfl) (Nat.le_of_ble_eq_true rfl) dX8_number_45 (pc' := 48) rfl (fun r_13 M_12 h m_14 => ?_)
  refine r_iadd C dX8_number_48 (pc' := 49) rfl ?_
  refine r_bipush C dX8_number_49 (pc' := 51) rfl (v := 48) rfl ?_
  refine r_isub C dX8_number_51 (pc' := 52) rfl ?_
  obtain ⟨x2_15, e_16, h⟩ := bn_ h
  refine r_istore_n C (lv' := [(2, .int x2_15), (0, .ref a0), (1, .int x1)]) dX8_number_52 (pc' := 53) rfl rfl x2_15 e_16 (Nat.le_of_ble_eq_true rfl) rfl ?_
  refine r_aload_n C dX8_number_53 (pc' := 54) rfl (j := 1) rfl ?_
  refine r_dup C dX8_number_54 (pc' := 55) rfl rfl ?_
  refine r_getf C (Cn := RX8) (T := TX8) 3 (mMo.kd m_14 k_a0 (by decide)) (by decide) vc_X8 in_X8 (by decide) q517 dX8_number_55 (pc' := 58) rfl (v := .int (mgI M_12 a0 3)) rfl ?_
  refine r_iconst C dX8_number_58 (pc' := 59) rfl (v := 1) rfl ?_
  refine r_iadd C dX8_number_59 (pc' := 60) rfl ?_
  obtain ⟨M_17, e_18, h⟩ := bn_ h
  refine r_putI C (Cn := RX8) (T := TX8) tyX8 3 (mMo.kd m_14 k_a0 (by decide)) (by decide) vc_X8 in_X8 tyX8_ok nmX8 (by decide) q517 rfl rfl dX8_number_60 (pc' := 63) rfl rfl rfl M_17 e_18 ?_
  refine r_goto C dX8_number_63 (tgt := 7) (by decide) ?_
  refine r_sub (lv' := [(0, .ref a0), (1, .int x1), (2, .int x2_15)]) [1, 2, 0] rfl ?_
  exact hR M_17 x2_15 (mMo.tr m_14 (mo_I e_18)) (mMo.kd (mo_I e_18) (mMo.kd m_14 k_a0 (by decide)) (by decide)) h
set_option maxHeartbeats 4000000 in
theorem B_X8_number_7 {E : mE} {a0 : Nat} {x1 : Int32} {X66 : MM → Int32 → Prop} {Post : Int32 → MM → Prop} (C : mC E yX8_number cX8_number 3 ((some .int)) { frames := 2, cells := 0, slots := 0, locals := 40 }) (hE : mEnd E { frames := 2, cells := 0, slots := 0, locals := 40 } (pI_ Post)) : ∀ (n_ : Nat) (M : MM) (x2 : Int32), mkd M a0 = 8 → wl_X8_number_7 a0 x1 X66 n_ M x2 → (∀ (M' : MM) (x2' : Int32), mMo M M' → X66 M' x2' → mV E M' 0 0 66 [(2, .int x2')] []) → mV E M 0 0 7 [(0, .ref a0), (1, .int x1), (2, .int x2)] [] := by
  intro n_
  induction n_ with
  | zero =>
    intro M x2 k_a0 h hX66
    exact absurd h (by rw [wl_X8_number_7]; exact fun q => q)
  | succ n_ ih =>
    intro M x2 k_a0 h hX66
    rw [wl_X8_number_7] at h
    refine r_aload_n C dX8_number_7 (pc' := 8) rfl (j := 0) rfl ?_
    refine r_callVi (As := []) (rest := []) (Cn := RX8) (T := TX8) C k_a0 (by decide) vc_X8 (S_X8_isGood k_a0 h) (lw_V q543 q545 qs2 q114 q546) rfl hd_X8_isGood rfl rfl (Nat.le_of_ble_eq_true rfl) (Nat.le_of_ble_eq_true rfl) (Nat.le_of_ble_eq_true rfl) rfl rfl (Nat.le_of_ble_eq_true rfl) (Nat.le_of_ble_eq_true rfl) dX8_number_8 (pc' := 11) rfl (fun r_4 M_3 h m_5 => ?_)
    refine r_if_eq C dX8_number_11 (pc' := 14) rfl (tgt := 66) (by decide) (fun c_6 => ?_) (fun c_6 => ?_)
    · have h := it_t h c_6
      refine r_sub (lv' := [(2, .int x2)]) [2] rfl ?_
      exact hX66 M_3 x2 m_5 h
    · have h := it_f h c_6
      refine r_aload_n C dX8_number_14 (pc' := 15) rfl (j := 0) rfl ?_
      refine r_callVi (As := []) (rest := []) (Cn := RX8) (T := TX8) C (mMo.kd m_5 k_a0 (by decide)) (by decide) vc_X8 (S_X8_seesDigit (mMo.kd m_5 k_a0 (by decide)) h) (lw_V q665 q667 qs11 q114 q668) rfl hd_X8_seesDigit rfl rfl (Nat.le_of_ble_eq_true rfl) (Nat.le_of_ble_eq_true rfl) (Nat.le_of_ble_eq_true rfl) rfl rfl (Nat.le_of_ble_eq_true rfl) (Nat.le_of_ble_eq_true rfl) dX8_number_15 (pc' := 18) rfl (fun r_8 M_7 h m_9 => ?_)
      refine r_if_eq C dX8_number_18 (pc' := 21) rfl (tgt := 66) (by decide) (fun c_10 => ?_) (fun c_10 => ?_)
      · have h := it_t h c_10
        refine r_sub (lv' := [(2, .int x2)]) [2] rfl ?_
        exact hX66 M_7 x2 (mMo.tr m_5 m_9) h
      · have h := it_f h c_10
        refine r_aload_n C dX8_number_21 (pc' := 22) rfl (j := 0) rfl ?_
        refine r_getf C (Cn := RX8) (T := TX8) 3 (mMo.kd m_9 (mMo.kd m_5 k_a0 (by decide)) (by decide)) (by decide) vc_X8 in_X8 (by decide) q517 dX8_number_22 (pc' := 25) rfl (v := .int (mgI M_7 a0 3)) rfl ?_
        refine r_iload_n C dX8_number_25 (pc' := 26) rfl (j := 1) rfl ?_
        refine r_iconst C dX8_number_26 (pc' := 27) rfl (v := 5) rfl ?_
        refine r_iadd C dX8_number_27 (pc' := 28) rfl ?_
        refine r_icmp_ne C dX8_number_28 (pc' := 31) rfl (tgt := 40) (by decide) (fun c_11 => ?_) (fun c_11 => ?_)
        · have h := it_f h c_11
          refine r_sub (lv' := [(0, .ref a0), (1, .int x1), (2, .int x2)]) [0, 1, 2] rfl ?_
          exact B_X8_number_40 C hE (mMo.kd m_9 (mMo.kd m_5 k_a0 (by decide)) (by decide)) h (fun M8 v0 hm8 g0 h8 => ih M8 v0 g0 h8 (fun M9 w0 hm9 h9 => hX66 M9 w0 (mMo.tr (mMo.tr (mMo.tr m_5 m_9) hm8) hm9) h9)) (fun M9 w0 hm9 h9 => hX66 M9 w0 (mMo.tr (mMo.tr m_5 m_9) hm9) h9)
        · have h := it_t h c_11
          refine r_aload_n C dX8_number_31 (pc' := 32) rfl (j := 0) rfl ?_
          refine r_iconst C dX8_number_32 (pc' := 33) rfl (v := 2) rfl ?_
          refine r_aload_n C dX8_number_33 (pc' := 34) rfl (j := 0) rfl ?_
          refine r_getf C (Cn := RX8) (T := TX8) 3 (mMo.kd m_9 (mMo.kd m_5 k_a0 (by decide)) (by decide)) (by decide) vc_X8 in_X8 (by decide) q517 dX8_number_34 (pc' := 37) rfl (v := .int (mgI M_7 a0 3)) rfl ?_
          refine r_callVv (As := [.int (2 : Int32), .int (mgI M_7 a0 3)]) (rest := []) (Cn := RX8) (T := TX8) C (mMo.kd m_9 (mMo.kd m_5 k_a0 (by decide)) (by decide)) (by decide) vc_X8 (S_X8_bad (mMo.kd m_9 (mMo.kd m_5 k_a0 (by decide)) (by decide)) h) (lw_V q639 q641 qs5 q114 q642) rfl hd_X8_bad rfl rfl (Nat.le_of_ble_eq_true rfl) (Nat.le_of_ble_eq_true rfl) (Nat.le_of_ble_eq_true rfl) rfl rfl (Nat.le_of_ble_eq_true rfl) (Nat.le_of_ble_eq_true rfl) dX8_number_37 (pc' := 40) rfl (fun M_19 h m_21 => ?_)
          refine r_sub (lv' := [(0, .ref a0), (1, .int x1), (2, .int x2)]) [0, 1, 2] rfl ?_
          exact B_X8_number_40 C hE (mMo.kd m_21 (mMo.kd m_9 (mMo.kd m_5 k_a0 (by decide)) (by decide)) (by decide)) h (fun M8 v0 hm8 g0 h8 => ih M8 v0 g0 h8 (fun M9 w0 hm9 h9 => hX66 M9 w0 (mMo.tr (mMo.tr (mMo.tr (mMo.tr m_5 m_9) m_21) hm8) hm9) h9)) (fun M9 w0 hm9 h9 => hX66 M9 w0 (mMo.tr (mMo.tr (mMo.tr m_5 m_9) m_21) hm9) h9)
set_option maxHeartbeats 4000000 in
theorem S_X8_number {D : DD} {l : Launch} {M : MM} {a0 : Nat} {Post : Int32 → MM → Prop} (k_a0 : mkd M a0 = 8) (h : wp_X8_number M a0 Post) : mMet D l yX8_number cX8_number 3 ((some .int)) { frames := 2, cells := 0, slots := 0, locals := 40 } M [.ref a0] (pI_ Post) := by
  refine m_of2 [(0, .ref a0)] (by decide +kernel) (Nat.le_of_ble_eq_true rfl) rfl (fun E hED hEl C hE => ?_)
  subst hED
  subst hEl
  unfold wp_X8_number at h
  refine r_aload_n C dX8_number_0 (pc' := 1) rfl (j := 0) rfl ?_
  refine r_getf C (Cn := RX8) (T := TX8) 3 k_a0 (by decide) vc_X8 in_X8 (by decide) q517 dX8_number_1 (pc' := 4) rfl (v := .int (mgI M a0 3)) rfl ?_
  obtain ⟨x1_1, e_2, h⟩ := bn_ h
  refine r_istore_n C (lv' := [(1, .int x1_1), (0, .ref a0)]) dX8_number_4 (pc' := 5) rfl rfl x1_1 e_2 (Nat.le_of_ble_eq_true rfl) rfl ?_
  refine r_iconst C dX8_number_5 (pc' := 6) rfl (v := 0) rfl ?_
  refine r_istore_n C (lv' := [(2, .int (0 : Int32)), (1, .int x1_1), (0, .ref a0)]) dX8_number_6 (pc' := 7) rfl rfl (0 : Int32) rfl (Nat.le_of_ble_eq_true rfl) rfl ?_
  obtain ⟨n_22, h⟩ := h
  refine r_sub (lv' := [(0, .ref a0), (1, .int x1_1), (2, .int (0 : Int32))]) [2, 1, 0] rfl ?_
  refine B_X8_number_7 C hE n_22 M (0 : Int32) k_a0 h (fun M_23 x2_25 m_24 h => ?_)
  refine r_iload_n C dX8_number_66 (pc' := 67) rfl (j := 0) rfl ?_
  exact r_iret C hE (Nat.le_of_ble_eq_true rfl) (Nat.le_of_ble_eq_true rfl) dX8_number_67 ⟨_, rfl, h⟩
set_option maxHeartbeats 4000000 in
theorem B_X8_must_17 {E : mE} {M : MM} {a0 : Nat} {Post : MM → Prop} (C : mC E yX8_must cX8_must 2 (none) { frames := 1, cells := 0, slots := 0, locals := 22 }) (hE : mEnd E { frames := 1, cells := 0, slots := 0, locals := 22 } (pV_ Post)) (k_a0 : mkd M a0 = 8) (h : wb_X8_must_17 M a0 Post) : mV E M 0 0 17 [(0, .ref a0)] [] := by
  unfold wb_X8_must_17 at h
  refine r_aload_n C dX8_must_17 (pc' := 18) rfl (j := 0) rfl ?_
  refine r_dup C dX8_must_18 (pc' := 19) rfl rfl ?_
  refine r_getf C (Cn := RX8) (T := TX8) 3 k_a0 (by decide) vc_X8 in_X8 (by decide) q517 dX8_must_19 (pc' := 22) rfl (v := .int (mgI M a0 3)) rfl ?_
  refine r_iconst C dX8_must_22 (pc' := 23) rfl (v := 1) rfl ?_
  refine r_iadd C dX8_must_23 (pc' := 24) rfl ?_
  obtain ⟨M_5, e_6, h⟩ := bn_ h
  refine r_putI C (Cn := RX8) (T := TX8) tyX8 3 k_a0 (by decide) vc_X8 in_X8 tyX8_ok nmX8 (by decide) q517 rfl rfl dX8_must_24 (pc' := 27) rfl rfl rfl M_5 e_6 ?_
  exact r_vret C hE (Nat.le_of_ble_eq_true rfl) (Nat.le_of_ble_eq_true rfl) dX8_must_27 ⟨rfl, h⟩
set_option maxHeartbeats 4000000 in
theorem S_X8_must {D : DD} {l : Launch} {M : MM} {a0 : Nat} {x1 : Int32} {Post : MM → Prop} (k_a0 : mkd M a0 = 8) (h : wp_X8_must M a0 x1 Post) : mMet D l yX8_must cX8_must 2 (none) { frames := 1, cells := 0, slots := 0, locals := 22 } M [.ref a0, .int x1] (pV_ Post) := by
  refine m_of2 [(0, .ref a0), (1, .int x1)] (by decide +kernel) (Nat.le_of_ble_eq_true rfl) rfl (fun E hED hEl C hE => ?_)
  subst hED
  subst hEl
  unfold wp_X8_must at h
  refine r_aload_n C dX8_must_0 (pc' := 1) rfl (j := 0) rfl ?_
  refine r_callVi (As := []) (rest := []) (Cn := RX8) (T := TX8) C k_a0 (by decide) vc_X8 (S_X8_here k_a0 h) (lw_V q551 q553 qs4 q114 q554) rfl hd_X8_here rfl rfl (Nat.le_of_ble_eq_true rfl) (Nat.le_of_ble_eq_true rfl) (Nat.le_of_ble_eq_true rfl) rfl rfl (Nat.le_of_ble_eq_true rfl) (Nat.le_of_ble_eq_true rfl) dX8_must_1 (pc' := 4) rfl (fun r_2 M_1 h m_3 => ?_)
  refine r_iload_n C dX8_must_4 (pc' := 5) rfl (j := 1) rfl ?_
  refine r_icmp_eq C dX8_must_5 (pc' := 8) rfl (tgt := 17) (by decide) (fun c_4 => ?_) (fun c_4 => ?_)
  · have h := it_t h c_4
    refine r_sub (lv' := [(0, .ref a0)]) [0] rfl ?_
    exact B_X8_must_17 C hE (mMo.kd m_3 k_a0 (by decide)) h
  · have h := it_f h c_4
    refine r_aload_n C dX8_must_8 (pc' := 9) rfl (j := 0) rfl ?_
    refine r_iconst C dX8_must_9 (pc' := 10) rfl (v := 1) rfl ?_
    refine r_aload_n C dX8_must_10 (pc' := 11) rfl (j := 0) rfl ?_
    refine r_getf C (Cn := RX8) (T := TX8) 3 (mMo.kd m_3 k_a0 (by decide)) (by decide) vc_X8 in_X8 (by decide) q517 dX8_must_11 (pc' := 14) rfl (v := .int (mgI M_1 a0 3)) rfl ?_
    refine r_callVv (As := [.int (1 : Int32), .int (mgI M_1 a0 3)]) (rest := []) (Cn := RX8) (T := TX8) C (mMo.kd m_3 k_a0 (by decide)) (by decide) vc_X8 (S_X8_bad (mMo.kd m_3 k_a0 (by decide)) h) (lw_V q639 q641 qs5 q114 q642) rfl hd_X8_bad rfl rfl (Nat.le_of_ble_eq_true rfl) (Nat.le_of_ble_eq_true rfl) (Nat.le_of_ble_eq_true rfl) rfl rfl (Nat.le_of_ble_eq_true rfl) (Nat.le_of_ble_eq_true rfl) dX8_must_14 (pc' := 17) rfl (fun M_7 h m_9 => ?_)
    refine r_sub (lv' := [(0, .ref a0)]) [0] rfl ?_
    exact B_X8_must_17 C hE (mMo.kd m_9 (mMo.kd m_3 k_a0 (by decide)) (by decide)) h
set_option maxHeartbeats 4000000 in
theorem B_X8_opens_18 {E : mE} {M : MM} {a0 : Nat} {Post : MM → Prop} (C : mC E yX8_opens cX8_opens 1 (none) { frames := 1, cells := 0, slots := 0, locals := 22 }) (hE : mEnd E { frames := 1, cells := 0, slots := 0, locals := 22 } (pV_ Post)) (k_a0 : mkd M a0 = 8) (h : wb_X8_opens_18 M a0 Post) : mV E M 0 0 18 [(0, .ref a0)] [] := by
  unfold wb_X8_opens_18 at h
  refine r_aload_n C dX8_opens_18 (pc' := 19) rfl (j := 0) rfl ?_
  refine r_dup C dX8_opens_19 (pc' := 20) rfl rfl ?_
  refine r_getf C (Cn := RX8) (T := TX8) 4 k_a0 (by decide) vc_X8 in_X8 (by decide) q518 dX8_opens_20 (pc' := 23) rfl (v := .int (mgI M a0 4)) rfl ?_
  refine r_iconst C dX8_opens_23 (pc' := 24) rfl (v := 1) rfl ?_
  refine r_iadd C dX8_opens_24 (pc' := 25) rfl ?_
  obtain ⟨M_2, e_3, h⟩ := bn_ h
  refine r_putI C (Cn := RX8) (T := TX8) tyX8 4 k_a0 (by decide) vc_X8 in_X8 tyX8_ok nmX8 (by decide) q518 rfl rfl dX8_opens_25 (pc' := 28) rfl rfl rfl M_2 e_3 ?_
  refine r_aload_n C dX8_opens_28 (pc' := 29) rfl (j := 0) rfl ?_
  refine r_dup C dX8_opens_29 (pc' := 30) rfl rfl ?_
  refine r_getf C (Cn := RX8) (T := TX8) 3 (mMo.kd (mo_I e_3) k_a0 (by decide)) (by decide) vc_X8 in_X8 (by decide) q517 dX8_opens_30 (pc' := 33) rfl (v := .int (mgI M_2 a0 3)) rfl ?_
  refine r_iconst C dX8_opens_33 (pc' := 34) rfl (v := 1) rfl ?_
  refine r_iadd C dX8_opens_34 (pc' := 35) rfl ?_
  obtain ⟨M_4, e_5, h⟩ := bn_ h
  refine r_putI C (Cn := RX8) (T := TX8) tyX8 3 (mMo.kd (mo_I e_3) k_a0 (by decide)) (by decide) vc_X8 in_X8 tyX8_ok nmX8 (by decide) q517 rfl rfl dX8_opens_35 (pc' := 38) rfl rfl rfl M_4 e_5 ?_
  exact r_vret C hE (Nat.le_of_ble_eq_true rfl) (Nat.le_of_ble_eq_true rfl) dX8_opens_38 ⟨rfl, h⟩
set_option maxHeartbeats 4000000 in
theorem S_X8_opens {D : DD} {l : Launch} {M : MM} {a0 : Nat} {Post : MM → Prop} (k_a0 : mkd M a0 = 8) (h : wp_X8_opens M a0 Post) : mMet D l yX8_opens cX8_opens 1 (none) { frames := 1, cells := 0, slots := 0, locals := 22 } M [.ref a0] (pV_ Post) := by
  refine m_of2 [(0, .ref a0)] (by decide +kernel) (Nat.le_of_ble_eq_true rfl) rfl (fun E hED hEl C hE => ?_)
  subst hED
  subst hEl
  unfold wp_X8_opens at h
  refine r_aload_n C dX8_opens_0 (pc' := 1) rfl (j := 0) rfl ?_
  refine r_getf C (Cn := RX8) (T := TX8) 4 k_a0 (by decide) vc_X8 in_X8 (by decide) q518 dX8_opens_1 (pc' := 4) rfl (v := .int (mgI M a0 4)) rfl ?_
  refine r_bipush C dX8_opens_4 (pc' := 6) rfl (v := 6) rfl ?_
  refine r_icmp_ne C dX8_opens_6 (pc' := 9) rfl (tgt := 18) (by decide) (fun c_1 => ?_) (fun c_1 => ?_)
  · have h := it_f h c_1
    refine r_sub (lv' := [(0, .ref a0)]) [0] rfl ?_
    exact B_X8_opens_18 C hE k_a0 h
  · have h := it_t h c_1
    refine r_aload_n C dX8_opens_9 (pc' := 10) rfl (j := 0) rfl ?_
    refine r_iconst C dX8_opens_10 (pc' := 11) rfl (v := 5) rfl ?_
    refine r_aload_n C dX8_opens_11 (pc' := 12) rfl (j := 0) rfl ?_
    refine r_getf C (Cn := RX8) (T := TX8) 3 k_a0 (by decide) vc_X8 in_X8 (by decide) q517 dX8_opens_12 (pc' := 15) rfl (v := .int (mgI M a0 3)) rfl ?_
    refine r_callVv (As := [.int (5 : Int32), .int (mgI M a0 3)]) (rest := []) (Cn := RX8) (T := TX8) C k_a0 (by decide) vc_X8 (S_X8_bad k_a0 h) (lw_V q639 q641 qs5 q114 q642) rfl hd_X8_bad rfl rfl (Nat.le_of_ble_eq_true rfl) (Nat.le_of_ble_eq_true rfl) (Nat.le_of_ble_eq_true rfl) rfl rfl (Nat.le_of_ble_eq_true rfl) (Nat.le_of_ble_eq_true rfl) dX8_opens_15 (pc' := 18) rfl (fun M_6 h m_8 => ?_)
    refine r_sub (lv' := [(0, .ref a0)]) [0] rfl ?_
    exact B_X8_opens_18 C hE (mMo.kd m_8 k_a0 (by decide)) h
set_option maxHeartbeats 4000000 in
theorem S_X8_init {D : DD} {l : Launch} {M : MM} {a0 : Nat} {a1 : Nat} {x2 : Int32} {o3 : Option Nat} {Post : MM → Prop} (k_a0 : mkd M a0 = 8) (k_a1 : mkd M a1 = 1) (h : wp_X8_init M a0 a1 x2 o3 Post) : mMet D l yX8_init cX8_init 4 (none) { frames := 2, cells := 4, slots := 46, locals := 32 } M [.ref a0, .ref a1, .int x2, va_rf o3] (pV_ Post) := by
  refine m_of2 [(0, .ref a0), (1, .ref a1), (2, .int x2), (3, va_rf o3)] (by decide +kernel) (by cases o3 <;> exact Nat.le_of_ble_eq_true rfl) (by cases o3 <;> rfl) (fun E hED hEl C hE => ?_)
  subst hED
  subst hEl
  unfold wp_X8_init at h
  refine r_aload_n C dX8_init_0 (pc' := 1) rfl (j := 0) rfl ?_
  refine r_aload_n C dX8_init_1 (pc' := 2) rfl (j := 1) rfl ?_
  obtain ⟨M_1, e_2, h⟩ := bn_ h
  refine r_putRF C (Cn := RX8) (T := TX8) (x := (some a1)) tyX8 7 k_a0 (by decide) vc_X8 in_X8 tyX8_ok nmX8 (by decide) q521 rfl rfl rfl rfl dX8_init_2 (pc' := 5) rfl (nO_ _) (fO_ _) M_1 e_2 ?_
  refine r_aload_n C dX8_init_5 (pc' := 6) rfl (j := 0) rfl ?_
  refine r_objInit C (a := a0) q510 q136 q137 (Nat.le_of_ble_eq_true rfl) (Nat.le_of_ble_eq_true rfl) dX8_init_6 (pc' := 9) rfl ?_
  refine r_aload_n C dX8_init_9 (pc' := 10) rfl (j := 0) rfl ?_
  obtain ⟨b_5, e_6, h⟩ := bn_ h
  obtain ⟨M_7, e_8, h⟩ := bn_ h
  refine r_new C (Cn := RX6) (T := TX6) tyX6 (by decide) vc_X6 in_X6 tyX6_ok df_X6 q511 q316 q111 (Nat.le_of_ble_eq_true rfl) (Nat.le_of_ble_eq_true rfl) dX8_init_10 (pc' := 13) rfl b_5 e_6 M_7 e_8 (fun m_3 k_4 => ?_)
  refine r_dup C dX8_init_13 (pc' := 14) rfl rfl ?_
  refine r_callINv (As := []) (rest := [.ref b_5, .ref a0]) C (S_X6_init k_4 h) q319 q111 (List.mem_of_getElem? (i := 12) rfl) q318 rfl rfl hd_X6_init rfl rfl (Nat.le_of_ble_eq_true rfl) (Nat.le_of_ble_eq_true rfl) (Nat.le_of_ble_eq_true rfl) rfl rfl (Nat.le_of_ble_eq_true rfl) (Nat.le_of_ble_eq_true rfl) dX8_init_14 (pc' := 17) rfl (fun M_9 h m_11 => ?_)
  obtain ⟨M_12, e_13, h⟩ := bn_ h
  refine r_putRF C (Cn := RX8) (T := TX8) (x := (some b_5)) tyX8 2 (mMo.kd m_11 (mMo.kd m_3 (mMo.kd (mo_R e_2) k_a0 (by decide)) (by decide)) (by decide)) (by decide) vc_X8 in_X8 tyX8_ok nmX8 (by decide) q515 rfl rfl rfl rfl dX8_init_17 (pc' := 20) rfl (nO_ _) (fO_ _) M_12 e_13 ?_
  refine r_aload_n C dX8_init_20 (pc' := 21) rfl (j := 0) rfl ?_
  refine r_iload_n C dX8_init_21 (pc' := 22) rfl (j := 2) rfl ?_
  obtain ⟨M_14, e_15, h⟩ := bn_ h
  refine r_putIF C (Cn := RX8) (T := TX8) tyX8 0 (mMo.kd (mo_R e_13) (mMo.kd m_11 (mMo.kd m_3 (mMo.kd (mo_R e_2) k_a0 (by decide)) (by decide)) (by decide)) (by decide)) (by decide) vc_X8 in_X8 tyX8_ok nmX8 (by decide) q513 rfl rfl rfl rfl dX8_init_22 (pc' := 25) rfl rfl rfl M_14 e_15 ?_
  refine r_aload_n C dX8_init_25 (pc' := 26) rfl (j := 0) rfl ?_
  refine r_aload_nq C dX8_init_26 (pc' := 27) rfl (j := 3) rfl ?_
  obtain ⟨M_16, e_17, h⟩ := bn_ h
  refine r_putRF C (Cn := RX8) (T := TX8) (x := o3) tyX8 1 (mMo.kd (mo_I e_15) (mMo.kd (mo_R e_13) (mMo.kd m_11 (mMo.kd m_3 (mMo.kd (mo_R e_2) k_a0 (by decide)) (by decide)) (by decide)) (by decide)) (by decide)) (by decide) vc_X8 in_X8 tyX8_ok nmX8 (by decide) q514 rfl rfl rfl rfl dX8_init_27 (pc' := 30) rfl (nO_ _) (fO_ _) M_16 e_17 ?_
  exact r_vret C hE (Nat.le_of_ble_eq_true rfl) (Nat.le_of_ble_eq_true rfl) dX8_init_30 ⟨rfl, h⟩
def SndR (D : DD) (l : Launch) (Rc : RT) (fd ld : Nat) : Prop := 20 ≤ fd ∧ 300 ≤ ld ∧ (∀ {bc bs : Nat} {M : MM} {a : Nat} {P : Option Nat → MM → Prop}, mkd M a = 8 → Rc 0 bc bs M a P → mMet D l yX8_factor cX8_factor 3 (some (.object "LandingTree$Sum")) { frames := fd, cells := bc, slots := bs, locals := ld } M [.ref a] (pR_ P)) ∧ (∀ {bc bs : Nat} {M : MM} {a : Nat} {P : Option Nat → MM → Prop}, mkd M a = 8 → Rc 1 bc bs M a P → mMet D l yX8_product cX8_product 4 (some (.object "LandingTree$Sum")) { frames := fd, cells := bc, slots := bs, locals := ld } M [.ref a] (pR_ P)) ∧ (∀ {bc bs : Nat} {M : MM} {a : Nat} {P : Option Nat → MM → Prop}, mkd M a = 8 → Rc 2 bc bs M a P → mMet D l yX8_sum cX8_sum 4 (some (.object "LandingTree$Sum")) { frames := fd, cells := bc, slots := bs, locals := ld } M [.ref a] (pR_ P)) ∧ (∀ {bc bs : Nat} {M : MM} {a : Nat} {P : Option Nat → MM → Prop}, mkd M a = 8 → Rc 3 bc bs M a P → mMet D l yX8_piece cX8_piece 4 (some (.object "LandingTree$Condition")) { frames := fd, cells := bc, slots := bs, locals := ld } M [.ref a] (pR_ P)) ∧ (∀ {bc bs : Nat} {M : MM} {a : Nat} {P : Option Nat → MM → Prop}, mkd M a = 8 → Rc 4 bc bs M a P → mMet D l yX8_pieces cX8_pieces 3 (some (.object "LandingTree$Condition")) { frames := fd, cells := bc, slots := bs, locals := ld } M [.ref a] (pR_ P)) ∧ (∀ {bc bs : Nat} {M : MM} {a : Nat} {P : Option Nat → MM → Prop}, mkd M a = 8 → Rc 5 bc bs M a P → mMet D l yX8_condition cX8_condition 3 (some (.object "LandingTree$Condition")) { frames := fd, cells := bc, slots := bs, locals := ld } M [.ref a] (pR_ P))

theorem hd_X8_factor : mHd yX8_factor 0 := ⟨by decide, by decide, by decide +kernel⟩
theorem hd_X8_product : mHd yX8_product 0 := ⟨by decide, by decide, by decide +kernel⟩
theorem hd_X8_sum : mHd yX8_sum 0 := ⟨by decide, by decide, by decide +kernel⟩
theorem hd_X8_piece : mHd yX8_piece 0 := ⟨by decide, by decide, by decide +kernel⟩
theorem hd_X8_pieces : mHd yX8_pieces 0 := ⟨by decide, by decide, by decide +kernel⟩
theorem hd_X8_condition : mHd yX8_condition 0 := ⟨by decide, by decide, by decide +kernel⟩
set_option maxHeartbeats 4000000 in
theorem B_X8_factor_97 {E : mE} {Rc : RT} {fd ld : Nat} {bc bs : Nat} {k n : Nat} {M : MM} {a0 : Nat} {x1 : Int32} {Post : Option Nat → MM → Prop} (hRc : SndR E.2.1 E.1.2.1 Rc fd ld) (C : mC E yX8_factor cX8_factor 3 ((some (.object "LandingTree$Sum"))) { frames := fd + 2, cells := bc, slots := bs, locals := ld + 60 }) (hE : mEnd E { frames := fd + 2, cells := bc, slots := bs, locals := ld + 60 } (pR_ Post)) (hkb : k ≤ bc) (hnb : n ≤ bs) (k_a0 : mkd M a0 = 8) (h : wb_X8_factor_97 E.2.1 Rc bc bs k n M a0 x1 Post) : mV E M k n 97 [(0, .ref a0), (1, .int x1)] [] := by
  unfold wb_X8_factor_97 at h
  have hb1 := hRc.1
  have hb2 := hRc.2.1
  refine r_aload_n C dX8_factor_97 (pc' := 98) rfl (j := 0) rfl ?_
  refine r_dup C dX8_factor_98 (pc' := 99) rfl rfl ?_
  refine r_getf C (Cn := RX8) (T := TX8) 3 k_a0 (by decide) vc_X8 in_X8 (by decide) q517 dX8_factor_99 (pc' := 102) rfl (v := .int (mgI M a0 3)) rfl ?_
  refine r_iconst C dX8_factor_102 (pc' := 103) rfl (v := 1) rfl ?_
  refine r_iadd C dX8_factor_103 (pc' := 104) rfl ?_
  obtain ⟨M_13, e_14, h⟩ := bn_ h
  refine r_putI C (Cn := RX8) (T := TX8) tyX8 3 k_a0 (by decide) vc_X8 in_X8 tyX8_ok nmX8 (by decide) q517 rfl rfl dX8_factor_104 (pc' := 107) rfl rfl rfl M_13 e_14 ?_
  obtain ⟨b_17, e_18, h⟩ := bn_ h
  obtain ⟨M_19, e_20, h⟩ := bn_ h
  obtain ⟨c_21, h⟩ := h
  refine r_new C (Cn := RX12) (T := TX12) tyX12 (by decide) vc_X12 in_X12 tyX12_ok df_X12 q687 q688 q123 c_21.1 c_21.2 dX8_factor_107 (pc' := 110) rfl b_17 e_18 M_19 e_20 (fun m_15 k_16 => ?_)
  refine r_dup C dX8_factor_110 (pc' := 111) rfl rfl ?_
  refine r_iload_n C dX8_factor_111 (pc' := 112) rfl (j := 1) rfl ?_
  refine r_callIv (As := [.int x1]) (rest := [.ref b_17]) C (S_X12_init k_16 h) q691 q123 q689 q690 rfl rfl hd_X12_init rfl rfl (Nat.le_of_ble_eq_true rfl) (by dsimp only; omega) (by dsimp only; omega) rfl rfl c_21.1 c_21.2 dX8_factor_112 (pc' := 115) rfl (fun M_22 h m_24 => ?_)
  exact r_aret (x := (some b_17)) C hE c_21.1 c_21.2 dX8_factor_115 ⟨_, rfl, h⟩
set_option maxHeartbeats 4000000 in
theorem B_X8_factor_88 {E : mE} {Rc : RT} {fd ld : Nat} {bc bs : Nat} {k n : Nat} {M : MM} {a0 : Nat} {x1 : Int32} {Post : Option Nat → MM → Prop} (hRc : SndR E.2.1 E.1.2.1 Rc fd ld) (C : mC E yX8_factor cX8_factor 3 ((some (.object "LandingTree$Sum"))) { frames := fd + 2, cells := bc, slots := bs, locals := ld + 60 }) (hE : mEnd E { frames := fd + 2, cells := bc, slots := bs, locals := ld + 60 } (pR_ Post)) (hkb : k ≤ bc) (hnb : n ≤ bs) (k_a0 : mkd M a0 = 8) (h : wb_X8_factor_88 E.2.1 Rc bc bs k n M a0 x1 Post) : mV E M k n 88 [(0, .ref a0), (1, .int x1)] [] := by
  unfold wb_X8_factor_88 at h
  have hb1 := hRc.1
  have hb2 := hRc.2.1
  refine r_aload_n C dX8_factor_88 (pc' := 89) rfl (j := 0) rfl ?_
  refine r_iconst C dX8_factor_89 (pc' := 90) rfl (v := 1) rfl ?_
  refine r_aload_n C dX8_factor_90 (pc' := 91) rfl (j := 0) rfl ?_
  refine r_getf C (Cn := RX8) (T := TX8) 3 k_a0 (by decide) vc_X8 in_X8 (by decide) q517 dX8_factor_91 (pc' := 94) rfl (v := .int (mgI M a0 3)) rfl ?_
  refine r_callVv (As := [.int (1 : Int32), .int (mgI M a0 3)]) (rest := []) (Cn := RX8) (T := TX8) C k_a0 (by decide) vc_X8 (S_X8_bad k_a0 h) (lw_V q639 q641 qs5 q114 q642) rfl hd_X8_bad rfl rfl (Nat.le_of_ble_eq_true rfl) (by dsimp only; omega) (by dsimp only; omega) rfl rfl hkb hnb dX8_factor_94 (pc' := 97) rfl (fun M_10 h m_12 => ?_)
  refine r_sub (lv' := [(0, .ref a0), (1, .int x1)]) [0, 1] rfl ?_
  exact B_X8_factor_97 hRc C hE hkb hnb (mMo.kd m_12 k_a0 (by decide)) h
set_option maxHeartbeats 4000000 in
theorem B_X8_factor_44 {E : mE} {Rc : RT} {fd ld : Nat} {bc bs : Nat} {k n : Nat} {M : MM} {a0 : Nat} {o2 : Option Nat} {Post : Option Nat → MM → Prop} (hRc : SndR E.2.1 E.1.2.1 Rc fd ld) (C : mC E yX8_factor cX8_factor 3 ((some (.object "LandingTree$Sum"))) { frames := fd + 2, cells := bc, slots := bs, locals := ld + 60 }) (hE : mEnd E { frames := fd + 2, cells := bc, slots := bs, locals := ld + 60 } (pR_ Post)) (hkb : k ≤ bc) (hnb : n ≤ bs) (k_a0 : mkd M a0 = 8) (h : wb_X8_factor_44 E.2.1 Rc bc bs k n M a0 o2 Post) : mV E M k n 44 [(0, .ref a0), (2, va_rf o2)] [] := by
  unfold wb_X8_factor_44 at h
  have hb1 := hRc.1
  have hb2 := hRc.2.1
  refine r_aload_n C dX8_factor_44 (pc' := 45) rfl (j := 0) rfl ?_
  refine r_dup C dX8_factor_45 (pc' := 46) rfl rfl ?_
  refine r_getf C (Cn := RX8) (T := TX8) 4 k_a0 (by decide) vc_X8 in_X8 (by decide) q518 dX8_factor_46 (pc' := 49) rfl (v := .int (mgI M a0 4)) rfl ?_
  refine r_iconst C dX8_factor_49 (pc' := 50) rfl (v := 1) rfl ?_
  refine r_isub C dX8_factor_50 (pc' := 51) rfl ?_
  obtain ⟨M_55, e_56, h⟩ := bn_ h
  refine r_putI C (Cn := RX8) (T := TX8) tyX8 4 k_a0 (by decide) vc_X8 in_X8 tyX8_ok nmX8 (by decide) q518 rfl rfl dX8_factor_51 (pc' := 54) rfl rfl rfl M_55 e_56 ?_
  refine r_aload_nq C dX8_factor_54 (pc' := 55) rfl (j := 1) rfl ?_
  exact r_aret (x := o2) C hE hkb hnb dX8_factor_55 ⟨_, rfl, h⟩
set_option maxHeartbeats 4000000 in
theorem B_X8_factor_30 {E : mE} {Rc : RT} {fd ld : Nat} {bc bs : Nat} {k n : Nat} {M : MM} {a0 : Nat} {os0 : Option Nat} {Post : Option Nat → MM → Prop} (hRc : SndR E.2.1 E.1.2.1 Rc fd ld) (C : mC E yX8_factor cX8_factor 3 ((some (.object "LandingTree$Sum"))) { frames := fd + 2, cells := bc, slots := bs, locals := ld + 60 }) (hE : mEnd E { frames := fd + 2, cells := bc, slots := bs, locals := ld + 60 } (pR_ Post)) (hkb : k ≤ bc) (hnb : n ≤ bs) (k_a0 : mkd M a0 = 8) (h : wb_X8_factor_30 E.2.1 Rc bc bs k n M a0 os0 Post) : mV E M k n 30 [(0, .ref a0)] [va_rf os0] := by
  unfold wb_X8_factor_30 at h
  have hb1 := hRc.1
  have hb2 := hRc.2.1
  refine r_astore_nq C (lv' := [(2, va_rf os0), (0, .ref a0)]) dX8_factor_30 (pc' := 31) rfl rfl (Nat.le_of_ble_eq_true rfl) rfl ?_
  refine r_aload_n C dX8_factor_31 (pc' := 32) rfl (j := 1) rfl ?_
  refine r_callVi (As := []) (rest := []) (Cn := RX8) (T := TX8) C k_a0 (by decide) vc_X8 (S_X8_isGood k_a0 h) (lw_V q543 q545 qs2 q114 q546) rfl hd_X8_isGood rfl rfl (Nat.le_of_ble_eq_true rfl) (by dsimp only; omega) (by dsimp only; omega) rfl rfl hkb hnb dX8_factor_32 (pc' := 35) rfl (fun r_52 M_51 h m_53 => ?_)
  refine r_if_eq C dX8_factor_35 (pc' := 38) rfl (tgt := 44) (by decide) (fun c_54 => ?_) (fun c_54 => ?_)
  · have h := it_t h c_54
    refine r_sub (lv' := [(0, .ref a0), (2, va_rf os0)]) [1, 0] rfl ?_
    exact B_X8_factor_44 hRc C hE hkb hnb (mMo.kd m_53 k_a0 (by decide)) h
  · have h := it_f h c_54
    refine r_aload_n C dX8_factor_38 (pc' := 39) rfl (j := 1) rfl ?_
    refine r_bipush C dX8_factor_39 (pc' := 41) rfl (v := 93) rfl ?_
    refine r_callVv (As := [.int (93 : Int32)]) (rest := []) (Cn := RX8) (T := TX8) C (mMo.kd m_53 k_a0 (by decide)) (by decide) vc_X8 (S_X8_must (mMo.kd m_53 k_a0 (by decide)) h) (lw_V q661 q663 qs10 q114 q664) rfl hd_X8_must rfl rfl (Nat.le_of_ble_eq_true rfl) (by dsimp only; omega) (by dsimp only; omega) rfl rfl hkb hnb dX8_factor_41 (pc' := 44) rfl (fun M_57 h m_59 => ?_)
    refine r_sub (lv' := [(0, .ref a0), (2, va_rf os0)]) [1, 0] rfl ?_
    exact B_X8_factor_44 hRc C hE hkb hnb (mMo.kd m_59 (mMo.kd m_53 k_a0 (by decide)) (by decide)) h
set_option maxHeartbeats 4000000 in
theorem S_X8_factor {D : DD} {l : Launch} {Rc : RT} {fd ld : Nat} (hRc : SndR D l Rc fd ld) {bc bs : Nat} {M : MM} {a0 : Nat} {Post : Option Nat → MM → Prop} (k_a0 : mkd M a0 = 8) (h : wp_X8_factor D Rc bc bs M a0 Post) : mMet D l yX8_factor cX8_factor 3 ((some (.object "LandingTree$Sum"))) { frames := fd + 2, cells := bc, slots := bs, locals := ld + 60 } M [.ref a0] (pR_ Post) := by
  refine m_of2 [(0, .ref a0)] (by decide +kernel) (Nat.le_of_ble_eq_true rfl) rfl (fun E hED hEl C hE => ?_)
  subst hED
  subst hEl
  unfold wp_X8_factor at h
  have hb1 := hRc.1
  have hb2 := hRc.2.1
  refine r_aload_n C dX8_factor_0 (pc' := 1) rfl (j := 0) rfl ?_
  refine r_callVi (As := []) (rest := []) (Cn := RX8) (T := TX8) C k_a0 (by decide) vc_X8 (S_X8_here k_a0 h) (lw_V q551 q553 qs4 q114 q554) rfl hd_X8_here rfl rfl (Nat.le_of_ble_eq_true rfl) (by dsimp only; omega) (by dsimp only; omega) rfl rfl (Nat.zero_le _) (Nat.zero_le _) dX8_factor_1 (pc' := 4) rfl (fun r_2 M_1 h m_3 => ?_)
  refine r_istore_n C (lv' := [(1, .int r_2), (0, .ref a0)]) dX8_factor_4 (pc' := 5) rfl rfl r_2 rfl (Nat.le_of_ble_eq_true rfl) rfl ?_
  refine r_iload_n C dX8_factor_5 (pc' := 6) rfl (j := 0) rfl ?_
  refine r_bipush C dX8_factor_6 (pc' := 8) rfl (v := 91) rfl ?_
  refine r_icmp_ne C dX8_factor_8 (pc' := 11) rfl (tgt := 56) (by decide) (fun c_4 => ?_) (fun c_4 => ?_)
  · have h := it_f h c_4
    refine r_aload_n C dX8_factor_56 (pc' := 57) rfl (j := 1) rfl ?_
    refine r_callVi (As := []) (rest := []) (Cn := RX8) (T := TX8) C (mMo.kd m_3 k_a0 (by decide)) (by decide) vc_X8 (S_X8_seesDigit (mMo.kd m_3 k_a0 (by decide)) h) (lw_V q665 q667 qs11 q114 q668) rfl hd_X8_seesDigit rfl rfl (Nat.le_of_ble_eq_true rfl) (by dsimp only; omega) (by dsimp only; omega) rfl rfl (Nat.zero_le _) (Nat.zero_le _) dX8_factor_57 (pc' := 60) rfl (fun r_6 M_5 h m_7 => ?_)
    refine r_if_eq C dX8_factor_60 (pc' := 63) rfl (tgt := 75) (by decide) (fun c_8 => ?_) (fun c_8 => ?_)
    · have h := it_t h c_8
      refine r_iload_n C dX8_factor_75 (pc' := 76) rfl (j := 0) rfl ?_
      refine r_if_eq C dX8_factor_76 (pc' := 79) rfl (tgt := 88) (by decide) (fun c_9 => ?_) (fun c_9 => ?_)
      · have h := it_t h c_9
        refine r_sub (lv' := [(0, .ref a0), (1, .int r_2)]) [1, 0] rfl ?_
        exact B_X8_factor_88 hRc C hE (Nat.zero_le _) (Nat.zero_le _) (mMo.kd m_7 (mMo.kd m_3 k_a0 (by decide)) (by decide)) h
      · have h := it_f h c_9
        refine r_ldcS C 2 (by decide) rfl dX8_factor_79 (pc' := 81) rfl ?_
        refine r_iload_n C dX8_factor_81 (pc' := 82) rfl (j := 0) rfl ?_
        obtain ⟨i_25, e_26, e_27, h⟩ := h
        refine r_ref [.int r_2] e_27 ?_
        refine r_ixOf (rest := []) C e_26 q555 (Nat.le_of_ble_eq_true rfl) (by dsimp only; omega) (by dsimp only; omega) (Nat.zero_le _) (Nat.zero_le _) dX8_factor_82 (pc' := 85) rfl ?_
        refine r_if_ge C dX8_factor_85 (pc' := 88) rfl (tgt := 97) (by decide) (fun c_30 => ?_) (fun c_30 => ?_)
        · have h := it_t h c_30
          refine r_sub (lv' := [(0, .ref a0), (1, .int r_2)]) [1, 0] rfl ?_
          exact B_X8_factor_97 hRc C hE (Nat.zero_le _) (Nat.zero_le _) (mMo.kd m_7 (mMo.kd m_3 k_a0 (by decide)) (by decide)) h
        · have h := it_f h c_30
          refine r_sub (lv' := [(0, .ref a0), (1, .int r_2)]) [1, 0] rfl ?_
          exact B_X8_factor_88 hRc C hE (Nat.zero_le _) (Nat.zero_le _) (mMo.kd m_7 (mMo.kd m_3 k_a0 (by decide)) (by decide)) h
    · have h := it_f h c_8
      obtain ⟨b_33, e_34, h⟩ := bn_ h
      obtain ⟨M_35, e_36, h⟩ := bn_ h
      obtain ⟨c_37, h⟩ := h
      refine r_new C (Cn := RX11) (T := TX11) tyX11 (by decide) vc_X11 in_X11 tyX11_ok df_X11 q669 q670 q122 c_37.1 c_37.2 dX8_factor_63 (pc' := 66) rfl b_33 e_34 M_35 e_36 (fun m_31 k_32 => ?_)
      refine r_dup C dX8_factor_66 (pc' := 67) rfl rfl ?_
      refine r_aload_n C dX8_factor_67 (pc' := 68) rfl (j := 1) rfl ?_
      refine r_callVi (As := []) (rest := [.ref b_33, .ref b_33]) (Cn := RX8) (T := TX8) C (mMo.kd m_31 (mMo.kd m_7 (mMo.kd m_3 k_a0 (by decide)) (by decide)) (by decide)) (by decide) vc_X8 (S_X8_number (mMo.kd m_31 (mMo.kd m_7 (mMo.kd m_3 k_a0 (by decide)) (by decide)) (by decide)) h) (lw_V q671 q673 qs12 q114 q674) rfl hd_X8_number rfl rfl (Nat.le_of_ble_eq_true rfl) (by dsimp only; omega) (by dsimp only; omega) rfl rfl c_37.1 c_37.2 dX8_factor_68 (pc' := 71) rfl (fun r_39 M_38 h m_40 => ?_)
      refine r_callIv (As := [.int r_39]) (rest := [.ref b_33]) C (S_X11_init (mMo.kd m_40 k_32 (by decide)) h) q677 q122 q675 q676 rfl rfl hd_X11_init rfl rfl (Nat.le_of_ble_eq_true rfl) (by dsimp only; omega) (by dsimp only; omega) rfl rfl c_37.1 c_37.2 dX8_factor_71 (pc' := 74) rfl (fun M_41 h m_43 => ?_)
      exact r_aret (x := (some b_33)) C hE c_37.1 c_37.2 dX8_factor_74 ⟨_, rfl, h⟩
  · have h := it_t h c_4
    refine r_aload_n C dX8_factor_11 (pc' := 12) rfl (j := 1) rfl ?_
    refine r_callVv (As := []) (rest := []) (Cn := RX8) (T := TX8) C (mMo.kd m_3 k_a0 (by decide)) (by decide) vc_X8 (S_X8_opens (mMo.kd m_3 k_a0 (by decide)) h) (lw_V q657 q659 qs9 q114 q660) rfl hd_X8_opens rfl rfl (Nat.le_of_ble_eq_true rfl) (by dsimp only; omega) (by dsimp only; omega) rfl rfl (Nat.zero_le _) (Nat.zero_le _) dX8_factor_12 (pc' := 15) rfl (fun M_44 h m_46 => ?_)
    refine r_aload_n C dX8_factor_15 (pc' := 16) rfl (j := 1) rfl ?_
    refine r_callVi (As := []) (rest := []) (Cn := RX8) (T := TX8) C (mMo.kd m_46 (mMo.kd m_3 k_a0 (by decide)) (by decide)) (by decide) vc_X8 (S_X8_isGood (mMo.kd m_46 (mMo.kd m_3 k_a0 (by decide)) (by decide)) h) (lw_V q543 q545 qs2 q114 q546) rfl hd_X8_isGood rfl rfl (Nat.le_of_ble_eq_true rfl) (by dsimp only; omega) (by dsimp only; omega) rfl rfl (Nat.zero_le _) (Nat.zero_le _) dX8_factor_16 (pc' := 19) rfl (fun r_48 M_47 h m_49 => ?_)
    refine r_if_eq C dX8_factor_19 (pc' := 22) rfl (tgt := 29) (by decide) (fun c_50 => ?_) (fun c_50 => ?_)
    · have h := it_t h c_50
      refine r_null C dX8_factor_29 (pc' := 30) rfl ?_
      refine r_sub (lv' := [(0, .ref a0)]) [1] rfl ?_
      exact B_X8_factor_30 hRc C hE (Nat.zero_le _) (Nat.zero_le _) (mMo.kd m_49 (mMo.kd m_46 (mMo.kd m_3 k_a0 (by decide)) (by decide)) (by decide)) h
    · have h := it_f h c_50
      refine r_aload_n C dX8_factor_22 (pc' := 23) rfl (j := 1) rfl ?_
      obtain ⟨c_60, s_61, c_62, h⟩ := h
      refine r_callVq (As := []) (rest := []) (Cn := RX8) (T := TX8) C (mMo.kd m_49 (mMo.kd m_46 (mMo.kd m_3 k_a0 (by decide)) (by decide)) (by decide)) (by decide) vc_X8 (hRc.2.2.2.2.1 (mMo.kd m_49 (mMo.kd m_46 (mMo.kd m_3 k_a0 (by decide)) (by decide)) (by decide)) h) (lw_V q643 q645 qs6 q114 q646) rfl hd_X8_sum rfl rfl (Nat.le_of_ble_eq_true rfl) (by dsimp only; omega) (by dsimp only; omega) rfl rfl c_62.1 c_62.2 dX8_factor_23 (pc' := 26) rfl (fun r_64 M_63 h m_65 => ?_)
      refine r_goto C dX8_factor_26 (tgt := 30) (by decide) ?_
      refine r_sub (lv' := [(0, .ref a0)]) [1] rfl ?_
      exact B_X8_factor_30 hRc C hE c_62.1 c_62.2 (mMo.kd m_65 (mMo.kd m_49 (mMo.kd m_46 (mMo.kd m_3 k_a0 (by decide)) (by decide)) (by decide)) (by decide)) h
set_option maxHeartbeats 4000000 in
theorem B_X8_product_49 {E : mE} {Rc : RT} {fd ld : Nat} {bc bs : Nat} {k n : Nat} {M : MM} {a0 : Nat} {a1 : Nat} {o2 : Option Nat} {R : Nat → Nat → MM → Option Nat → Prop} {X88 : Nat → Nat → MM → Prop} {Post : Option Nat → MM → Prop} (hRc : SndR E.2.1 E.1.2.1 Rc fd ld) (C : mC E yX8_product cX8_product 4 ((some (.object "LandingTree$Sum"))) { frames := fd + 2, cells := bc, slots := bs, locals := ld + 60 }) (hE : mEnd E { frames := fd + 2, cells := bc, slots := bs, locals := ld + 60 } (pR_ Post)) (hkb : k ≤ bc) (hnb : n ≤ bs) (k_a0 : mkd M a0 = 8) (k_a1 : mkd M a1 = 9) (h : wb_X8_product_49 E.2.1 Rc bc bs k n M a0 a1 o2 R X88) (hR : ∀ (k' n' : Nat) (M' : MM) (o2' : Option Nat), k' ≤ bc → n' ≤ bs → mMo M M' → mkd M' a0 = 8 → mkd M' a1 = 9 → R k' n' M' o2' → mV E M' k' n' 15 [(0, .ref a0), (1, .ref a1), (2, va_rf o2')] []) (hX88 : ∀ (k' n' : Nat) (M' : MM), k' ≤ bc → n' ≤ bs → mMo M M' → X88 k' n' M' → mV E M' k' n' 88 [(1, .ref a1)] []) : mV E M k n 49 [(0, .ref a0), (1, .ref a1), (2, va_rf o2)] [] := by
  unfold wb_X8_product_49 at h
  have hb1 := hRc.1
  have hb2 := hRc.2.1
  refine r_aload_n C dX8_product_49 (pc' := 50) rfl (j := 0) rfl ?_
  refine r_callVi (As := []) (rest := []) (Cn := RX8) (T := TX8) C k_a0 (by decide) vc_X8 (S_X8_here k_a0 h) (lw_V q551 q553 qs4 q114 q554) rfl hd_X8_here rfl rfl (Nat.le_of_ble_eq_true rfl) (by dsimp only; omega) (by dsimp only; omega) rfl rfl hkb hnb dX8_product_50 (pc' := 53) rfl (fun r_26 M_25 h m_27 => ?_)
  refine r_istore_n C (lv' := [(3, .int r_26), (0, .ref a0), (1, .ref a1), (2, va_rf o2)]) dX8_product_53 (pc' := 54) rfl rfl r_26 rfl (Nat.le_of_ble_eq_true rfl) (by cases o2 <;> rfl) ?_
  refine r_aload_n C dX8_product_54 (pc' := 55) rfl (j := 1) rfl ?_
  refine r_dup C dX8_product_55 (pc' := 56) rfl rfl ?_
  refine r_getf C (Cn := RX8) (T := TX8) 3 (mMo.kd m_27 k_a0 (by decide)) (by decide) vc_X8 in_X8 (by decide) q517 dX8_product_56 (pc' := 59) rfl (v := .int (mgI M_25 a0 3)) rfl ?_
  refine r_iconst C dX8_product_59 (pc' := 60) rfl (v := 1) rfl ?_
  refine r_iadd C dX8_product_60 (pc' := 61) rfl ?_
  obtain ⟨M_28, e_29, h⟩ := bn_ h
  refine r_putI C (Cn := RX8) (T := TX8) tyX8 3 (mMo.kd m_27 k_a0 (by decide)) (by decide) vc_X8 in_X8 tyX8_ok nmX8 (by decide) q517 rfl rfl dX8_product_61 (pc' := 64) rfl rfl rfl M_28 e_29 ?_
  refine r_aload_nq C dX8_product_64 (pc' := 65) rfl (j := 3) rfl ?_
  obtain ⟨b_32, e_33, h⟩ := bn_ h
  obtain ⟨M_34, e_35, h⟩ := bn_ h
  obtain ⟨c_36, h⟩ := h
  refine r_new C (Cn := RX10) (T := TX10) tyX10 (by decide) vc_X10 in_X10 tyX10_ok df_X10 q647 q648 q121 c_36.1 c_36.2 dX8_product_65 (pc' := 68) rfl b_32 e_33 M_34 e_35 (fun m_30 k_31 => ?_)
  refine r_dup C dX8_product_68 (pc' := 69) rfl rfl ?_
  refine r_iload_n C dX8_product_69 (pc' := 70) rfl (j := 0) rfl ?_
  refine r_aload_n C dX8_product_70 (pc' := 71) rfl (j := 1) rfl ?_
  obtain ⟨c_37, s_38, c_39, h⟩ := h
  refine r_callVq (As := []) (rest := [.int r_26, .ref b_32, .ref b_32, va_rf o2]) (Cn := RX8) (T := TX8) C (mMo.kd m_30 (mMo.kd (mo_I e_29) (mMo.kd m_27 k_a0 (by decide)) (by decide)) (by decide)) (by decide) vc_X8 (hRc.2.2.1 (mMo.kd m_30 (mMo.kd (mo_I e_29) (mMo.kd m_27 k_a0 (by decide)) (by decide)) (by decide)) h) (lw_V q653 q655 qs8 q114 q656) rfl hd_X8_factor rfl rfl (by cases o2 <;> exact Nat.le_of_ble_eq_true rfl) (by dsimp only; omega) (by dsimp only; omega) rfl rfl c_39.1 c_39.2 dX8_product_71 (pc' := 74) rfl (fun r_41 M_40 h m_42 => ?_)
  refine r_callIv (As := [.int r_26, va_rf r_41]) (rest := [.ref b_32, va_rf o2]) C (S_X10_init (mMo.kd m_42 k_31 (by decide)) h) q699 q121 q697 q698 rfl rfl hd_X10_init rfl rfl (by cases o2 <;> exact Nat.le_of_ble_eq_true rfl) (by dsimp only; omega) (by dsimp only; omega) rfl rfl c_39.1 c_39.2 dX8_product_74 (pc' := 77) rfl (fun M_43 h m_45 => ?_)
  obtain ⟨b_46, e_47, k_48, h⟩ := h
  refine r_ref [.ref b_32] e_47 ?_
  obtain ⟨M_49, e_50, h⟩ := bn_ h
  refine r_putRN C (Cn := RX10) (T := TX10) (x := (some b_32)) tyX10 2 k_48 (by decide) vc_X10 in_X10 tyX10_ok nmX10 (by decide) (List.mem_of_getElem? (i := 47) rfl) rfl rfl dX8_product_77 (pc' := 80) rfl (nO_ _) (fO_ _) M_49 e_50 ?_
  refine r_aload_nq C dX8_product_80 (pc' := 81) rfl (j := 3) rfl ?_
  obtain ⟨b_51, e_52, k_53, h⟩ := h
  refine r_ref [] e_52 ?_
  refine r_getfN C (Cn := RX10) (T := TX10) 2 k_53 (by decide) vc_X10 in_X10 (by decide) (List.mem_of_getElem? (i := 47) rfl) dX8_product_81 (pc' := 84) rfl (v := va_rf (mgR M_49 b_51 2)) rfl ?_
  refine r_astore_nq C (lv' := [(2, va_rf (mgR M_49 b_51 2)), (3, .int r_26), (0, .ref a0), (1, .ref a1)]) dX8_product_84 (pc' := 85) rfl rfl (Nat.le_of_ble_eq_true rfl) rfl ?_
  refine r_goto C dX8_product_85 (tgt := 15) (by decide) ?_
  refine r_sub (lv' := [(0, .ref a0), (1, .ref a1), (2, va_rf (mgR M_49 b_51 2))]) [2, 3, 0] rfl ?_
  exact hR ((k + 1) + c_37) ((n + 3) + s_38) M_49 (mgR M_49 b_51 2) c_39.1 c_39.2 (mMo.tr (mMo.tr (mMo.tr (mMo.tr (mMo.tr m_27 (mo_I e_29)) m_30) m_42) m_45) (mo_R e_50)) (mMo.kd (mo_R e_50) (mMo.kd m_45 (mMo.kd m_42 (mMo.kd m_30 (mMo.kd (mo_I e_29) (mMo.kd m_27 k_a0 (by decide)) (by decide)) (by decide)) (by decide)) (by decide)) (by decide)) (mMo.kd (mo_R e_50) (mMo.kd m_45 (mMo.kd m_42 (mMo.kd m_30 (mMo.kd (mo_I e_29) (mMo.kd m_27 k_a1 (by decide)) (by decide)) (by decide)) (by decide)) (by decide)) (by decide)) h
set_option maxHeartbeats 4000000 in
theorem B_X8_product_15 {E : mE} {Rc : RT} {fd ld : Nat} {bc bs : Nat} {a0 : Nat} {a1 : Nat} {X88 : Nat → Nat → MM → Prop} {Post : Option Nat → MM → Prop} (hRc : SndR E.2.1 E.1.2.1 Rc fd ld) (C : mC E yX8_product cX8_product 4 ((some (.object "LandingTree$Sum"))) { frames := fd + 2, cells := bc, slots := bs, locals := ld + 60 }) (hE : mEnd E { frames := fd + 2, cells := bc, slots := bs, locals := ld + 60 } (pR_ Post)) : ∀ (n_ : Nat) (k n : Nat) (M : MM) (o2 : Option Nat), k ≤ bc → n ≤ bs → mkd M a0 = 8 → mkd M a1 = 9 → wl_X8_product_15 E.2.1 Rc bc bs a0 a1 X88 n_ k n M o2 → (∀ (k' n' : Nat) (M' : MM), k' ≤ bc → n' ≤ bs → mMo M M' → X88 k' n' M' → mV E M' k' n' 88 [(1, .ref a1)] []) → mV E M k n 15 [(0, .ref a0), (1, .ref a1), (2, va_rf o2)] [] := by
  intro n_
  induction n_ with
  | zero =>
    intro k n M o2 hkb hnb k_a0 k_a1 h hX88
    exact absurd h (by rw [wl_X8_product_15]; exact fun q => q)
  | succ n_ ih =>
    intro k n M o2 hkb hnb k_a0 k_a1 h hX88
    rw [wl_X8_product_15] at h
    have hb1 := hRc.1
    have hb2 := hRc.2.1
    refine r_aload_n C dX8_product_15 (pc' := 16) rfl (j := 0) rfl ?_
    refine r_callVi (As := []) (rest := []) (Cn := RX8) (T := TX8) C k_a0 (by decide) vc_X8 (S_X8_isGood k_a0 h) (lw_V q543 q545 qs2 q114 q546) rfl hd_X8_isGood rfl rfl (Nat.le_of_ble_eq_true rfl) (by dsimp only; omega) (by dsimp only; omega) rfl rfl hkb hnb dX8_product_16 (pc' := 19) rfl (fun r_18 M_17 h m_19 => ?_)
    refine r_if_eq C dX8_product_19 (pc' := 22) rfl (tgt := 88) (by decide) (fun c_20 => ?_) (fun c_20 => ?_)
    · have h := it_t h c_20
      refine r_sub (lv' := [(1, .ref a1)]) [1] rfl ?_
      exact hX88 k n M_17 hkb hnb m_19 h
    · have h := it_f h c_20
      refine r_aload_n C dX8_product_22 (pc' := 23) rfl (j := 0) rfl ?_
      refine r_callVi (As := []) (rest := []) (Cn := RX8) (T := TX8) C (mMo.kd m_19 k_a0 (by decide)) (by decide) vc_X8 (S_X8_here (mMo.kd m_19 k_a0 (by decide)) h) (lw_V q551 q553 qs4 q114 q554) rfl hd_X8_here rfl rfl (Nat.le_of_ble_eq_true rfl) (by dsimp only; omega) (by dsimp only; omega) rfl rfl hkb hnb dX8_product_23 (pc' := 26) rfl (fun r_22 M_21 h m_23 => ?_)
      refine r_bipush C dX8_product_26 (pc' := 28) rfl (v := 42) rfl ?_
      refine r_icmp_eq C dX8_product_28 (pc' := 31) rfl (tgt := 49) (by decide) (fun c_24 => ?_) (fun c_24 => ?_)
      · have h := it_t h c_24
        refine r_sub (lv' := [(0, .ref a0), (1, .ref a1), (2, va_rf o2)]) [0, 1, 2] rfl ?_
        exact B_X8_product_49 hRc C hE hkb hnb (mMo.kd m_23 (mMo.kd m_19 k_a0 (by decide)) (by decide)) (mMo.kd m_23 (mMo.kd m_19 k_a1 (by decide)) (by decide)) h (fun k8 n8 M8 v0 b8 c8 hm8 g0 g1 h8 => ih k8 n8 M8 v0 b8 c8 g0 g1 h8 (fun k9 n9 M9 b9 c9 hm9 h9 => hX88 k9 n9 M9 b9 c9 (mMo.tr (mMo.tr (mMo.tr m_19 m_23) hm8) hm9) h9)) (fun k9 n9 M9 b9 c9 hm9 h9 => hX88 k9 n9 M9 b9 c9 (mMo.tr (mMo.tr m_19 m_23) hm9) h9)
      · have h := it_f h c_24
        refine r_aload_n C dX8_product_31 (pc' := 32) rfl (j := 0) rfl ?_
        refine r_callVi (As := []) (rest := []) (Cn := RX8) (T := TX8) C (mMo.kd m_23 (mMo.kd m_19 k_a0 (by decide)) (by decide)) (by decide) vc_X8 (S_X8_here (mMo.kd m_23 (mMo.kd m_19 k_a0 (by decide)) (by decide)) h) (lw_V q551 q553 qs4 q114 q554) rfl hd_X8_here rfl rfl (Nat.le_of_ble_eq_true rfl) (by dsimp only; omega) (by dsimp only; omega) rfl rfl hkb hnb dX8_product_32 (pc' := 35) rfl (fun r_55 M_54 h m_56 => ?_)
        refine r_bipush C dX8_product_35 (pc' := 37) rfl (v := 47) rfl ?_
        refine r_icmp_eq C dX8_product_37 (pc' := 40) rfl (tgt := 49) (by decide) (fun c_57 => ?_) (fun c_57 => ?_)
        · have h := it_t h c_57
          refine r_sub (lv' := [(0, .ref a0), (1, .ref a1), (2, va_rf o2)]) [0, 1, 2] rfl ?_
          exact B_X8_product_49 hRc C hE hkb hnb (mMo.kd m_56 (mMo.kd m_23 (mMo.kd m_19 k_a0 (by decide)) (by decide)) (by decide)) (mMo.kd m_56 (mMo.kd m_23 (mMo.kd m_19 k_a1 (by decide)) (by decide)) (by decide)) h (fun k8 n8 M8 v0 b8 c8 hm8 g0 g1 h8 => ih k8 n8 M8 v0 b8 c8 g0 g1 h8 (fun k9 n9 M9 b9 c9 hm9 h9 => hX88 k9 n9 M9 b9 c9 (mMo.tr (mMo.tr (mMo.tr (mMo.tr m_19 m_23) m_56) hm8) hm9) h9)) (fun k9 n9 M9 b9 c9 hm9 h9 => hX88 k9 n9 M9 b9 c9 (mMo.tr (mMo.tr (mMo.tr m_19 m_23) m_56) hm9) h9)
        · have h := it_f h c_57
          refine r_aload_n C dX8_product_40 (pc' := 41) rfl (j := 0) rfl ?_
          refine r_callVi (As := []) (rest := []) (Cn := RX8) (T := TX8) C (mMo.kd m_56 (mMo.kd m_23 (mMo.kd m_19 k_a0 (by decide)) (by decide)) (by decide)) (by decide) vc_X8 (S_X8_here (mMo.kd m_56 (mMo.kd m_23 (mMo.kd m_19 k_a0 (by decide)) (by decide)) (by decide)) h) (lw_V q551 q553 qs4 q114 q554) rfl hd_X8_here rfl rfl (Nat.le_of_ble_eq_true rfl) (by dsimp only; omega) (by dsimp only; omega) rfl rfl hkb hnb dX8_product_41 (pc' := 44) rfl (fun r_59 M_58 h m_60 => ?_)
          refine r_bipush C dX8_product_44 (pc' := 46) rfl (v := 37) rfl ?_
          refine r_icmp_ne C dX8_product_46 (pc' := 49) rfl (tgt := 88) (by decide) (fun c_61 => ?_) (fun c_61 => ?_)
          · have h := it_f h c_61
            refine r_sub (lv' := [(1, .ref a1)]) [1] rfl ?_
            exact hX88 k n M_58 hkb hnb (mMo.tr (mMo.tr (mMo.tr m_19 m_23) m_56) m_60) h
          · have h := it_t h c_61
            refine r_sub (lv' := [(0, .ref a0), (1, .ref a1), (2, va_rf o2)]) [0, 1, 2] rfl ?_
            exact B_X8_product_49 hRc C hE hkb hnb (mMo.kd m_60 (mMo.kd m_56 (mMo.kd m_23 (mMo.kd m_19 k_a0 (by decide)) (by decide)) (by decide)) (by decide)) (mMo.kd m_60 (mMo.kd m_56 (mMo.kd m_23 (mMo.kd m_19 k_a1 (by decide)) (by decide)) (by decide)) (by decide)) h (fun k8 n8 M8 v0 b8 c8 hm8 g0 g1 h8 => ih k8 n8 M8 v0 b8 c8 g0 g1 h8 (fun k9 n9 M9 b9 c9 hm9 h9 => hX88 k9 n9 M9 b9 c9 (mMo.tr (mMo.tr (mMo.tr (mMo.tr (mMo.tr m_19 m_23) m_56) m_60) hm8) hm9) h9)) (fun k9 n9 M9 b9 c9 hm9 h9 => hX88 k9 n9 M9 b9 c9 (mMo.tr (mMo.tr (mMo.tr (mMo.tr m_19 m_23) m_56) m_60) hm9) h9)
set_option maxHeartbeats 4000000 in
theorem S_X8_product {D : DD} {l : Launch} {Rc : RT} {fd ld : Nat} (hRc : SndR D l Rc fd ld) {bc bs : Nat} {M : MM} {a0 : Nat} {Post : Option Nat → MM → Prop} (k_a0 : mkd M a0 = 8) (h : wp_X8_product D Rc bc bs M a0 Post) : mMet D l yX8_product cX8_product 4 ((some (.object "LandingTree$Sum"))) { frames := fd + 2, cells := bc, slots := bs, locals := ld + 60 } M [.ref a0] (pR_ Post) := by
  refine m_of2 [(0, .ref a0)] (by decide +kernel) (Nat.le_of_ble_eq_true rfl) rfl (fun E hED hEl C hE => ?_)
  subst hED
  subst hEl
  unfold wp_X8_product at h
  have hb1 := hRc.1
  have hb2 := hRc.2.1
  obtain ⟨b_3, e_4, h⟩ := bn_ h
  obtain ⟨M_5, e_6, h⟩ := bn_ h
  obtain ⟨c_7, h⟩ := h
  refine r_new C (Cn := RX10) (T := TX10) tyX10 (by decide) vc_X10 in_X10 tyX10_ok df_X10 q647 q648 q121 c_7.1 c_7.2 dX8_product_0 (pc' := 3) rfl b_3 e_4 M_5 e_6 (fun m_1 k_2 => ?_)
  refine r_dup C dX8_product_3 (pc' := 4) rfl rfl ?_
  refine r_iconst C dX8_product_4 (pc' := 5) rfl (v := 0) rfl ?_
  refine r_aload_n C dX8_product_5 (pc' := 6) rfl (j := 0) rfl ?_
  obtain ⟨c_8, s_9, c_10, h⟩ := h
  refine r_callVq (As := []) (rest := [.int (0 : Int32), .ref b_3, .ref b_3]) (Cn := RX8) (T := TX8) C (mMo.kd m_1 k_a0 (by decide)) (by decide) vc_X8 (hRc.2.2.1 (mMo.kd m_1 k_a0 (by decide)) h) (lw_V q653 q655 qs8 q114 q656) rfl hd_X8_factor rfl rfl (Nat.le_of_ble_eq_true rfl) (by dsimp only; omega) (by dsimp only; omega) rfl rfl c_10.1 c_10.2 dX8_product_6 (pc' := 9) rfl (fun r_12 M_11 h m_13 => ?_)
  refine r_callIv (As := [.int (0 : Int32), va_rf r_12]) (rest := [.ref b_3]) C (S_X10_init (mMo.kd m_13 k_2 (by decide)) h) q699 q121 q697 q698 rfl rfl hd_X10_init rfl rfl (Nat.le_of_ble_eq_true rfl) (by dsimp only; omega) (by dsimp only; omega) rfl rfl c_10.1 c_10.2 dX8_product_9 (pc' := 12) rfl (fun M_14 h m_16 => ?_)
  refine r_astore_n C (lv' := [(1, .ref b_3), (0, .ref a0)]) dX8_product_12 (pc' := 13) rfl rfl b_3 rfl (Nat.le_of_ble_eq_true rfl) rfl ?_
  refine r_aload_n C dX8_product_13 (pc' := 14) rfl (j := 0) rfl ?_
  refine r_astore_n C (lv' := [(2, .ref b_3), (1, .ref b_3), (0, .ref a0)]) dX8_product_14 (pc' := 15) rfl rfl b_3 rfl (Nat.le_of_ble_eq_true rfl) rfl ?_
  obtain ⟨n_62, h⟩ := h
  refine r_sub (lv' := [(0, .ref a0), (1, .ref b_3), (2, va_rf (some b_3))]) [2, 1, 0] rfl ?_
  refine B_X8_product_15 hRc C hE n_62 ((0 + 1) + c_8) ((0 + 3) + s_9) M_14 (some b_3) c_10.1 c_10.2 (mMo.kd m_16 (mMo.kd m_13 (mMo.kd m_1 k_a0 (by decide)) (by decide)) (by decide)) (mMo.kd m_16 (mMo.kd m_13 k_2 (by decide)) (by decide)) h (fun k_65 n_66 M_63 b_67 c_68 m_64 h => ?_)
  refine r_aload_n C dX8_product_88 (pc' := 89) rfl (j := 0) rfl ?_
  exact r_aret (x := (some b_3)) C hE b_67 c_68 dX8_product_89 ⟨_, rfl, h⟩
set_option maxHeartbeats 4000000 in
theorem B_X8_sum_40 {E : mE} {Rc : RT} {fd ld : Nat} {bc bs : Nat} {k n : Nat} {M : MM} {a0 : Nat} {a1 : Nat} {o2 : Option Nat} {R : Nat → Nat → MM → Option Nat → Prop} {X79 : Nat → Nat → MM → Prop} {Post : Option Nat → MM → Prop} (hRc : SndR E.2.1 E.1.2.1 Rc fd ld) (C : mC E yX8_sum cX8_sum 4 ((some (.object "LandingTree$Sum"))) { frames := fd + 2, cells := bc, slots := bs, locals := ld + 60 }) (hE : mEnd E { frames := fd + 2, cells := bc, slots := bs, locals := ld + 60 } (pR_ Post)) (hkb : k ≤ bc) (hnb : n ≤ bs) (k_a0 : mkd M a0 = 8) (k_a1 : mkd M a1 = 9) (h : wb_X8_sum_40 E.2.1 Rc bc bs k n M a0 a1 o2 R X79) (hR : ∀ (k' n' : Nat) (M' : MM) (o2' : Option Nat), k' ≤ bc → n' ≤ bs → mMo M M' → mkd M' a0 = 8 → mkd M' a1 = 9 → R k' n' M' o2' → mV E M' k' n' 15 [(0, .ref a0), (1, .ref a1), (2, va_rf o2')] []) (hX79 : ∀ (k' n' : Nat) (M' : MM), k' ≤ bc → n' ≤ bs → mMo M M' → X79 k' n' M' → mV E M' k' n' 79 [(1, .ref a1)] []) : mV E M k n 40 [(0, .ref a0), (1, .ref a1), (2, va_rf o2)] [] := by
  unfold wb_X8_sum_40 at h
  have hb1 := hRc.1
  have hb2 := hRc.2.1
  refine r_aload_n C dX8_sum_40 (pc' := 41) rfl (j := 0) rfl ?_
  refine r_callVi (As := []) (rest := []) (Cn := RX8) (T := TX8) C k_a0 (by decide) vc_X8 (S_X8_here k_a0 h) (lw_V q551 q553 qs4 q114 q554) rfl hd_X8_here rfl rfl (Nat.le_of_ble_eq_true rfl) (by dsimp only; omega) (by dsimp only; omega) rfl rfl hkb hnb dX8_sum_41 (pc' := 44) rfl (fun r_26 M_25 h m_27 => ?_)
  refine r_istore_n C (lv' := [(3, .int r_26), (0, .ref a0), (1, .ref a1), (2, va_rf o2)]) dX8_sum_44 (pc' := 45) rfl rfl r_26 rfl (Nat.le_of_ble_eq_true rfl) (by cases o2 <;> rfl) ?_
  refine r_aload_n C dX8_sum_45 (pc' := 46) rfl (j := 1) rfl ?_
  refine r_dup C dX8_sum_46 (pc' := 47) rfl rfl ?_
  refine r_getf C (Cn := RX8) (T := TX8) 3 (mMo.kd m_27 k_a0 (by decide)) (by decide) vc_X8 in_X8 (by decide) q517 dX8_sum_47 (pc' := 50) rfl (v := .int (mgI M_25 a0 3)) rfl ?_
  refine r_iconst C dX8_sum_50 (pc' := 51) rfl (v := 1) rfl ?_
  refine r_iadd C dX8_sum_51 (pc' := 52) rfl ?_
  obtain ⟨M_28, e_29, h⟩ := bn_ h
  refine r_putI C (Cn := RX8) (T := TX8) tyX8 3 (mMo.kd m_27 k_a0 (by decide)) (by decide) vc_X8 in_X8 tyX8_ok nmX8 (by decide) q517 rfl rfl dX8_sum_52 (pc' := 55) rfl rfl rfl M_28 e_29 ?_
  refine r_aload_nq C dX8_sum_55 (pc' := 56) rfl (j := 3) rfl ?_
  obtain ⟨b_32, e_33, h⟩ := bn_ h
  obtain ⟨M_34, e_35, h⟩ := bn_ h
  obtain ⟨c_36, h⟩ := h
  refine r_new C (Cn := RX10) (T := TX10) tyX10 (by decide) vc_X10 in_X10 tyX10_ok df_X10 q647 q648 q121 c_36.1 c_36.2 dX8_sum_56 (pc' := 59) rfl b_32 e_33 M_34 e_35 (fun m_30 k_31 => ?_)
  refine r_dup C dX8_sum_59 (pc' := 60) rfl rfl ?_
  refine r_iload_n C dX8_sum_60 (pc' := 61) rfl (j := 0) rfl ?_
  refine r_aload_n C dX8_sum_61 (pc' := 62) rfl (j := 1) rfl ?_
  obtain ⟨c_37, s_38, c_39, h⟩ := h
  refine r_callVq (As := []) (rest := [.int r_26, .ref b_32, .ref b_32, va_rf o2]) (Cn := RX8) (T := TX8) C (mMo.kd m_30 (mMo.kd (mo_I e_29) (mMo.kd m_27 k_a0 (by decide)) (by decide)) (by decide)) (by decide) vc_X8 (hRc.2.2.2.1 (mMo.kd m_30 (mMo.kd (mo_I e_29) (mMo.kd m_27 k_a0 (by decide)) (by decide)) (by decide)) h) (lw_V q649 q651 qs7 q114 q652) rfl hd_X8_product rfl rfl (by cases o2 <;> exact Nat.le_of_ble_eq_true rfl) (by dsimp only; omega) (by dsimp only; omega) rfl rfl c_39.1 c_39.2 dX8_sum_62 (pc' := 65) rfl (fun r_41 M_40 h m_42 => ?_)
  refine r_callIv (As := [.int r_26, va_rf r_41]) (rest := [.ref b_32, va_rf o2]) C (S_X10_init (mMo.kd m_42 k_31 (by decide)) h) q699 q121 q697 q698 rfl rfl hd_X10_init rfl rfl (by cases o2 <;> exact Nat.le_of_ble_eq_true rfl) (by dsimp only; omega) (by dsimp only; omega) rfl rfl c_39.1 c_39.2 dX8_sum_65 (pc' := 68) rfl (fun M_43 h m_45 => ?_)
  obtain ⟨b_46, e_47, k_48, h⟩ := h
  refine r_ref [.ref b_32] e_47 ?_
  obtain ⟨M_49, e_50, h⟩ := bn_ h
  refine r_putRN C (Cn := RX10) (T := TX10) (x := (some b_32)) tyX10 2 k_48 (by decide) vc_X10 in_X10 tyX10_ok nmX10 (by decide) (List.mem_of_getElem? (i := 47) rfl) rfl rfl dX8_sum_68 (pc' := 71) rfl (nO_ _) (fO_ _) M_49 e_50 ?_
  refine r_aload_nq C dX8_sum_71 (pc' := 72) rfl (j := 3) rfl ?_
  obtain ⟨b_51, e_52, k_53, h⟩ := h
  refine r_ref [] e_52 ?_
  refine r_getfN C (Cn := RX10) (T := TX10) 2 k_53 (by decide) vc_X10 in_X10 (by decide) (List.mem_of_getElem? (i := 47) rfl) dX8_sum_72 (pc' := 75) rfl (v := va_rf (mgR M_49 b_51 2)) rfl ?_
  refine r_astore_nq C (lv' := [(2, va_rf (mgR M_49 b_51 2)), (3, .int r_26), (0, .ref a0), (1, .ref a1)]) dX8_sum_75 (pc' := 76) rfl rfl (Nat.le_of_ble_eq_true rfl) rfl ?_
  refine r_goto C dX8_sum_76 (tgt := 15) (by decide) ?_
  refine r_sub (lv' := [(0, .ref a0), (1, .ref a1), (2, va_rf (mgR M_49 b_51 2))]) [2, 3, 0] rfl ?_
  exact hR ((k + 1) + c_37) ((n + 3) + s_38) M_49 (mgR M_49 b_51 2) c_39.1 c_39.2 (mMo.tr (mMo.tr (mMo.tr (mMo.tr (mMo.tr m_27 (mo_I e_29)) m_30) m_42) m_45) (mo_R e_50)) (mMo.kd (mo_R e_50) (mMo.kd m_45 (mMo.kd m_42 (mMo.kd m_30 (mMo.kd (mo_I e_29) (mMo.kd m_27 k_a0 (by decide)) (by decide)) (by decide)) (by decide)) (by decide)) (by decide)) (mMo.kd (mo_R e_50) (mMo.kd m_45 (mMo.kd m_42 (mMo.kd m_30 (mMo.kd (mo_I e_29) (mMo.kd m_27 k_a1 (by decide)) (by decide)) (by decide)) (by decide)) (by decide)) (by decide)) h
set_option maxHeartbeats 4000000 in
theorem B_X8_sum_15 {E : mE} {Rc : RT} {fd ld : Nat} {bc bs : Nat} {a0 : Nat} {a1 : Nat} {X79 : Nat → Nat → MM → Prop} {Post : Option Nat → MM → Prop} (hRc : SndR E.2.1 E.1.2.1 Rc fd ld) (C : mC E yX8_sum cX8_sum 4 ((some (.object "LandingTree$Sum"))) { frames := fd + 2, cells := bc, slots := bs, locals := ld + 60 }) (hE : mEnd E { frames := fd + 2, cells := bc, slots := bs, locals := ld + 60 } (pR_ Post)) : ∀ (n_ : Nat) (k n : Nat) (M : MM) (o2 : Option Nat), k ≤ bc → n ≤ bs → mkd M a0 = 8 → mkd M a1 = 9 → wl_X8_sum_15 E.2.1 Rc bc bs a0 a1 X79 n_ k n M o2 → (∀ (k' n' : Nat) (M' : MM), k' ≤ bc → n' ≤ bs → mMo M M' → X79 k' n' M' → mV E M' k' n' 79 [(1, .ref a1)] []) → mV E M k n 15 [(0, .ref a0), (1, .ref a1), (2, va_rf o2)] [] := by
  intro n_
  induction n_ with
  | zero =>
    intro k n M o2 hkb hnb k_a0 k_a1 h hX79
    exact absurd h (by rw [wl_X8_sum_15]; exact fun q => q)
  | succ n_ ih =>
    intro k n M o2 hkb hnb k_a0 k_a1 h hX79
    rw [wl_X8_sum_15] at h
    have hb1 := hRc.1
    have hb2 := hRc.2.1
    refine r_aload_n C dX8_sum_15 (pc' := 16) rfl (j := 0) rfl ?_
    refine r_callVi (As := []) (rest := []) (Cn := RX8) (T := TX8) C k_a0 (by decide) vc_X8 (S_X8_isGood k_a0 h) (lw_V q543 q545 qs2 q114 q546) rfl hd_X8_isGood rfl rfl (Nat.le_of_ble_eq_true rfl) (by dsimp only; omega) (by dsimp only; omega) rfl rfl hkb hnb dX8_sum_16 (pc' := 19) rfl (fun r_18 M_17 h m_19 => ?_)
    refine r_if_eq C dX8_sum_19 (pc' := 22) rfl (tgt := 79) (by decide) (fun c_20 => ?_) (fun c_20 => ?_)
    · have h := it_t h c_20
      refine r_sub (lv' := [(1, .ref a1)]) [1] rfl ?_
      exact hX79 k n M_17 hkb hnb m_19 h
    · have h := it_f h c_20
      refine r_aload_n C dX8_sum_22 (pc' := 23) rfl (j := 0) rfl ?_
      refine r_callVi (As := []) (rest := []) (Cn := RX8) (T := TX8) C (mMo.kd m_19 k_a0 (by decide)) (by decide) vc_X8 (S_X8_here (mMo.kd m_19 k_a0 (by decide)) h) (lw_V q551 q553 qs4 q114 q554) rfl hd_X8_here rfl rfl (Nat.le_of_ble_eq_true rfl) (by dsimp only; omega) (by dsimp only; omega) rfl rfl hkb hnb dX8_sum_23 (pc' := 26) rfl (fun r_22 M_21 h m_23 => ?_)
      refine r_bipush C dX8_sum_26 (pc' := 28) rfl (v := 43) rfl ?_
      refine r_icmp_eq C dX8_sum_28 (pc' := 31) rfl (tgt := 40) (by decide) (fun c_24 => ?_) (fun c_24 => ?_)
      · have h := it_t h c_24
        refine r_sub (lv' := [(0, .ref a0), (1, .ref a1), (2, va_rf o2)]) [0, 1, 2] rfl ?_
        exact B_X8_sum_40 hRc C hE hkb hnb (mMo.kd m_23 (mMo.kd m_19 k_a0 (by decide)) (by decide)) (mMo.kd m_23 (mMo.kd m_19 k_a1 (by decide)) (by decide)) h (fun k8 n8 M8 v0 b8 c8 hm8 g0 g1 h8 => ih k8 n8 M8 v0 b8 c8 g0 g1 h8 (fun k9 n9 M9 b9 c9 hm9 h9 => hX79 k9 n9 M9 b9 c9 (mMo.tr (mMo.tr (mMo.tr m_19 m_23) hm8) hm9) h9)) (fun k9 n9 M9 b9 c9 hm9 h9 => hX79 k9 n9 M9 b9 c9 (mMo.tr (mMo.tr m_19 m_23) hm9) h9)
      · have h := it_f h c_24
        refine r_aload_n C dX8_sum_31 (pc' := 32) rfl (j := 0) rfl ?_
        refine r_callVi (As := []) (rest := []) (Cn := RX8) (T := TX8) C (mMo.kd m_23 (mMo.kd m_19 k_a0 (by decide)) (by decide)) (by decide) vc_X8 (S_X8_here (mMo.kd m_23 (mMo.kd m_19 k_a0 (by decide)) (by decide)) h) (lw_V q551 q553 qs4 q114 q554) rfl hd_X8_here rfl rfl (Nat.le_of_ble_eq_true rfl) (by dsimp only; omega) (by dsimp only; omega) rfl rfl hkb hnb dX8_sum_32 (pc' := 35) rfl (fun r_55 M_54 h m_56 => ?_)
        refine r_bipush C dX8_sum_35 (pc' := 37) rfl (v := 45) rfl ?_
        refine r_icmp_ne C dX8_sum_37 (pc' := 40) rfl (tgt := 79) (by decide) (fun c_57 => ?_) (fun c_57 => ?_)
        · have h := it_f h c_57
          refine r_sub (lv' := [(1, .ref a1)]) [1] rfl ?_
          exact hX79 k n M_54 hkb hnb (mMo.tr (mMo.tr m_19 m_23) m_56) h
        · have h := it_t h c_57
          refine r_sub (lv' := [(0, .ref a0), (1, .ref a1), (2, va_rf o2)]) [0, 1, 2] rfl ?_
          exact B_X8_sum_40 hRc C hE hkb hnb (mMo.kd m_56 (mMo.kd m_23 (mMo.kd m_19 k_a0 (by decide)) (by decide)) (by decide)) (mMo.kd m_56 (mMo.kd m_23 (mMo.kd m_19 k_a1 (by decide)) (by decide)) (by decide)) h (fun k8 n8 M8 v0 b8 c8 hm8 g0 g1 h8 => ih k8 n8 M8 v0 b8 c8 g0 g1 h8 (fun k9 n9 M9 b9 c9 hm9 h9 => hX79 k9 n9 M9 b9 c9 (mMo.tr (mMo.tr (mMo.tr (mMo.tr m_19 m_23) m_56) hm8) hm9) h9)) (fun k9 n9 M9 b9 c9 hm9 h9 => hX79 k9 n9 M9 b9 c9 (mMo.tr (mMo.tr (mMo.tr m_19 m_23) m_56) hm9) h9)
set_option maxHeartbeats 4000000 in
theorem S_X8_sum {D : DD} {l : Launch} {Rc : RT} {fd ld : Nat} (hRc : SndR D l Rc fd ld) {bc bs : Nat} {M : MM} {a0 : Nat} {Post : Option Nat → MM → Prop} (k_a0 : mkd M a0 = 8) (h : wp_X8_sum D Rc bc bs M a0 Post) : mMet D l yX8_sum cX8_sum 4 ((some (.object "LandingTree$Sum"))) { frames := fd + 2, cells := bc, slots := bs, locals := ld + 60 } M [.ref a0] (pR_ Post) := by
  refine m_of2 [(0, .ref a0)] (by decide +kernel) (Nat.le_of_ble_eq_true rfl) rfl (fun E hED hEl C hE => ?_)
  subst hED
  subst hEl
  unfold wp_X8_sum at h
  have hb1 := hRc.1
  have hb2 := hRc.2.1
  obtain ⟨b_3, e_4, h⟩ := bn_ h
  obtain ⟨M_5, e_6, h⟩ := bn_ h
  obtain ⟨c_7, h⟩ := h
  refine r_new C (Cn := RX10) (T := TX10) tyX10 (by decide) vc_X10 in_X10 tyX10_ok df_X10 q647 q648 q121 c_7.1 c_7.2 dX8_sum_0 (pc' := 3) rfl b_3 e_4 M_5 e_6 (fun m_1 k_2 => ?_)
  refine r_dup C dX8_sum_3 (pc' := 4) rfl rfl ?_
  refine r_iconst C dX8_sum_4 (pc' := 5) rfl (v := 0) rfl ?_
  refine r_aload_n C dX8_sum_5 (pc' := 6) rfl (j := 0) rfl ?_
  obtain ⟨c_8, s_9, c_10, h⟩ := h
  refine r_callVq (As := []) (rest := [.int (0 : Int32), .ref b_3, .ref b_3]) (Cn := RX8) (T := TX8) C (mMo.kd m_1 k_a0 (by decide)) (by decide) vc_X8 (hRc.2.2.2.1 (mMo.kd m_1 k_a0 (by decide)) h) (lw_V q649 q651 qs7 q114 q652) rfl hd_X8_product rfl rfl (Nat.le_of_ble_eq_true rfl) (by dsimp only; omega) (by dsimp only; omega) rfl rfl c_10.1 c_10.2 dX8_sum_6 (pc' := 9) rfl (fun r_12 M_11 h m_13 => ?_)
  refine r_callIv (As := [.int (0 : Int32), va_rf r_12]) (rest := [.ref b_3]) C (S_X10_init (mMo.kd m_13 k_2 (by decide)) h) q699 q121 q697 q698 rfl rfl hd_X10_init rfl rfl (Nat.le_of_ble_eq_true rfl) (by dsimp only; omega) (by dsimp only; omega) rfl rfl c_10.1 c_10.2 dX8_sum_9 (pc' := 12) rfl (fun M_14 h m_16 => ?_)
  refine r_astore_n C (lv' := [(1, .ref b_3), (0, .ref a0)]) dX8_sum_12 (pc' := 13) rfl rfl b_3 rfl (Nat.le_of_ble_eq_true rfl) rfl ?_
  refine r_aload_n C dX8_sum_13 (pc' := 14) rfl (j := 0) rfl ?_
  refine r_astore_n C (lv' := [(2, .ref b_3), (1, .ref b_3), (0, .ref a0)]) dX8_sum_14 (pc' := 15) rfl rfl b_3 rfl (Nat.le_of_ble_eq_true rfl) rfl ?_
  obtain ⟨n_58, h⟩ := h
  refine r_sub (lv' := [(0, .ref a0), (1, .ref b_3), (2, va_rf (some b_3))]) [2, 1, 0] rfl ?_
  refine B_X8_sum_15 hRc C hE n_58 ((0 + 1) + c_8) ((0 + 3) + s_9) M_14 (some b_3) c_10.1 c_10.2 (mMo.kd m_16 (mMo.kd m_13 (mMo.kd m_1 k_a0 (by decide)) (by decide)) (by decide)) (mMo.kd m_16 (mMo.kd m_13 k_2 (by decide)) (by decide)) h (fun k_61 n_62 M_59 b_63 c_64 m_60 h => ?_)
  refine r_aload_n C dX8_sum_79 (pc' := 80) rfl (j := 0) rfl ?_
  exact r_aret (x := (some b_3)) C hE b_63 c_64 dX8_sum_80 ⟨_, rfl, h⟩
set_option maxHeartbeats 4000000 in
theorem B_X8_piece_129 {E : mE} {Rc : RT} {fd ld : Nat} {bc bs : Nat} {k n : Nat} {M : MM} {as0 : Nat} {as1 : Nat} {os2 : Option Nat} {xs3 : Int32} {os4 : Option Nat} {Post : Option Nat → MM → Prop} (hRc : SndR E.2.1 E.1.2.1 Rc fd ld) (C : mC E yX8_piece cX8_piece 4 ((some (.object "LandingTree$Condition"))) { frames := fd + 2, cells := bc, slots := bs, locals := ld + 60 }) (hE : mEnd E { frames := fd + 2, cells := bc, slots := bs, locals := ld + 60 } (pR_ Post)) (hkb : k ≤ bc) (hnb : n ≤ bs) (k_as0 : mkd M as0 = 14) (k_as1 : mkd M as1 = 14) (h : wb_X8_piece_129 E.2.1 Rc bc bs k n M as0 as1 os2 xs3 os4 Post) : mV E M k n 129 [] [va_rf os4, .int xs3, va_rf os2, .ref as1, .ref as0] := by
  unfold wb_X8_piece_129 at h
  have hb1 := hRc.1
  have hb2 := hRc.2.1
  refine r_callIv (As := [va_rf os2, .int xs3, va_rf os4]) (rest := [.ref as0]) C (S_X16_init k_as1 h) q743 q127 q741 q742 rfl rfl hd_X16_init rfl rfl (Nat.le_of_ble_eq_true rfl) (by dsimp only; omega) (by dsimp only; omega) rfl rfl hkb hnb dX8_piece_129 (pc' := 132) rfl (fun M_29 h m_31 => ?_)
  exact r_aret (x := (some as0)) C hE hkb hnb dX8_piece_132 ⟨_, rfl, h⟩
set_option maxHeartbeats 4000000 in
theorem B_X8_piece_98 {E : mE} {Rc : RT} {fd ld : Nat} {bc bs : Nat} {k n : Nat} {M : MM} {a0 : Nat} {o2 : Option Nat} {x3 : Int32} {Post : Option Nat → MM → Prop} (hRc : SndR E.2.1 E.1.2.1 Rc fd ld) (C : mC E yX8_piece cX8_piece 4 ((some (.object "LandingTree$Condition"))) { frames := fd + 2, cells := bc, slots := bs, locals := ld + 60 }) (hE : mEnd E { frames := fd + 2, cells := bc, slots := bs, locals := ld + 60 } (pR_ Post)) (hkb : k ≤ bc) (hnb : n ≤ bs) (k_a0 : mkd M a0 = 8) (h : wb_X8_piece_98 E.2.1 Rc bc bs k n M a0 o2 x3 Post) : mV E M k n 98 [(0, .ref a0), (2, va_rf o2), (3, .int x3)] [] := by
  unfold wb_X8_piece_98 at h
  have hb1 := hRc.1
  have hb2 := hRc.2.1
  refine r_aload_n C dX8_piece_98 (pc' := 99) rfl (j := 0) rfl ?_
  refine r_dup C dX8_piece_99 (pc' := 100) rfl rfl ?_
  refine r_getf C (Cn := RX8) (T := TX8) 3 k_a0 (by decide) vc_X8 in_X8 (by decide) q517 dX8_piece_100 (pc' := 103) rfl (v := .int (mgI M a0 3)) rfl ?_
  refine r_iconst C dX8_piece_103 (pc' := 104) rfl (v := 1) rfl ?_
  refine r_iadd C dX8_piece_104 (pc' := 105) rfl ?_
  obtain ⟨M_16, e_17, h⟩ := bn_ h
  refine r_putI C (Cn := RX8) (T := TX8) tyX8 3 k_a0 (by decide) vc_X8 in_X8 tyX8_ok nmX8 (by decide) q517 rfl rfl dX8_piece_105 (pc' := 108) rfl rfl rfl M_16 e_17 ?_
  obtain ⟨b_20, e_21, h⟩ := bn_ h
  obtain ⟨M_22, e_23, h⟩ := bn_ h
  obtain ⟨c_24, h⟩ := h
  refine r_new C (Cn := RX16) (T := TX16) tyX16 (by decide) vc_X16 in_X16 tyX16_ok df_X16 q739 q740 q127 c_24.1 c_24.2 dX8_piece_108 (pc' := 111) rfl b_20 e_21 M_22 e_23 (fun m_18 k_19 => ?_)
  refine r_dup C dX8_piece_111 (pc' := 112) rfl rfl ?_
  refine r_aload_nq C dX8_piece_112 (pc' := 113) rfl (j := 1) rfl ?_
  refine r_iload_n C dX8_piece_113 (pc' := 114) rfl (j := 2) rfl ?_
  refine r_aload_n C dX8_piece_114 (pc' := 115) rfl (j := 0) rfl ?_
  refine r_callVi (As := []) (rest := [.int x3, va_rf o2, .ref b_20, .ref b_20]) (Cn := RX8) (T := TX8) C (mMo.kd m_18 (mMo.kd (mo_I e_17) k_a0 (by decide)) (by decide)) (by decide) vc_X8 (S_X8_isGood (mMo.kd m_18 (mMo.kd (mo_I e_17) k_a0 (by decide)) (by decide)) h) (lw_V q543 q545 qs2 q114 q546) rfl hd_X8_isGood rfl rfl (by cases o2 <;> exact Nat.le_of_ble_eq_true rfl) (by dsimp only; omega) (by dsimp only; omega) rfl rfl c_24.1 c_24.2 dX8_piece_115 (pc' := 118) rfl (fun r_26 M_25 h m_27 => ?_)
  refine r_if_eq C dX8_piece_118 (pc' := 121) rfl (tgt := 128) (by decide) (fun c_28 => ?_) (fun c_28 => ?_)
  · have h := it_t h c_28
    refine r_null C dX8_piece_128 (pc' := 129) rfl ?_
    refine r_sub (lv' := []) [] rfl ?_
    exact B_X8_piece_129 hRc C hE c_24.1 c_24.2 (mMo.kd m_27 k_19 (by decide)) (mMo.kd m_27 k_19 (by decide)) h
  · have h := it_f h c_28
    refine r_aload_n C dX8_piece_121 (pc' := 122) rfl (j := 0) rfl ?_
    obtain ⟨c_32, s_33, c_34, h⟩ := h
    refine r_callVq (As := []) (rest := [.int x3, va_rf o2, .ref b_20, .ref b_20]) (Cn := RX8) (T := TX8) C (mMo.kd m_27 (mMo.kd m_18 (mMo.kd (mo_I e_17) k_a0 (by decide)) (by decide)) (by decide)) (by decide) vc_X8 (hRc.2.2.2.2.1 (mMo.kd m_27 (mMo.kd m_18 (mMo.kd (mo_I e_17) k_a0 (by decide)) (by decide)) (by decide)) h) (lw_V q643 q645 qs6 q114 q646) rfl hd_X8_sum rfl rfl (by cases o2 <;> exact Nat.le_of_ble_eq_true rfl) (by dsimp only; omega) (by dsimp only; omega) rfl rfl c_34.1 c_34.2 dX8_piece_122 (pc' := 125) rfl (fun r_36 M_35 h m_37 => ?_)
    refine r_goto C dX8_piece_125 (tgt := 129) (by decide) ?_
    refine r_sub (lv' := []) [] rfl ?_
    exact B_X8_piece_129 hRc C hE c_34.1 c_34.2 (mMo.kd m_37 (mMo.kd m_27 k_19 (by decide)) (by decide)) (mMo.kd m_37 (mMo.kd m_27 k_19 (by decide)) (by decide)) h
set_option maxHeartbeats 4000000 in
theorem B_X8_piece_30 {E : mE} {Rc : RT} {fd ld : Nat} {bc bs : Nat} {k n : Nat} {M : MM} {a0 : Nat} {os0 : Option Nat} {Post : Option Nat → MM → Prop} (hRc : SndR E.2.1 E.1.2.1 Rc fd ld) (C : mC E yX8_piece cX8_piece 4 ((some (.object "LandingTree$Condition"))) { frames := fd + 2, cells := bc, slots := bs, locals := ld + 60 }) (hE : mEnd E { frames := fd + 2, cells := bc, slots := bs, locals := ld + 60 } (pR_ Post)) (hkb : k ≤ bc) (hnb : n ≤ bs) (k_a0 : mkd M a0 = 8) (h : wb_X8_piece_30 E.2.1 Rc bc bs k n M a0 os0 Post) : mV E M k n 30 [(0, .ref a0)] [va_rf os0] := by
  unfold wb_X8_piece_30 at h
  have hb1 := hRc.1
  have hb2 := hRc.2.1
  refine r_astore_nq C (lv' := [(2, va_rf os0), (0, .ref a0)]) dX8_piece_30 (pc' := 31) rfl rfl (Nat.le_of_ble_eq_true rfl) rfl ?_
  refine r_aload_n C dX8_piece_31 (pc' := 32) rfl (j := 1) rfl ?_
  refine r_dup C dX8_piece_32 (pc' := 33) rfl rfl ?_
  refine r_getf C (Cn := RX8) (T := TX8) 4 k_a0 (by decide) vc_X8 in_X8 (by decide) q518 dX8_piece_33 (pc' := 36) rfl (v := .int (mgI M a0 4)) rfl ?_
  refine r_iconst C dX8_piece_36 (pc' := 37) rfl (v := 1) rfl ?_
  refine r_isub C dX8_piece_37 (pc' := 38) rfl ?_
  obtain ⟨M_56, e_57, h⟩ := bn_ h
  refine r_putI C (Cn := RX8) (T := TX8) tyX8 4 k_a0 (by decide) vc_X8 in_X8 tyX8_ok nmX8 (by decide) q518 rfl rfl dX8_piece_38 (pc' := 41) rfl rfl rfl M_56 e_57 ?_
  obtain ⟨b_60, e_61, h⟩ := bn_ h
  obtain ⟨M_62, e_63, h⟩ := bn_ h
  obtain ⟨c_64, h⟩ := h
  refine r_new C (Cn := RX15) (T := TX15) tyX15 (by decide) vc_X15 in_X15 tyX15_ok df_X15 q726 q727 q126 c_64.1 c_64.2 dX8_piece_41 (pc' := 44) rfl b_60 e_61 M_62 e_63 (fun m_58 k_59 => ?_)
  refine r_dup C dX8_piece_44 (pc' := 45) rfl rfl ?_
  refine r_aload_nq C dX8_piece_45 (pc' := 46) rfl (j := 0) rfl ?_
  refine r_callIv (As := [va_rf os0]) (rest := [.ref b_60]) C (S_X15_init k_59 h) q730 q126 q728 q729 rfl rfl hd_X15_init rfl rfl (Nat.le_of_ble_eq_true rfl) (by dsimp only; omega) (by dsimp only; omega) rfl rfl c_64.1 c_64.2 dX8_piece_46 (pc' := 49) rfl (fun M_65 h m_67 => ?_)
  exact r_aret (x := (some b_60)) C hE c_64.1 c_64.2 dX8_piece_49 ⟨_, rfl, h⟩
set_option maxHeartbeats 4000000 in
theorem S_X8_piece {D : DD} {l : Launch} {Rc : RT} {fd ld : Nat} (hRc : SndR D l Rc fd ld) {bc bs : Nat} {M : MM} {a0 : Nat} {Post : Option Nat → MM → Prop} (k_a0 : mkd M a0 = 8) (h : wp_X8_piece D Rc bc bs M a0 Post) : mMet D l yX8_piece cX8_piece 4 ((some (.object "LandingTree$Condition"))) { frames := fd + 2, cells := bc, slots := bs, locals := ld + 60 } M [.ref a0] (pR_ Post) := by
  refine m_of2 [(0, .ref a0)] (by decide +kernel) (Nat.le_of_ble_eq_true rfl) rfl (fun E hED hEl C hE => ?_)
  subst hED
  subst hEl
  unfold wp_X8_piece at h
  have hb1 := hRc.1
  have hb2 := hRc.2.1
  refine r_aload_n C dX8_piece_0 (pc' := 1) rfl (j := 0) rfl ?_
  refine r_callVi (As := []) (rest := []) (Cn := RX8) (T := TX8) C k_a0 (by decide) vc_X8 (S_X8_here k_a0 h) (lw_V q551 q553 qs4 q114 q554) rfl hd_X8_here rfl rfl (Nat.le_of_ble_eq_true rfl) (by dsimp only; omega) (by dsimp only; omega) rfl rfl (Nat.zero_le _) (Nat.zero_le _) dX8_piece_1 (pc' := 4) rfl (fun r_2 M_1 h m_3 => ?_)
  refine r_istore_n C (lv' := [(1, .int r_2), (0, .ref a0)]) dX8_piece_4 (pc' := 5) rfl rfl r_2 rfl (Nat.le_of_ble_eq_true rfl) rfl ?_
  refine r_iload_n C dX8_piece_5 (pc' := 6) rfl (j := 0) rfl ?_
  refine r_bipush C dX8_piece_6 (pc' := 8) rfl (v := 33) rfl ?_
  refine r_icmp_ne C dX8_piece_8 (pc' := 11) rfl (tgt := 50) (by decide) (fun c_4 => ?_) (fun c_4 => ?_)
  · have h := it_f h c_4
    refine r_iload_n C dX8_piece_50 (pc' := 51) rfl (j := 0) rfl ?_
    refine r_bipush C dX8_piece_51 (pc' := 53) rfl (v := 40) rfl ?_
    refine r_icmp_ne C dX8_piece_53 (pc' := 56) rfl (tgt := 61) (by decide) (fun c_5 => ?_) (fun c_5 => ?_)
    · have h := it_f h c_5
      refine r_aload_n C dX8_piece_61 (pc' := 62) rfl (j := 1) rfl ?_
      obtain ⟨c_6, s_7, c_8, h⟩ := h
      refine r_callVq (As := []) (rest := []) (Cn := RX8) (T := TX8) C (mMo.kd m_3 k_a0 (by decide)) (by decide) vc_X8 (hRc.2.2.2.2.1 (mMo.kd m_3 k_a0 (by decide)) h) (lw_V q643 q645 qs6 q114 q646) rfl hd_X8_sum rfl rfl (Nat.le_of_ble_eq_true rfl) (by dsimp only; omega) (by dsimp only; omega) rfl rfl c_8.1 c_8.2 dX8_piece_62 (pc' := 65) rfl (fun r_10 M_9 h m_11 => ?_)
      refine r_astore_nq C (lv' := [(2, va_rf r_10), (1, .int r_2), (0, .ref a0)]) dX8_piece_65 (pc' := 66) rfl rfl (Nat.le_of_ble_eq_true rfl) rfl ?_
      refine r_aload_n C dX8_piece_66 (pc' := 67) rfl (j := 2) rfl ?_
      refine r_callVi (As := []) (rest := []) (Cn := RX8) (T := TX8) C (mMo.kd m_11 (mMo.kd m_3 k_a0 (by decide)) (by decide)) (by decide) vc_X8 (S_X8_here (mMo.kd m_11 (mMo.kd m_3 k_a0 (by decide)) (by decide)) h) (lw_V q551 q553 qs4 q114 q554) rfl hd_X8_here rfl rfl (Nat.le_of_ble_eq_true rfl) (by dsimp only; omega) (by dsimp only; omega) rfl rfl c_8.1 c_8.2 dX8_piece_67 (pc' := 70) rfl (fun r_13 M_12 h m_14 => ?_)
      refine r_istore_n C (lv' := [(3, .int r_13), (2, va_rf r_10), (1, .int r_2), (0, .ref a0)]) dX8_piece_70 (pc' := 71) rfl rfl r_13 rfl (Nat.le_of_ble_eq_true rfl) (by cases r_10 <;> rfl) ?_
      refine r_iload_n C dX8_piece_71 (pc' := 72) rfl (j := 0) rfl ?_
      refine r_bipush C dX8_piece_72 (pc' := 74) rfl (v := 60) rfl ?_
      refine r_icmp_eq C dX8_piece_74 (pc' := 77) rfl (tgt := 98) (by decide) (fun c_15 => ?_) (fun c_15 => ?_)
      · have h := it_t h c_15
        refine r_sub (lv' := [(0, .ref a0), (2, va_rf r_10), (3, .int r_13)]) [3, 1, 0] rfl ?_
        exact B_X8_piece_98 hRc C hE c_8.1 c_8.2 (mMo.kd m_14 (mMo.kd m_11 (mMo.kd m_3 k_a0 (by decide)) (by decide)) (by decide)) h
      · have h := it_f h c_15
        refine r_iload_n C dX8_piece_77 (pc' := 78) rfl (j := 0) rfl ?_
        refine r_bipush C dX8_piece_78 (pc' := 80) rfl (v := 62) rfl ?_
        refine r_icmp_eq C dX8_piece_80 (pc' := 83) rfl (tgt := 98) (by decide) (fun c_38 => ?_) (fun c_38 => ?_)
        · have h := it_t h c_38
          refine r_sub (lv' := [(0, .ref a0), (2, va_rf r_10), (3, .int r_13)]) [3, 1, 0] rfl ?_
          exact B_X8_piece_98 hRc C hE c_8.1 c_8.2 (mMo.kd m_14 (mMo.kd m_11 (mMo.kd m_3 k_a0 (by decide)) (by decide)) (by decide)) h
        · have h := it_f h c_38
          refine r_iload_n C dX8_piece_83 (pc' := 84) rfl (j := 0) rfl ?_
          refine r_bipush C dX8_piece_84 (pc' := 86) rfl (v := 61) rfl ?_
          refine r_icmp_eq C dX8_piece_86 (pc' := 89) rfl (tgt := 98) (by decide) (fun c_39 => ?_) (fun c_39 => ?_)
          · have h := it_t h c_39
            refine r_sub (lv' := [(0, .ref a0), (2, va_rf r_10), (3, .int r_13)]) [3, 1, 0] rfl ?_
            exact B_X8_piece_98 hRc C hE c_8.1 c_8.2 (mMo.kd m_14 (mMo.kd m_11 (mMo.kd m_3 k_a0 (by decide)) (by decide)) (by decide)) h
          · have h := it_f h c_39
            refine r_aload_n C dX8_piece_89 (pc' := 90) rfl (j := 3) rfl ?_
            refine r_iconst C dX8_piece_90 (pc' := 91) rfl (v := 1) rfl ?_
            refine r_aload_n C dX8_piece_91 (pc' := 92) rfl (j := 3) rfl ?_
            refine r_getf C (Cn := RX8) (T := TX8) 3 (mMo.kd m_14 (mMo.kd m_11 (mMo.kd m_3 k_a0 (by decide)) (by decide)) (by decide)) (by decide) vc_X8 in_X8 (by decide) q517 dX8_piece_92 (pc' := 95) rfl (v := .int (mgI M_12 a0 3)) rfl ?_
            refine r_callVv (As := [.int (1 : Int32), .int (mgI M_12 a0 3)]) (rest := []) (Cn := RX8) (T := TX8) C (mMo.kd m_14 (mMo.kd m_11 (mMo.kd m_3 k_a0 (by decide)) (by decide)) (by decide)) (by decide) vc_X8 (S_X8_bad (mMo.kd m_14 (mMo.kd m_11 (mMo.kd m_3 k_a0 (by decide)) (by decide)) (by decide)) h) (lw_V q639 q641 qs5 q114 q642) rfl hd_X8_bad rfl rfl (Nat.le_of_ble_eq_true rfl) (by dsimp only; omega) (by dsimp only; omega) rfl rfl c_8.1 c_8.2 dX8_piece_95 (pc' := 98) rfl (fun M_40 h m_42 => ?_)
            refine r_sub (lv' := [(0, .ref a0), (2, va_rf r_10), (3, .int r_13)]) [3, 1, 0] rfl ?_
            exact B_X8_piece_98 hRc C hE c_8.1 c_8.2 (mMo.kd m_42 (mMo.kd m_14 (mMo.kd m_11 (mMo.kd m_3 k_a0 (by decide)) (by decide)) (by decide)) (by decide)) h
    · have h := it_t h c_5
      refine r_aload_n C dX8_piece_56 (pc' := 57) rfl (j := 1) rfl ?_
      obtain ⟨c_43, s_44, c_45, h⟩ := h
      refine r_callVq (As := []) (rest := []) (Cn := RX8) (T := TX8) C (mMo.kd m_3 k_a0 (by decide)) (by decide) vc_X8 (hRc.2.2.2.2.2.2.2 (mMo.kd m_3 k_a0 (by decide)) h) (lw_V q712 q714 qs13 q114 q715) rfl hd_X8_condition rfl rfl (Nat.le_of_ble_eq_true rfl) (by dsimp only; omega) (by dsimp only; omega) rfl rfl c_45.1 c_45.2 dX8_piece_57 (pc' := 60) rfl (fun r_47 M_46 h m_48 => ?_)
      exact r_aret (x := r_47) C hE c_45.1 c_45.2 dX8_piece_60 ⟨_, rfl, h⟩
  · have h := it_t h c_4
    refine r_aload_n C dX8_piece_11 (pc' := 12) rfl (j := 1) rfl ?_
    refine r_callVv (As := []) (rest := []) (Cn := RX8) (T := TX8) C (mMo.kd m_3 k_a0 (by decide)) (by decide) vc_X8 (S_X8_opens (mMo.kd m_3 k_a0 (by decide)) h) (lw_V q657 q659 qs9 q114 q660) rfl hd_X8_opens rfl rfl (Nat.le_of_ble_eq_true rfl) (by dsimp only; omega) (by dsimp only; omega) rfl rfl (Nat.zero_le _) (Nat.zero_le _) dX8_piece_12 (pc' := 15) rfl (fun M_49 h m_51 => ?_)
    refine r_aload_n C dX8_piece_15 (pc' := 16) rfl (j := 1) rfl ?_
    refine r_callVi (As := []) (rest := []) (Cn := RX8) (T := TX8) C (mMo.kd m_51 (mMo.kd m_3 k_a0 (by decide)) (by decide)) (by decide) vc_X8 (S_X8_isGood (mMo.kd m_51 (mMo.kd m_3 k_a0 (by decide)) (by decide)) h) (lw_V q543 q545 qs2 q114 q546) rfl hd_X8_isGood rfl rfl (Nat.le_of_ble_eq_true rfl) (by dsimp only; omega) (by dsimp only; omega) rfl rfl (Nat.zero_le _) (Nat.zero_le _) dX8_piece_16 (pc' := 19) rfl (fun r_53 M_52 h m_54 => ?_)
    refine r_if_eq C dX8_piece_19 (pc' := 22) rfl (tgt := 29) (by decide) (fun c_55 => ?_) (fun c_55 => ?_)
    · have h := it_t h c_55
      refine r_null C dX8_piece_29 (pc' := 30) rfl ?_
      refine r_sub (lv' := [(0, .ref a0)]) [1] rfl ?_
      exact B_X8_piece_30 hRc C hE (Nat.zero_le _) (Nat.zero_le _) (mMo.kd m_54 (mMo.kd m_51 (mMo.kd m_3 k_a0 (by decide)) (by decide)) (by decide)) h
    · have h := it_f h c_55
      refine r_aload_n C dX8_piece_22 (pc' := 23) rfl (j := 1) rfl ?_
      obtain ⟨c_68, s_69, c_70, h⟩ := h
      refine r_callVq (As := []) (rest := []) (Cn := RX8) (T := TX8) C (mMo.kd m_54 (mMo.kd m_51 (mMo.kd m_3 k_a0 (by decide)) (by decide)) (by decide)) (by decide) vc_X8 (hRc.2.2.2.2.2.1 (mMo.kd m_54 (mMo.kd m_51 (mMo.kd m_3 k_a0 (by decide)) (by decide)) (by decide)) h) (lw_V q722 q724 qs15 q114 q725) rfl hd_X8_piece rfl rfl (Nat.le_of_ble_eq_true rfl) (by dsimp only; omega) (by dsimp only; omega) rfl rfl c_70.1 c_70.2 dX8_piece_23 (pc' := 26) rfl (fun r_72 M_71 h m_73 => ?_)
      refine r_goto C dX8_piece_26 (tgt := 30) (by decide) ?_
      refine r_sub (lv' := [(0, .ref a0)]) [1] rfl ?_
      exact B_X8_piece_30 hRc C hE c_70.1 c_70.2 (mMo.kd m_73 (mMo.kd m_54 (mMo.kd m_51 (mMo.kd m_3 k_a0 (by decide)) (by decide)) (by decide)) (by decide)) h
set_option maxHeartbeats 4000000 in
theorem B_X8_pieces_15 {E : mE} {Rc : RT} {fd ld : Nat} {bc bs : Nat} {a0 : Nat} {a1 : Nat} {X65 : Nat → Nat → MM → Prop} {Post : Option Nat → MM → Prop} (hRc : SndR E.2.1 E.1.2.1 Rc fd ld) (C : mC E yX8_pieces cX8_pieces 3 ((some (.object "LandingTree$Condition"))) { frames := fd + 2, cells := bc, slots := bs, locals := ld + 60 }) (hE : mEnd E { frames := fd + 2, cells := bc, slots := bs, locals := ld + 60 } (pR_ Post)) : ∀ (n_ : Nat) (k n : Nat) (M : MM) (o2 : Option Nat), k ≤ bc → n ≤ bs → mkd M a0 = 8 → mkd M a1 = 12 → wl_X8_pieces_15 E.2.1 Rc bc bs a0 a1 X65 n_ k n M o2 → (∀ (k' n' : Nat) (M' : MM), k' ≤ bc → n' ≤ bs → mMo M M' → X65 k' n' M' → mV E M' k' n' 65 [(1, .ref a1)] []) → mV E M k n 15 [(0, .ref a0), (1, .ref a1), (2, va_rf o2)] [] := by
  intro n_
  induction n_ with
  | zero =>
    intro k n M o2 hkb hnb k_a0 k_a1 h hX65
    exact absurd h (by rw [wl_X8_pieces_15]; exact fun q => q)
  | succ n_ ih =>
    intro k n M o2 hkb hnb k_a0 k_a1 h hX65
    rw [wl_X8_pieces_15] at h
    have hb1 := hRc.1
    have hb2 := hRc.2.1
    refine r_aload_n C dX8_pieces_15 (pc' := 16) rfl (j := 0) rfl ?_
    refine r_callVi (As := []) (rest := []) (Cn := RX8) (T := TX8) C k_a0 (by decide) vc_X8 (S_X8_isGood k_a0 h) (lw_V q543 q545 qs2 q114 q546) rfl hd_X8_isGood rfl rfl (Nat.le_of_ble_eq_true rfl) (by dsimp only; omega) (by dsimp only; omega) rfl rfl hkb hnb dX8_pieces_16 (pc' := 19) rfl (fun r_18 M_17 h m_19 => ?_)
    refine r_if_eq C dX8_pieces_19 (pc' := 22) rfl (tgt := 65) (by decide) (fun c_20 => ?_) (fun c_20 => ?_)
    · have h := it_t h c_20
      refine r_sub (lv' := [(1, .ref a1)]) [1] rfl ?_
      exact hX65 k n M_17 hkb hnb m_19 h
    · have h := it_f h c_20
      refine r_aload_n C dX8_pieces_22 (pc' := 23) rfl (j := 0) rfl ?_
      refine r_callVi (As := []) (rest := []) (Cn := RX8) (T := TX8) C (mMo.kd m_19 k_a0 (by decide)) (by decide) vc_X8 (S_X8_here (mMo.kd m_19 k_a0 (by decide)) h) (lw_V q551 q553 qs4 q114 q554) rfl hd_X8_here rfl rfl (Nat.le_of_ble_eq_true rfl) (by dsimp only; omega) (by dsimp only; omega) rfl rfl hkb hnb dX8_pieces_23 (pc' := 26) rfl (fun r_22 M_21 h m_23 => ?_)
      refine r_bipush C dX8_pieces_26 (pc' := 28) rfl (v := 38) rfl ?_
      refine r_icmp_ne C dX8_pieces_28 (pc' := 31) rfl (tgt := 65) (by decide) (fun c_24 => ?_) (fun c_24 => ?_)
      · have h := it_f h c_24
        refine r_sub (lv' := [(1, .ref a1)]) [1] rfl ?_
        exact hX65 k n M_21 hkb hnb (mMo.tr m_19 m_23) h
      · have h := it_t h c_24
        refine r_aload_n C dX8_pieces_31 (pc' := 32) rfl (j := 0) rfl ?_
        refine r_dup C dX8_pieces_32 (pc' := 33) rfl rfl ?_
        refine r_getf C (Cn := RX8) (T := TX8) 3 (mMo.kd m_23 (mMo.kd m_19 k_a0 (by decide)) (by decide)) (by decide) vc_X8 in_X8 (by decide) q517 dX8_pieces_33 (pc' := 36) rfl (v := .int (mgI M_21 a0 3)) rfl ?_
        refine r_iconst C dX8_pieces_36 (pc' := 37) rfl (v := 1) rfl ?_
        refine r_iadd C dX8_pieces_37 (pc' := 38) rfl ?_
        obtain ⟨M_25, e_26, h⟩ := bn_ h
        refine r_putI C (Cn := RX8) (T := TX8) tyX8 3 (mMo.kd m_23 (mMo.kd m_19 k_a0 (by decide)) (by decide)) (by decide) vc_X8 in_X8 tyX8_ok nmX8 (by decide) q517 rfl rfl dX8_pieces_38 (pc' := 41) rfl rfl rfl M_25 e_26 ?_
        refine r_aload_nq C dX8_pieces_41 (pc' := 42) rfl (j := 2) rfl ?_
        obtain ⟨b_29, e_30, h⟩ := bn_ h
        obtain ⟨M_31, e_32, h⟩ := bn_ h
        obtain ⟨c_33, h⟩ := h
        refine r_new C (Cn := RX14) (T := TX14) tyX14 (by decide) vc_X14 in_X14 tyX14_ok df_X14 q716 q717 q125 c_33.1 c_33.2 dX8_pieces_42 (pc' := 45) rfl b_29 e_30 M_31 e_32 (fun m_27 k_28 => ?_)
        refine r_dup C dX8_pieces_45 (pc' := 46) rfl rfl ?_
        refine r_aload_n C dX8_pieces_46 (pc' := 47) rfl (j := 0) rfl ?_
        obtain ⟨c_34, s_35, c_36, h⟩ := h
        refine r_callVq (As := []) (rest := [.ref b_29, .ref b_29, va_rf o2]) (Cn := RX8) (T := TX8) C (mMo.kd m_27 (mMo.kd (mo_I e_26) (mMo.kd m_23 (mMo.kd m_19 k_a0 (by decide)) (by decide)) (by decide)) (by decide)) (by decide) vc_X8 (hRc.2.2.2.2.2.1 (mMo.kd m_27 (mMo.kd (mo_I e_26) (mMo.kd m_23 (mMo.kd m_19 k_a0 (by decide)) (by decide)) (by decide)) (by decide)) h) (lw_V q722 q724 qs15 q114 q725) rfl hd_X8_piece rfl rfl (by cases o2 <;> exact Nat.le_of_ble_eq_true rfl) (by dsimp only; omega) (by dsimp only; omega) rfl rfl c_36.1 c_36.2 dX8_pieces_47 (pc' := 50) rfl (fun r_38 M_37 h m_39 => ?_)
        refine r_iconst C dX8_pieces_50 (pc' := 51) rfl (v := 0) rfl ?_
        refine r_callIv (As := [va_rf r_38, .int (0 : Int32)]) (rest := [.ref b_29, va_rf o2]) C (S_X14_init (mMo.kd m_39 k_28 (by decide)) h) q757 q125 q755 q756 rfl rfl hd_X14_init rfl rfl (by cases o2 <;> exact Nat.le_of_ble_eq_true rfl) (by dsimp only; omega) (by dsimp only; omega) rfl rfl c_36.1 c_36.2 dX8_pieces_51 (pc' := 54) rfl (fun M_40 h m_42 => ?_)
        obtain ⟨b_43, e_44, k_45, h⟩ := h
        refine r_ref [.ref b_29] e_44 ?_
        obtain ⟨M_46, e_47, h⟩ := bn_ h
        refine r_putRN C (Cn := RX14) (T := TX14) (x := (some b_29)) tyX14 2 k_45 (by decide) vc_X14 in_X14 tyX14_ok nmX14 (by decide) (List.mem_of_getElem? (i := 41) rfl) rfl rfl dX8_pieces_54 (pc' := 57) rfl (nO_ _) (fO_ _) M_46 e_47 ?_
        refine r_aload_nq C dX8_pieces_57 (pc' := 58) rfl (j := 2) rfl ?_
        obtain ⟨b_48, e_49, k_50, h⟩ := h
        refine r_ref [] e_49 ?_
        refine r_getfN C (Cn := RX14) (T := TX14) 2 k_50 (by decide) vc_X14 in_X14 (by decide) (List.mem_of_getElem? (i := 41) rfl) dX8_pieces_58 (pc' := 61) rfl (v := va_rf (mgR M_46 b_48 2)) rfl ?_
        refine r_astore_nq C (lv' := [(2, va_rf (mgR M_46 b_48 2)), (0, .ref a0), (1, .ref a1)]) dX8_pieces_61 (pc' := 62) rfl rfl (Nat.le_of_ble_eq_true rfl) rfl ?_
        refine r_goto C dX8_pieces_62 (tgt := 15) (by decide) ?_
        refine r_sub (lv' := [(0, .ref a0), (1, .ref a1), (2, va_rf (mgR M_46 b_48 2))]) [1, 2, 0] rfl ?_
        exact ih ((k + 1) + c_34) ((n + 3) + s_35) M_46 (mgR M_46 b_48 2) c_36.1 c_36.2 (mMo.kd (mo_R e_47) (mMo.kd m_42 (mMo.kd m_39 (mMo.kd m_27 (mMo.kd (mo_I e_26) (mMo.kd m_23 (mMo.kd m_19 k_a0 (by decide)) (by decide)) (by decide)) (by decide)) (by decide)) (by decide)) (by decide)) (mMo.kd (mo_R e_47) (mMo.kd m_42 (mMo.kd m_39 (mMo.kd m_27 (mMo.kd (mo_I e_26) (mMo.kd m_23 (mMo.kd m_19 k_a1 (by decide)) (by decide)) (by decide)) (by decide)) (by decide)) (by decide)) (by decide)) h (fun k9 n9 M9 b9 c9 hm9 h9 => hX65 k9 n9 M9 b9 c9 (mMo.tr (mMo.tr (mMo.tr (mMo.tr (mMo.tr (mMo.tr (mMo.tr m_19 m_23) (mo_I e_26)) m_27) m_39) m_42) (mo_R e_47)) hm9) h9)
set_option maxHeartbeats 4000000 in
theorem S_X8_pieces {D : DD} {l : Launch} {Rc : RT} {fd ld : Nat} (hRc : SndR D l Rc fd ld) {bc bs : Nat} {M : MM} {a0 : Nat} {Post : Option Nat → MM → Prop} (k_a0 : mkd M a0 = 8) (h : wp_X8_pieces D Rc bc bs M a0 Post) : mMet D l yX8_pieces cX8_pieces 3 ((some (.object "LandingTree$Condition"))) { frames := fd + 2, cells := bc, slots := bs, locals := ld + 60 } M [.ref a0] (pR_ Post) := by
  refine m_of2 [(0, .ref a0)] (by decide +kernel) (Nat.le_of_ble_eq_true rfl) rfl (fun E hED hEl C hE => ?_)
  subst hED
  subst hEl
  unfold wp_X8_pieces at h
  have hb1 := hRc.1
  have hb2 := hRc.2.1
  obtain ⟨b_3, e_4, h⟩ := bn_ h
  obtain ⟨M_5, e_6, h⟩ := bn_ h
  obtain ⟨c_7, h⟩ := h
  refine r_new C (Cn := RX14) (T := TX14) tyX14 (by decide) vc_X14 in_X14 tyX14_ok df_X14 q716 q717 q125 c_7.1 c_7.2 dX8_pieces_0 (pc' := 3) rfl b_3 e_4 M_5 e_6 (fun m_1 k_2 => ?_)
  refine r_dup C dX8_pieces_3 (pc' := 4) rfl rfl ?_
  refine r_aload_n C dX8_pieces_4 (pc' := 5) rfl (j := 0) rfl ?_
  obtain ⟨c_8, s_9, c_10, h⟩ := h
  refine r_callVq (As := []) (rest := [.ref b_3, .ref b_3]) (Cn := RX8) (T := TX8) C (mMo.kd m_1 k_a0 (by decide)) (by decide) vc_X8 (hRc.2.2.2.2.2.1 (mMo.kd m_1 k_a0 (by decide)) h) (lw_V q722 q724 qs15 q114 q725) rfl hd_X8_piece rfl rfl (Nat.le_of_ble_eq_true rfl) (by dsimp only; omega) (by dsimp only; omega) rfl rfl c_10.1 c_10.2 dX8_pieces_5 (pc' := 8) rfl (fun r_12 M_11 h m_13 => ?_)
  refine r_iconst C dX8_pieces_8 (pc' := 9) rfl (v := 0) rfl ?_
  refine r_callIv (As := [va_rf r_12, .int (0 : Int32)]) (rest := [.ref b_3]) C (S_X14_init (mMo.kd m_13 k_2 (by decide)) h) q757 q125 q755 q756 rfl rfl hd_X14_init rfl rfl (Nat.le_of_ble_eq_true rfl) (by dsimp only; omega) (by dsimp only; omega) rfl rfl c_10.1 c_10.2 dX8_pieces_9 (pc' := 12) rfl (fun M_14 h m_16 => ?_)
  refine r_astore_n C (lv' := [(1, .ref b_3), (0, .ref a0)]) dX8_pieces_12 (pc' := 13) rfl rfl b_3 rfl (Nat.le_of_ble_eq_true rfl) rfl ?_
  refine r_aload_n C dX8_pieces_13 (pc' := 14) rfl (j := 0) rfl ?_
  refine r_astore_n C (lv' := [(2, .ref b_3), (1, .ref b_3), (0, .ref a0)]) dX8_pieces_14 (pc' := 15) rfl rfl b_3 rfl (Nat.le_of_ble_eq_true rfl) rfl ?_
  obtain ⟨n_51, h⟩ := h
  refine r_sub (lv' := [(0, .ref a0), (1, .ref b_3), (2, va_rf (some b_3))]) [2, 1, 0] rfl ?_
  refine B_X8_pieces_15 hRc C hE n_51 ((0 + 1) + c_8) ((0 + 3) + s_9) M_14 (some b_3) c_10.1 c_10.2 (mMo.kd m_16 (mMo.kd m_13 (mMo.kd m_1 k_a0 (by decide)) (by decide)) (by decide)) (mMo.kd m_16 (mMo.kd m_13 k_2 (by decide)) (by decide)) h (fun k_54 n_55 M_52 b_56 c_57 m_53 h => ?_)
  refine r_aload_n C dX8_pieces_65 (pc' := 66) rfl (j := 0) rfl ?_
  exact r_aret (x := (some b_3)) C hE b_56 c_57 dX8_pieces_66 ⟨_, rfl, h⟩
set_option maxHeartbeats 4000000 in
theorem B_X8_condition_30 {E : mE} {Rc : RT} {fd ld : Nat} {bc bs : Nat} {a0 : Nat} {o1 : Option Nat} {X80 : Nat → Nat → MM → Prop} {Post : Option Nat → MM → Prop} (hRc : SndR E.2.1 E.1.2.1 Rc fd ld) (C : mC E yX8_condition cX8_condition 3 ((some (.object "LandingTree$Condition"))) { frames := fd + 2, cells := bc, slots := bs, locals := ld + 60 }) (hE : mEnd E { frames := fd + 2, cells := bc, slots := bs, locals := ld + 60 } (pR_ Post)) : ∀ (n_ : Nat) (k n : Nat) (M : MM) (o2 : Option Nat), k ≤ bc → n ≤ bs → mkd M a0 = 8 → wl_X8_condition_30 E.2.1 Rc bc bs a0 o1 X80 n_ k n M o2 → (∀ (k' n' : Nat) (M' : MM), k' ≤ bc → n' ≤ bs → mMo M M' → X80 k' n' M' → mV E M' k' n' 80 [(0, .ref a0), (1, va_rf o1)] []) → mV E M k n 30 [(0, .ref a0), (1, va_rf o1), (2, va_rf o2)] [] := by
  intro n_
  induction n_ with
  | zero =>
    intro k n M o2 hkb hnb k_a0 h hX80
    exact absurd h (by rw [wl_X8_condition_30]; exact fun q => q)
  | succ n_ ih =>
    intro k n M o2 hkb hnb k_a0 h hX80
    rw [wl_X8_condition_30] at h
    have hb1 := hRc.1
    have hb2 := hRc.2.1
    refine r_aload_n C dX8_condition_30 (pc' := 31) rfl (j := 0) rfl ?_
    refine r_callVi (As := []) (rest := []) (Cn := RX8) (T := TX8) C k_a0 (by decide) vc_X8 (S_X8_isGood k_a0 h) (lw_V q543 q545 qs2 q114 q546) rfl hd_X8_isGood rfl rfl (Nat.le_of_ble_eq_true rfl) (by dsimp only; omega) (by dsimp only; omega) rfl rfl hkb hnb dX8_condition_31 (pc' := 34) rfl (fun r_9 M_8 h m_10 => ?_)
    refine r_if_eq C dX8_condition_34 (pc' := 37) rfl (tgt := 80) (by decide) (fun c_11 => ?_) (fun c_11 => ?_)
    · have h := it_t h c_11
      refine r_sub (lv' := [(0, .ref a0), (1, va_rf o1)]) [0, 1] rfl ?_
      exact hX80 k n M_8 hkb hnb m_10 h
    · have h := it_f h c_11
      refine r_aload_n C dX8_condition_37 (pc' := 38) rfl (j := 0) rfl ?_
      refine r_callVi (As := []) (rest := []) (Cn := RX8) (T := TX8) C (mMo.kd m_10 k_a0 (by decide)) (by decide) vc_X8 (S_X8_here (mMo.kd m_10 k_a0 (by decide)) h) (lw_V q551 q553 qs4 q114 q554) rfl hd_X8_here rfl rfl (Nat.le_of_ble_eq_true rfl) (by dsimp only; omega) (by dsimp only; omega) rfl rfl hkb hnb dX8_condition_38 (pc' := 41) rfl (fun r_13 M_12 h m_14 => ?_)
      refine r_bipush C dX8_condition_41 (pc' := 43) rfl (v := 124) rfl ?_
      refine r_icmp_ne C dX8_condition_43 (pc' := 46) rfl (tgt := 80) (by decide) (fun c_15 => ?_) (fun c_15 => ?_)
      · have h := it_f h c_15
        refine r_sub (lv' := [(0, .ref a0), (1, va_rf o1)]) [0, 1] rfl ?_
        exact hX80 k n M_12 hkb hnb (mMo.tr m_10 m_14) h
      · have h := it_t h c_15
        refine r_aload_n C dX8_condition_46 (pc' := 47) rfl (j := 0) rfl ?_
        refine r_dup C dX8_condition_47 (pc' := 48) rfl rfl ?_
        refine r_getf C (Cn := RX8) (T := TX8) 3 (mMo.kd m_14 (mMo.kd m_10 k_a0 (by decide)) (by decide)) (by decide) vc_X8 in_X8 (by decide) q517 dX8_condition_48 (pc' := 51) rfl (v := .int (mgI M_12 a0 3)) rfl ?_
        refine r_iconst C dX8_condition_51 (pc' := 52) rfl (v := 1) rfl ?_
        refine r_iadd C dX8_condition_52 (pc' := 53) rfl ?_
        obtain ⟨M_16, e_17, h⟩ := bn_ h
        refine r_putI C (Cn := RX8) (T := TX8) tyX8 3 (mMo.kd m_14 (mMo.kd m_10 k_a0 (by decide)) (by decide)) (by decide) vc_X8 in_X8 tyX8_ok nmX8 (by decide) q517 rfl rfl dX8_condition_53 (pc' := 56) rfl rfl rfl M_16 e_17 ?_
        refine r_aload_nq C dX8_condition_56 (pc' := 57) rfl (j := 2) rfl ?_
        obtain ⟨b_20, e_21, h⟩ := bn_ h
        obtain ⟨M_22, e_23, h⟩ := bn_ h
        obtain ⟨c_24, h⟩ := h
        refine r_new C (Cn := RX14) (T := TX14) tyX14 (by decide) vc_X14 in_X14 tyX14_ok df_X14 q716 q717 q125 c_24.1 c_24.2 dX8_condition_57 (pc' := 60) rfl b_20 e_21 M_22 e_23 (fun m_18 k_19 => ?_)
        refine r_dup C dX8_condition_60 (pc' := 61) rfl rfl ?_
        refine r_aload_n C dX8_condition_61 (pc' := 62) rfl (j := 0) rfl ?_
        obtain ⟨c_25, s_26, c_27, h⟩ := h
        refine r_callVq (As := []) (rest := [.ref b_20, .ref b_20, va_rf o2]) (Cn := RX8) (T := TX8) C (mMo.kd m_18 (mMo.kd (mo_I e_17) (mMo.kd m_14 (mMo.kd m_10 k_a0 (by decide)) (by decide)) (by decide)) (by decide)) (by decide) vc_X8 (hRc.2.2.2.2.2.2.1 (mMo.kd m_18 (mMo.kd (mo_I e_17) (mMo.kd m_14 (mMo.kd m_10 k_a0 (by decide)) (by decide)) (by decide)) (by decide)) h) (lw_V q718 q720 qs14 q114 q721) rfl hd_X8_pieces rfl rfl (by cases o2 <;> exact Nat.le_of_ble_eq_true rfl) (by dsimp only; omega) (by dsimp only; omega) rfl rfl c_27.1 c_27.2 dX8_condition_62 (pc' := 65) rfl (fun r_29 M_28 h m_30 => ?_)
        refine r_iconst C dX8_condition_65 (pc' := 66) rfl (v := 1) rfl ?_
        refine r_callIv (As := [va_rf r_29, .int (1 : Int32)]) (rest := [.ref b_20, va_rf o2]) C (S_X14_init (mMo.kd m_30 k_19 (by decide)) h) q757 q125 q755 q756 rfl rfl hd_X14_init rfl rfl (by cases o2 <;> exact Nat.le_of_ble_eq_true rfl) (by dsimp only; omega) (by dsimp only; omega) rfl rfl c_27.1 c_27.2 dX8_condition_66 (pc' := 69) rfl (fun M_31 h m_33 => ?_)
        obtain ⟨b_34, e_35, k_36, h⟩ := h
        refine r_ref [.ref b_20] e_35 ?_
        obtain ⟨M_37, e_38, h⟩ := bn_ h
        refine r_putRN C (Cn := RX14) (T := TX14) (x := (some b_20)) tyX14 2 k_36 (by decide) vc_X14 in_X14 tyX14_ok nmX14 (by decide) (List.mem_of_getElem? (i := 41) rfl) rfl rfl dX8_condition_69 (pc' := 72) rfl (nO_ _) (fO_ _) M_37 e_38 ?_
        refine r_aload_nq C dX8_condition_72 (pc' := 73) rfl (j := 2) rfl ?_
        obtain ⟨b_39, e_40, k_41, h⟩ := h
        refine r_ref [] e_40 ?_
        refine r_getfN C (Cn := RX14) (T := TX14) 2 k_41 (by decide) vc_X14 in_X14 (by decide) (List.mem_of_getElem? (i := 41) rfl) dX8_condition_73 (pc' := 76) rfl (v := va_rf (mgR M_37 b_39 2)) rfl ?_
        refine r_astore_nq C (lv' := [(2, va_rf (mgR M_37 b_39 2)), (0, .ref a0), (1, va_rf o1)]) dX8_condition_76 (pc' := 77) rfl rfl (Nat.le_of_ble_eq_true rfl) (by cases o1 <;> rfl) ?_
        refine r_goto C dX8_condition_77 (tgt := 30) (by decide) ?_
        refine r_sub (lv' := [(0, .ref a0), (1, va_rf o1), (2, va_rf (mgR M_37 b_39 2))]) [1, 2, 0] rfl ?_
        exact ih ((k + 1) + c_25) ((n + 3) + s_26) M_37 (mgR M_37 b_39 2) c_27.1 c_27.2 (mMo.kd (mo_R e_38) (mMo.kd m_33 (mMo.kd m_30 (mMo.kd m_18 (mMo.kd (mo_I e_17) (mMo.kd m_14 (mMo.kd m_10 k_a0 (by decide)) (by decide)) (by decide)) (by decide)) (by decide)) (by decide)) (by decide)) h (fun k9 n9 M9 b9 c9 hm9 h9 => hX80 k9 n9 M9 b9 c9 (mMo.tr (mMo.tr (mMo.tr (mMo.tr (mMo.tr (mMo.tr (mMo.tr m_10 m_14) (mo_I e_17)) m_18) m_30) m_33) (mo_R e_38)) hm9) h9)
set_option maxHeartbeats 4000000 in
theorem B_X8_condition_93 {E : mE} {Rc : RT} {fd ld : Nat} {bc bs : Nat} {k n : Nat} {M : MM} {a0 : Nat} {o1 : Option Nat} {Post : Option Nat → MM → Prop} (hRc : SndR E.2.1 E.1.2.1 Rc fd ld) (C : mC E yX8_condition cX8_condition 3 ((some (.object "LandingTree$Condition"))) { frames := fd + 2, cells := bc, slots := bs, locals := ld + 60 }) (hE : mEnd E { frames := fd + 2, cells := bc, slots := bs, locals := ld + 60 } (pR_ Post)) (hkb : k ≤ bc) (hnb : n ≤ bs) (k_a0 : mkd M a0 = 8) (h : wb_X8_condition_93 E.2.1 Rc bc bs k n M a0 o1 Post) : mV E M k n 93 [(0, .ref a0), (1, va_rf o1)] [] := by
  unfold wb_X8_condition_93 at h
  have hb1 := hRc.1
  have hb2 := hRc.2.1
  refine r_aload_n C dX8_condition_93 (pc' := 94) rfl (j := 0) rfl ?_
  refine r_dup C dX8_condition_94 (pc' := 95) rfl rfl ?_
  refine r_getf C (Cn := RX8) (T := TX8) 4 k_a0 (by decide) vc_X8 in_X8 (by decide) q518 dX8_condition_95 (pc' := 98) rfl (v := .int (mgI M a0 4)) rfl ?_
  refine r_iconst C dX8_condition_98 (pc' := 99) rfl (v := 1) rfl ?_
  refine r_isub C dX8_condition_99 (pc' := 100) rfl ?_
  obtain ⟨M_53, e_54, h⟩ := bn_ h
  refine r_putI C (Cn := RX8) (T := TX8) tyX8 4 k_a0 (by decide) vc_X8 in_X8 tyX8_ok nmX8 (by decide) q518 rfl rfl dX8_condition_100 (pc' := 103) rfl rfl rfl M_53 e_54 ?_
  refine r_aload_nq C dX8_condition_103 (pc' := 104) rfl (j := 1) rfl ?_
  exact r_aret (x := o1) C hE hkb hnb dX8_condition_104 ⟨_, rfl, h⟩
set_option maxHeartbeats 4000000 in
theorem B_X8_condition_80 {E : mE} {Rc : RT} {fd ld : Nat} {bc bs : Nat} {k n : Nat} {M : MM} {a0 : Nat} {o1 : Option Nat} {Post : Option Nat → MM → Prop} (hRc : SndR E.2.1 E.1.2.1 Rc fd ld) (C : mC E yX8_condition cX8_condition 3 ((some (.object "LandingTree$Condition"))) { frames := fd + 2, cells := bc, slots := bs, locals := ld + 60 }) (hE : mEnd E { frames := fd + 2, cells := bc, slots := bs, locals := ld + 60 } (pR_ Post)) (hkb : k ≤ bc) (hnb : n ≤ bs) (k_a0 : mkd M a0 = 8) (h : wb_X8_condition_80 E.2.1 Rc bc bs k n M a0 o1 Post) : mV E M k n 80 [(0, .ref a0), (1, va_rf o1)] [] := by
  unfold wb_X8_condition_80 at h
  have hb1 := hRc.1
  have hb2 := hRc.2.1
  refine r_aload_n C dX8_condition_80 (pc' := 81) rfl (j := 0) rfl ?_
  refine r_callVi (As := []) (rest := []) (Cn := RX8) (T := TX8) C k_a0 (by decide) vc_X8 (S_X8_isGood k_a0 h) (lw_V q543 q545 qs2 q114 q546) rfl hd_X8_isGood rfl rfl (Nat.le_of_ble_eq_true rfl) (by dsimp only; omega) (by dsimp only; omega) rfl rfl hkb hnb dX8_condition_81 (pc' := 84) rfl (fun r_50 M_49 h m_51 => ?_)
  refine r_if_eq C dX8_condition_84 (pc' := 87) rfl (tgt := 93) (by decide) (fun c_52 => ?_) (fun c_52 => ?_)
  · have h := it_t h c_52
    refine r_sub (lv' := [(0, .ref a0), (1, va_rf o1)]) [0, 1] rfl ?_
    exact B_X8_condition_93 hRc C hE hkb hnb (mMo.kd m_51 k_a0 (by decide)) h
  · have h := it_f h c_52
    refine r_aload_n C dX8_condition_87 (pc' := 88) rfl (j := 0) rfl ?_
    refine r_bipush C dX8_condition_88 (pc' := 90) rfl (v := 41) rfl ?_
    refine r_callVv (As := [.int (41 : Int32)]) (rest := []) (Cn := RX8) (T := TX8) C (mMo.kd m_51 k_a0 (by decide)) (by decide) vc_X8 (S_X8_must (mMo.kd m_51 k_a0 (by decide)) h) (lw_V q661 q663 qs10 q114 q664) rfl hd_X8_must rfl rfl (Nat.le_of_ble_eq_true rfl) (by dsimp only; omega) (by dsimp only; omega) rfl rfl hkb hnb dX8_condition_90 (pc' := 93) rfl (fun M_55 h m_57 => ?_)
    refine r_sub (lv' := [(0, .ref a0), (1, va_rf o1)]) [0, 1] rfl ?_
    exact B_X8_condition_93 hRc C hE hkb hnb (mMo.kd m_57 (mMo.kd m_51 k_a0 (by decide)) (by decide)) h
set_option maxHeartbeats 4000000 in
theorem S_X8_condition {D : DD} {l : Launch} {Rc : RT} {fd ld : Nat} (hRc : SndR D l Rc fd ld) {bc bs : Nat} {M : MM} {a0 : Nat} {Post : Option Nat → MM → Prop} (k_a0 : mkd M a0 = 8) (h : wp_X8_condition D Rc bc bs M a0 Post) : mMet D l yX8_condition cX8_condition 3 ((some (.object "LandingTree$Condition"))) { frames := fd + 2, cells := bc, slots := bs, locals := ld + 60 } M [.ref a0] (pR_ Post) := by
  refine m_of2 [(0, .ref a0)] (by decide +kernel) (Nat.le_of_ble_eq_true rfl) rfl (fun E hED hEl C hE => ?_)
  subst hED
  subst hEl
  unfold wp_X8_condition at h
  have hb1 := hRc.1
  have hb2 := hRc.2.1
  refine r_aload_n C dX8_condition_0 (pc' := 1) rfl (j := 0) rfl ?_
  refine r_callVv (As := []) (rest := []) (Cn := RX8) (T := TX8) C k_a0 (by decide) vc_X8 (S_X8_opens k_a0 h) (lw_V q657 q659 qs9 q114 q660) rfl hd_X8_opens rfl rfl (Nat.le_of_ble_eq_true rfl) (by dsimp only; omega) (by dsimp only; omega) rfl rfl (Nat.zero_le _) (Nat.zero_le _) dX8_condition_1 (pc' := 4) rfl (fun M_1 h m_3 => ?_)
  refine r_aload_n C dX8_condition_4 (pc' := 5) rfl (j := 0) rfl ?_
  refine r_callVi (As := []) (rest := []) (Cn := RX8) (T := TX8) C (mMo.kd m_3 k_a0 (by decide)) (by decide) vc_X8 (S_X8_isGood (mMo.kd m_3 k_a0 (by decide)) h) (lw_V q543 q545 qs2 q114 q546) rfl hd_X8_isGood rfl rfl (Nat.le_of_ble_eq_true rfl) (by dsimp only; omega) (by dsimp only; omega) rfl rfl (Nat.zero_le _) (Nat.zero_le _) dX8_condition_5 (pc' := 8) rfl (fun r_5 M_4 h m_6 => ?_)
  refine r_if_eq C dX8_condition_8 (pc' := 11) rfl (tgt := 26) (by decide) (fun c_7 => ?_) (fun c_7 => ?_)
  · have h := it_t h c_7
    refine r_null C dX8_condition_26 (pc' := 27) rfl ?_
    refine r_astore_nq C (lv' := [(1, va_rf none), (0, .ref a0)]) dX8_condition_27 (pc' := 28) rfl rfl (Nat.le_of_ble_eq_true rfl) rfl ?_
    refine r_aload_nq C dX8_condition_28 (pc' := 29) rfl (j := 0) rfl ?_
    refine r_astore_nq C (lv' := [(2, va_rf none), (1, va_rf none), (0, .ref a0)]) dX8_condition_29 (pc' := 30) rfl rfl (Nat.le_of_ble_eq_true rfl) (by cases none <;> rfl) ?_
    obtain ⟨n_42, h⟩ := h
    refine r_sub (lv' := [(0, .ref a0), (1, va_rf none), (2, va_rf none)]) [2, 1, 0] rfl ?_
    refine B_X8_condition_30 hRc C hE n_42 0 0 M_4 none (Nat.zero_le _) (Nat.zero_le _) (mMo.kd m_6 (mMo.kd m_3 k_a0 (by decide)) (by decide)) h (fun k_45 n_46 M_43 b_47 c_48 m_44 h => ?_)
    refine r_sub (lv' := [(0, .ref a0), (1, va_rf none)]) [0, 1] rfl ?_
    exact B_X8_condition_80 hRc C hE b_47 c_48 (mMo.kd m_44 (mMo.kd m_6 (mMo.kd m_3 k_a0 (by decide)) (by decide)) (by decide)) h
  · have h := it_f h c_7
    obtain ⟨b_60, e_61, h⟩ := bn_ h
    obtain ⟨M_62, e_63, h⟩ := bn_ h
    obtain ⟨c_64, h⟩ := h
    refine r_new C (Cn := RX14) (T := TX14) tyX14 (by decide) vc_X14 in_X14 tyX14_ok df_X14 q716 q717 q125 c_64.1 c_64.2 dX8_condition_11 (pc' := 14) rfl b_60 e_61 M_62 e_63 (fun m_58 k_59 => ?_)
    refine r_dup C dX8_condition_14 (pc' := 15) rfl rfl ?_
    refine r_aload_n C dX8_condition_15 (pc' := 16) rfl (j := 0) rfl ?_
    obtain ⟨c_65, s_66, c_67, h⟩ := h
    refine r_callVq (As := []) (rest := [.ref b_60, .ref b_60]) (Cn := RX8) (T := TX8) C (mMo.kd m_58 (mMo.kd m_6 (mMo.kd m_3 k_a0 (by decide)) (by decide)) (by decide)) (by decide) vc_X8 (hRc.2.2.2.2.2.2.1 (mMo.kd m_58 (mMo.kd m_6 (mMo.kd m_3 k_a0 (by decide)) (by decide)) (by decide)) h) (lw_V q718 q720 qs14 q114 q721) rfl hd_X8_pieces rfl rfl (Nat.le_of_ble_eq_true rfl) (by dsimp only; omega) (by dsimp only; omega) rfl rfl c_67.1 c_67.2 dX8_condition_16 (pc' := 19) rfl (fun r_69 M_68 h m_70 => ?_)
    refine r_iconst C dX8_condition_19 (pc' := 20) rfl (v := 1) rfl ?_
    refine r_callIv (As := [va_rf r_69, .int (1 : Int32)]) (rest := [.ref b_60]) C (S_X14_init (mMo.kd m_70 k_59 (by decide)) h) q757 q125 q755 q756 rfl rfl hd_X14_init rfl rfl (Nat.le_of_ble_eq_true rfl) (by dsimp only; omega) (by dsimp only; omega) rfl rfl c_67.1 c_67.2 dX8_condition_20 (pc' := 23) rfl (fun M_71 h m_73 => ?_)
    refine r_goto C dX8_condition_23 (tgt := 27) (by decide) ?_
    refine r_astore_n C (lv' := [(1, .ref b_60), (0, .ref a0)]) dX8_condition_27 (pc' := 28) rfl rfl b_60 rfl (Nat.le_of_ble_eq_true rfl) rfl ?_
    refine r_aload_n C dX8_condition_28 (pc' := 29) rfl (j := 0) rfl ?_
    refine r_astore_n C (lv' := [(2, .ref b_60), (1, .ref b_60), (0, .ref a0)]) dX8_condition_29 (pc' := 30) rfl rfl b_60 rfl (Nat.le_of_ble_eq_true rfl) rfl ?_
    obtain ⟨n_74, h⟩ := h
    refine r_sub (lv' := [(0, .ref a0), (1, va_rf (some b_60)), (2, va_rf (some b_60))]) [2, 1, 0] rfl ?_
    refine B_X8_condition_30 hRc C hE n_74 ((0 + 1) + c_65) ((0 + 3) + s_66) M_71 (some b_60) c_67.1 c_67.2 (mMo.kd m_73 (mMo.kd m_70 (mMo.kd m_58 (mMo.kd m_6 (mMo.kd m_3 k_a0 (by decide)) (by decide)) (by decide)) (by decide)) (by decide)) h (fun k_77 n_78 M_75 b_79 c_80 m_76 h => ?_)
    refine r_sub (lv' := [(0, .ref a0), (1, va_rf (some b_60))]) [0, 1] rfl ?_
    exact B_X8_condition_80 hRc C hE b_79 c_80 (mMo.kd m_76 (mMo.kd m_73 (mMo.kd m_70 (mMo.kd m_58 (mMo.kd m_6 (mMo.kd m_3 k_a0 (by decide)) (by decide)) (by decide)) (by decide)) (by decide)) (by decide)) h
theorem sndR {D : DD} {l : Launch} : ∀ d, SndR D l (wpR D d) (20 + 2 * d) (300 + 60 * d) := by
  intro d
  induction d with
  | zero => exact ⟨by omega, by omega, fun _ h => absurd h (fun q => q), fun _ h => absurd h (fun q => q), fun _ h => absurd h (fun q => q), fun _ h => absurd h (fun q => q), fun _ h => absurd h (fun q => q), fun _ h => absurd h (fun q => q)⟩
  | succ d ih => exact ⟨by omega, by omega, fun hk h => S_X8_factor ih hk h, fun hk h => S_X8_product ih hk h, fun hk h => S_X8_sum ih hk h, fun hk h => S_X8_piece ih hk h, fun hk h => S_X8_pieces ih hk h, fun hk h => S_X8_condition ih hk h⟩

theorem hd_X8_clause : mHd yX8_clause 0 := ⟨by decide, by decide, by decide +kernel⟩
theorem hd_X8_read : mHd yX8_read 0 := ⟨by decide, by decide, by decide +kernel⟩
set_option maxHeartbeats 4000000 in
theorem B_X8_clause_121 {E : mE} {bc bs : Nat} {k n : Nat} {M : MM} {a0 : Nat} {x1 : Int32} {o2 : Option Nat} {os0 : Option Nat} {Post : MM → Prop} (C : mC E yX8_clause cX8_clause 4 (none) { frames := 141, cells := bc, slots := bs, locals := 3923 }) (hE : mEnd E { frames := 141, cells := bc, slots := bs, locals := 3923 } (pV_ Post)) (hkb : k ≤ bc) (hnb : n ≤ bs) (k_a0 : mkd M a0 = 8) (h : wb_X8_clause_121 E.2.1 bc bs k n M a0 x1 o2 os0 Post) : mV E M k n 121 [(0, .ref a0), (1, .int x1), (2, va_rf o2)] [va_rf os0] := by
  unfold wb_X8_clause_121 at h
  refine r_astore_nq C (lv' := [(3, va_rf os0), (0, .ref a0), (1, .int x1), (2, va_rf o2)]) dX8_clause_121 (pc' := 122) rfl rfl (Nat.le_of_ble_eq_true rfl) (by cases o2 <;> rfl) ?_
  refine r_aload_n C dX8_clause_122 (pc' := 123) rfl (j := 1) rfl ?_
  refine r_getf C (Cn := RX8) (T := TX8) 2 k_a0 (by decide) vc_X8 in_X8 (by decide) q515 dX8_clause_123 (pc' := 126) rfl (v := va_rf (mgR M a0 2)) rfl ?_
  obtain ⟨b_30, e_31, k_32, h⟩ := h
  refine r_ref [] e_31 ?_
  refine r_getfN C (Cn := RX6) (T := TX6) 0 k_32 (by decide) vc_X6 in_X6 (by decide) (List.mem_of_getElem? (i := 43) rfl) dX8_clause_126 (pc' := 129) rfl (v := va_rf (mgR M b_30 0)) rfl ?_
  obtain ⟨b_33, e_34, k_35, h⟩ := h
  refine r_ref [] e_34 ?_
  refine r_aload_n C dX8_clause_129 (pc' := 130) rfl (j := 1) rfl ?_
  refine r_getf C (Cn := RX8) (T := TX8) 2 k_a0 (by decide) vc_X8 in_X8 (by decide) q515 dX8_clause_130 (pc' := 133) rfl (v := va_rf (mgR M a0 2)) rfl ?_
  obtain ⟨b_36, e_37, k_38, h⟩ := h
  refine r_ref [] e_37 ?_
  refine r_getfN C (Cn := RX6) (T := TX6) 3 k_38 (by decide) vc_X6 in_X6 (by decide) (List.mem_of_getElem? (i := 42) rfl) dX8_clause_133 (pc' := 136) rfl (v := .int (mgI M b_36 3)) rfl ?_
  refine r_iload_n C dX8_clause_136 (pc' := 137) rfl (j := 2) rfl ?_
  obtain ⟨c_39, h⟩ := h
  obtain ⟨M_40, e_41, h⟩ := bn_ h
  refine r_iast C (j := (ix_ (mgI M b_36 3))) k_35 c_39 rfl dX8_clause_137 (pc' := 138) rfl M_40 e_41 ?_
  refine r_aload_n C dX8_clause_138 (pc' := 139) rfl (j := 1) rfl ?_
  refine r_getf C (Cn := RX8) (T := TX8) 2 (mMo.kd (mo_I e_41) k_a0 (by decide)) (by decide) vc_X8 in_X8 (by decide) q515 dX8_clause_139 (pc' := 142) rfl (v := va_rf (mgR M_40 a0 2)) rfl ?_
  obtain ⟨b_42, e_43, k_44, h⟩ := h
  refine r_ref [] e_43 ?_
  refine r_getfN C (Cn := RX6) (T := TX6) 1 k_44 (by decide) vc_X6 in_X6 (by decide) (List.mem_of_getElem? (i := 44) rfl) dX8_clause_142 (pc' := 145) rfl (v := va_rf (mgR M_40 b_42 1)) rfl ?_
  obtain ⟨b_45, e_46, k_47, h⟩ := h
  refine r_ref [] e_46 ?_
  refine r_aload_n C dX8_clause_145 (pc' := 146) rfl (j := 1) rfl ?_
  refine r_getf C (Cn := RX8) (T := TX8) 2 (mMo.kd (mo_I e_41) k_a0 (by decide)) (by decide) vc_X8 in_X8 (by decide) q515 dX8_clause_146 (pc' := 149) rfl (v := va_rf (mgR M_40 a0 2)) rfl ?_
  obtain ⟨b_48, e_49, k_50, h⟩ := h
  refine r_ref [] e_49 ?_
  refine r_getfN C (Cn := RX6) (T := TX6) 3 k_50 (by decide) vc_X6 in_X6 (by decide) (List.mem_of_getElem? (i := 42) rfl) dX8_clause_149 (pc' := 152) rfl (v := .int (mgI M_40 b_48 3)) rfl ?_
  refine r_aload_nq C dX8_clause_152 (pc' := 153) rfl (j := 3) rfl ?_
  obtain ⟨c_51, h⟩ := h
  obtain ⟨c_52, h⟩ := h
  obtain ⟨M_53, e_54, h⟩ := bn_ h
  refine r_aast C (o := o2) (t := 6) (j := (ix_ (mgI M_40 b_48 3))) k_47 (by decide) c_51 rfl c_52 dX8_clause_153 (pc' := 154) rfl M_53 e_54 ?_
  refine r_aload_n C dX8_clause_154 (pc' := 155) rfl (j := 1) rfl ?_
  refine r_getf C (Cn := RX8) (T := TX8) 2 (mMo.kd (mo_R e_54) (mMo.kd (mo_I e_41) k_a0 (by decide)) (by decide)) (by decide) vc_X8 in_X8 (by decide) q515 dX8_clause_155 (pc' := 158) rfl (v := va_rf (mgR M_53 a0 2)) rfl ?_
  obtain ⟨b_55, e_56, k_57, h⟩ := h
  refine r_ref [] e_56 ?_
  refine r_getfN C (Cn := RX6) (T := TX6) 2 k_57 (by decide) vc_X6 in_X6 (by decide) (List.mem_of_getElem? (i := 45) rfl) dX8_clause_158 (pc' := 161) rfl (v := va_rf (mgR M_53 b_55 2)) rfl ?_
  obtain ⟨b_58, e_59, k_60, h⟩ := h
  refine r_ref [] e_59 ?_
  refine r_aload_n C dX8_clause_161 (pc' := 162) rfl (j := 1) rfl ?_
  refine r_getf C (Cn := RX8) (T := TX8) 2 (mMo.kd (mo_R e_54) (mMo.kd (mo_I e_41) k_a0 (by decide)) (by decide)) (by decide) vc_X8 in_X8 (by decide) q515 dX8_clause_162 (pc' := 165) rfl (v := va_rf (mgR M_53 a0 2)) rfl ?_
  obtain ⟨b_61, e_62, k_63, h⟩ := h
  refine r_ref [] e_62 ?_
  refine r_getfN C (Cn := RX6) (T := TX6) 3 k_63 (by decide) vc_X6 in_X6 (by decide) (List.mem_of_getElem? (i := 42) rfl) dX8_clause_165 (pc' := 168) rfl (v := .int (mgI M_53 b_61 3)) rfl ?_
  refine r_aload_nq C dX8_clause_168 (pc' := 169) rfl (j := 0) rfl ?_
  obtain ⟨c_64, h⟩ := h
  obtain ⟨c_65, h⟩ := h
  obtain ⟨M_66, e_67, h⟩ := bn_ h
  refine r_aast C (o := os0) (t := 7) (j := (ix_ (mgI M_53 b_61 3))) k_60 (by decide) c_64 rfl c_65 dX8_clause_169 (pc' := 170) rfl M_66 e_67 ?_
  refine r_aload_n C dX8_clause_170 (pc' := 171) rfl (j := 1) rfl ?_
  refine r_getf C (Cn := RX8) (T := TX8) 2 (mMo.kd (mo_R e_67) (mMo.kd (mo_R e_54) (mMo.kd (mo_I e_41) k_a0 (by decide)) (by decide)) (by decide)) (by decide) vc_X8 in_X8 (by decide) q515 dX8_clause_171 (pc' := 174) rfl (v := va_rf (mgR M_66 a0 2)) rfl ?_
  obtain ⟨b_68, e_69, k_70, h⟩ := h
  refine r_ref [] e_69 ?_
  refine r_dup C dX8_clause_174 (pc' := 175) rfl rfl ?_
  refine r_getfN C (Cn := RX6) (T := TX6) 3 k_70 (by decide) vc_X6 in_X6 (by decide) (List.mem_of_getElem? (i := 42) rfl) dX8_clause_175 (pc' := 178) rfl (v := .int (mgI M_66 b_68 3)) rfl ?_
  refine r_iconst C dX8_clause_178 (pc' := 179) rfl (v := 1) rfl ?_
  refine r_iadd C dX8_clause_179 (pc' := 180) rfl ?_
  obtain ⟨M_71, e_72, h⟩ := bn_ h
  refine r_putIN C (Cn := RX6) (T := TX6) tyX6 3 k_70 (by decide) vc_X6 in_X6 tyX6_ok nmX6 (by decide) (List.mem_of_getElem? (i := 42) rfl) rfl rfl dX8_clause_180 (pc' := 183) rfl rfl rfl M_71 e_72 ?_
  exact r_vret C hE hkb hnb dX8_clause_183 ⟨rfl, h⟩
set_option maxHeartbeats 4000000 in
theorem B_X8_clause_106 {E : mE} {bc bs : Nat} {k n : Nat} {M : MM} {a0 : Nat} {x1 : Int32} {o2 : Option Nat} {Post : MM → Prop} (C : mC E yX8_clause cX8_clause 4 (none) { frames := 141, cells := bc, slots := bs, locals := 3923 }) (hE : mEnd E { frames := 141, cells := bc, slots := bs, locals := 3923 } (pV_ Post)) (hkb : k ≤ bc) (hnb : n ≤ bs) (k_a0 : mkd M a0 = 8) (h : wb_X8_clause_106 E.2.1 bc bs k n M a0 x1 o2 Post) : mV E M k n 106 [(0, .ref a0), (1, .int x1), (2, va_rf o2)] [] := by
  unfold wb_X8_clause_106 at h
  refine r_aload_n C dX8_clause_106 (pc' := 107) rfl (j := 0) rfl ?_
  refine r_callVi (As := []) (rest := []) (Cn := RX8) (T := TX8) C k_a0 (by decide) vc_X8 (S_X8_isGood k_a0 h) (lw_V q543 q545 qs2 q114 q546) rfl hd_X8_isGood rfl rfl (Nat.le_of_ble_eq_true rfl) (by dsimp only; omega) (by dsimp only; omega) rfl rfl hkb hnb dX8_clause_107 (pc' := 110) rfl (fun r_27 M_26 h m_28 => ?_)
  refine r_if_eq C dX8_clause_110 (pc' := 113) rfl (tgt := 120) (by decide) (fun c_29 => ?_) (fun c_29 => ?_)
  · have h := it_t h c_29
    refine r_null C dX8_clause_120 (pc' := 121) rfl ?_
    refine r_sub (lv' := [(0, .ref a0), (1, .int x1), (2, va_rf o2)]) [0, 1, 2] rfl ?_
    exact B_X8_clause_121 C hE hkb hnb (mMo.kd m_28 k_a0 (by decide)) h
  · have h := it_f h c_29
    refine r_aload_n C dX8_clause_113 (pc' := 114) rfl (j := 0) rfl ?_
    obtain ⟨c_73, s_74, c_75, h⟩ := h
    refine r_callVq (As := []) (rest := []) (Cn := RX8) (T := TX8) C (mMo.kd m_28 k_a0 (by decide)) (by decide) vc_X8 ((sndR 60).2.2.2.2.2.2.2 (mMo.kd m_28 k_a0 (by decide)) h) (lw_V q712 q714 qs13 q114 q715) rfl hd_X8_condition rfl rfl (Nat.le_of_ble_eq_true rfl) (by dsimp only; omega) (by dsimp only; omega) rfl rfl c_75.1 c_75.2 dX8_clause_114 (pc' := 117) rfl (fun r_77 M_76 h m_78 => ?_)
    refine r_goto C dX8_clause_117 (tgt := 121) (by decide) ?_
    refine r_sub (lv' := [(0, .ref a0), (1, .int x1), (2, va_rf o2)]) [0, 1, 2] rfl ?_
    exact B_X8_clause_121 C hE c_75.1 c_75.2 (mMo.kd m_78 (mMo.kd m_28 k_a0 (by decide)) (by decide)) h
set_option maxHeartbeats 4000000 in
theorem B_X8_clause_53 {E : mE} {bc bs : Nat} {k n : Nat} {M : MM} {a0 : Nat} {x1 : Int32} {Post : MM → Prop} (C : mC E yX8_clause cX8_clause 4 (none) { frames := 141, cells := bc, slots := bs, locals := 3923 }) (hE : mEnd E { frames := 141, cells := bc, slots := bs, locals := 3923 } (pV_ Post)) (hkb : k ≤ bc) (hnb : n ≤ bs) (k_a0 : mkd M a0 = 8) (h : wb_X8_clause_53 E.2.1 bc bs k n M a0 x1 Post) : mV E M k n 53 [(0, .ref a0), (1, .int x1)] [] := by
  unfold wb_X8_clause_53 at h
  refine r_aload_n C dX8_clause_53 (pc' := 54) rfl (j := 0) rfl ?_
  refine r_callVi (As := []) (rest := []) (Cn := RX8) (T := TX8) C k_a0 (by decide) vc_X8 (S_X8_isGood k_a0 h) (lw_V q543 q545 qs2 q114 q546) rfl hd_X8_isGood rfl rfl (Nat.le_of_ble_eq_true rfl) (by dsimp only; omega) (by dsimp only; omega) rfl rfl hkb hnb dX8_clause_54 (pc' := 57) rfl (fun r_9 M_8 h m_10 => ?_)
  refine r_if_ne C dX8_clause_57 (pc' := 60) rfl (tgt := 61) (by decide) (fun c_11 => ?_) (fun c_11 => ?_)
  · have h := it_f h c_11
    refine r_aload_n C dX8_clause_61 (pc' := 62) rfl (j := 0) rfl ?_
    refine r_dup C dX8_clause_62 (pc' := 63) rfl rfl ?_
    refine r_getf C (Cn := RX8) (T := TX8) 3 (mMo.kd m_10 k_a0 (by decide)) (by decide) vc_X8 in_X8 (by decide) q517 dX8_clause_63 (pc' := 66) rfl (v := .int (mgI M_8 a0 3)) rfl ?_
    refine r_iconst C dX8_clause_66 (pc' := 67) rfl (v := 1) rfl ?_
    refine r_iadd C dX8_clause_67 (pc' := 68) rfl ?_
    obtain ⟨M_12, e_13, h⟩ := bn_ h
    refine r_putI C (Cn := RX8) (T := TX8) tyX8 3 (mMo.kd m_10 k_a0 (by decide)) (by decide) vc_X8 in_X8 tyX8_ok nmX8 (by decide) q517 rfl rfl dX8_clause_68 (pc' := 71) rfl rfl rfl M_12 e_13 ?_
    refine r_aload_n C dX8_clause_71 (pc' := 72) rfl (j := 0) rfl ?_
    refine r_iconst C dX8_clause_72 (pc' := 73) rfl (v := 0) rfl ?_
    obtain ⟨M_14, e_15, h⟩ := bn_ h
    refine r_putI C (Cn := RX8) (T := TX8) tyX8 4 (mMo.kd (mo_I e_13) (mMo.kd m_10 k_a0 (by decide)) (by decide)) (by decide) vc_X8 in_X8 tyX8_ok nmX8 (by decide) q518 rfl rfl dX8_clause_73 (pc' := 76) rfl rfl rfl M_14 e_15 ?_
    refine r_aload_n C dX8_clause_76 (pc' := 77) rfl (j := 0) rfl ?_
    obtain ⟨c_16, s_17, c_18, h⟩ := h
    refine r_callVq (As := []) (rest := []) (Cn := RX8) (T := TX8) C (mMo.kd (mo_I e_15) (mMo.kd (mo_I e_13) (mMo.kd m_10 k_a0 (by decide)) (by decide)) (by decide)) (by decide) vc_X8 ((sndR 60).2.2.2.2.1 (mMo.kd (mo_I e_15) (mMo.kd (mo_I e_13) (mMo.kd m_10 k_a0 (by decide)) (by decide)) (by decide)) h) (lw_V q643 q645 qs6 q114 q646) rfl hd_X8_sum rfl rfl (Nat.le_of_ble_eq_true rfl) (by dsimp only; omega) (by dsimp only; omega) rfl rfl c_18.1 c_18.2 dX8_clause_77 (pc' := 80) rfl (fun r_20 M_19 h m_21 => ?_)
    refine r_astore_nq C (lv' := [(2, va_rf r_20), (0, .ref a0), (1, .int x1)]) dX8_clause_80 (pc' := 81) rfl rfl (Nat.le_of_ble_eq_true rfl) rfl ?_
    refine r_aload_n C dX8_clause_81 (pc' := 82) rfl (j := 1) rfl ?_
    refine r_callVi (As := []) (rest := []) (Cn := RX8) (T := TX8) C (mMo.kd m_21 (mMo.kd (mo_I e_15) (mMo.kd (mo_I e_13) (mMo.kd m_10 k_a0 (by decide)) (by decide)) (by decide)) (by decide)) (by decide) vc_X8 (S_X8_isGood (mMo.kd m_21 (mMo.kd (mo_I e_15) (mMo.kd (mo_I e_13) (mMo.kd m_10 k_a0 (by decide)) (by decide)) (by decide)) (by decide)) h) (lw_V q543 q545 qs2 q114 q546) rfl hd_X8_isGood rfl rfl (Nat.le_of_ble_eq_true rfl) (by dsimp only; omega) (by dsimp only; omega) rfl rfl c_18.1 c_18.2 dX8_clause_82 (pc' := 85) rfl (fun r_23 M_22 h m_24 => ?_)
    refine r_if_eq C dX8_clause_85 (pc' := 88) rfl (tgt := 106) (by decide) (fun c_25 => ?_) (fun c_25 => ?_)
    · have h := it_t h c_25
      refine r_sub (lv' := [(0, .ref a0), (1, .int x1), (2, va_rf r_20)]) [1, 2, 0] rfl ?_
      exact B_X8_clause_106 C hE c_18.1 c_18.2 (mMo.kd m_24 (mMo.kd m_21 (mMo.kd (mo_I e_15) (mMo.kd (mo_I e_13) (mMo.kd m_10 k_a0 (by decide)) (by decide)) (by decide)) (by decide)) (by decide)) h
    · have h := it_f h c_25
      refine r_aload_n C dX8_clause_88 (pc' := 89) rfl (j := 1) rfl ?_
      refine r_callVi (As := []) (rest := []) (Cn := RX8) (T := TX8) C (mMo.kd m_24 (mMo.kd m_21 (mMo.kd (mo_I e_15) (mMo.kd (mo_I e_13) (mMo.kd m_10 k_a0 (by decide)) (by decide)) (by decide)) (by decide)) (by decide)) (by decide) vc_X8 (S_X8_here (mMo.kd m_24 (mMo.kd m_21 (mMo.kd (mo_I e_15) (mMo.kd (mo_I e_13) (mMo.kd m_10 k_a0 (by decide)) (by decide)) (by decide)) (by decide)) (by decide)) h) (lw_V q551 q553 qs4 q114 q554) rfl hd_X8_here rfl rfl (Nat.le_of_ble_eq_true rfl) (by dsimp only; omega) (by dsimp only; omega) rfl rfl c_18.1 c_18.2 dX8_clause_89 (pc' := 92) rfl (fun r_80 M_79 h m_81 => ?_)
      refine r_bipush C dX8_clause_92 (pc' := 94) rfl (v := 40) rfl ?_
      refine r_icmp_eq C dX8_clause_94 (pc' := 97) rfl (tgt := 106) (by decide) (fun c_82 => ?_) (fun c_82 => ?_)
      · have h := it_t h c_82
        refine r_sub (lv' := [(0, .ref a0), (1, .int x1), (2, va_rf r_20)]) [1, 2, 0] rfl ?_
        exact B_X8_clause_106 C hE c_18.1 c_18.2 (mMo.kd m_81 (mMo.kd m_24 (mMo.kd m_21 (mMo.kd (mo_I e_15) (mMo.kd (mo_I e_13) (mMo.kd m_10 k_a0 (by decide)) (by decide)) (by decide)) (by decide)) (by decide)) (by decide)) h
      · have h := it_f h c_82
        refine r_aload_n C dX8_clause_97 (pc' := 98) rfl (j := 1) rfl ?_
        refine r_iconst C dX8_clause_98 (pc' := 99) rfl (v := 1) rfl ?_
        refine r_aload_n C dX8_clause_99 (pc' := 100) rfl (j := 1) rfl ?_
        refine r_getf C (Cn := RX8) (T := TX8) 3 (mMo.kd m_81 (mMo.kd m_24 (mMo.kd m_21 (mMo.kd (mo_I e_15) (mMo.kd (mo_I e_13) (mMo.kd m_10 k_a0 (by decide)) (by decide)) (by decide)) (by decide)) (by decide)) (by decide)) (by decide) vc_X8 in_X8 (by decide) q517 dX8_clause_100 (pc' := 103) rfl (v := .int (mgI M_79 a0 3)) rfl ?_
        refine r_callVv (As := [.int (1 : Int32), .int (mgI M_79 a0 3)]) (rest := []) (Cn := RX8) (T := TX8) C (mMo.kd m_81 (mMo.kd m_24 (mMo.kd m_21 (mMo.kd (mo_I e_15) (mMo.kd (mo_I e_13) (mMo.kd m_10 k_a0 (by decide)) (by decide)) (by decide)) (by decide)) (by decide)) (by decide)) (by decide) vc_X8 (S_X8_bad (mMo.kd m_81 (mMo.kd m_24 (mMo.kd m_21 (mMo.kd (mo_I e_15) (mMo.kd (mo_I e_13) (mMo.kd m_10 k_a0 (by decide)) (by decide)) (by decide)) (by decide)) (by decide)) (by decide)) h) (lw_V q639 q641 qs5 q114 q642) rfl hd_X8_bad rfl rfl (Nat.le_of_ble_eq_true rfl) (by dsimp only; omega) (by dsimp only; omega) rfl rfl c_18.1 c_18.2 dX8_clause_103 (pc' := 106) rfl (fun M_83 h m_85 => ?_)
        refine r_sub (lv' := [(0, .ref a0), (1, .int x1), (2, va_rf r_20)]) [1, 2, 0] rfl ?_
        exact B_X8_clause_106 C hE c_18.1 c_18.2 (mMo.kd m_85 (mMo.kd m_81 (mMo.kd m_24 (mMo.kd m_21 (mMo.kd (mo_I e_15) (mMo.kd (mo_I e_13) (mMo.kd m_10 k_a0 (by decide)) (by decide)) (by decide)) (by decide)) (by decide)) (by decide)) (by decide)) h
  · have h := it_t h c_11
    exact r_vret C hE hkb hnb dX8_clause_60 ⟨rfl, h⟩
set_option maxHeartbeats 4000000 in
theorem B_X8_clause_20 {E : mE} {bc bs : Nat} {k n : Nat} {M : MM} {a0 : Nat} {x1 : Int32} {Post : MM → Prop} (C : mC E yX8_clause cX8_clause 4 (none) { frames := 141, cells := bc, slots := bs, locals := 3923 }) (hE : mEnd E { frames := 141, cells := bc, slots := bs, locals := 3923 } (pV_ Post)) (hkb : k ≤ bc) (hnb : n ≤ bs) (k_a0 : mkd M a0 = 8) (h : wb_X8_clause_20 E.2.1 bc bs k n M a0 x1 Post) : mV E M k n 20 [(0, .ref a0), (1, .int x1)] [] := by
  unfold wb_X8_clause_20 at h
  refine r_aload_n C dX8_clause_20 (pc' := 21) rfl (j := 0) rfl ?_
  refine r_iconst C dX8_clause_21 (pc' := 22) rfl (v := 1) rfl ?_
  refine r_aload_n C dX8_clause_22 (pc' := 23) rfl (j := 0) rfl ?_
  refine r_getf C (Cn := RX8) (T := TX8) 3 k_a0 (by decide) vc_X8 in_X8 (by decide) q517 dX8_clause_23 (pc' := 26) rfl (v := .int (mgI M a0 3)) rfl ?_
  refine r_callVv (As := [.int (1 : Int32), .int (mgI M a0 3)]) (rest := []) (Cn := RX8) (T := TX8) C k_a0 (by decide) vc_X8 (S_X8_bad k_a0 h) (lw_V q639 q641 qs5 q114 q642) rfl hd_X8_bad rfl rfl (Nat.le_of_ble_eq_true rfl) (by dsimp only; omega) (by dsimp only; omega) rfl rfl hkb hnb dX8_clause_26 (pc' := 29) rfl (fun M_5 h m_7 => ?_)
  refine r_goto C dX8_clause_29 (tgt := 53) (by decide) ?_
  refine r_sub (lv' := [(0, .ref a0), (1, .int x1)]) [0, 1] rfl ?_
  exact B_X8_clause_53 C hE hkb hnb (mMo.kd m_7 k_a0 (by decide)) h
set_option maxHeartbeats 4000000 in
theorem S_X8_clause {D : DD} {l : Launch} {bc bs : Nat} {M : MM} {a0 : Nat} {Post : MM → Prop} (k_a0 : mkd M a0 = 8) (h : wp_X8_clause D bc bs M a0 Post) : mMet D l yX8_clause cX8_clause 4 (none) { frames := 141, cells := bc, slots := bs, locals := 3923 } M [.ref a0] (pV_ Post) := by
  refine m_of2 [(0, .ref a0)] (by decide +kernel) (Nat.le_of_ble_eq_true rfl) rfl (fun E hED hEl C hE => ?_)
  subst hED
  subst hEl
  unfold wp_X8_clause at h
  refine r_aload_n C dX8_clause_0 (pc' := 1) rfl (j := 0) rfl ?_
  refine r_callVi (As := []) (rest := []) (Cn := RX8) (T := TX8) C k_a0 (by decide) vc_X8 (S_X8_here k_a0 h) (lw_V q551 q553 qs4 q114 q554) rfl hd_X8_here rfl rfl (Nat.le_of_ble_eq_true rfl) (by dsimp only; omega) (by dsimp only; omega) rfl rfl (Nat.zero_le _) (Nat.zero_le _) dX8_clause_1 (pc' := 4) rfl (fun r_2 M_1 h m_3 => ?_)
  refine r_istore_n C (lv' := [(1, .int r_2), (0, .ref a0)]) dX8_clause_4 (pc' := 5) rfl rfl r_2 rfl (Nat.le_of_ble_eq_true rfl) rfl ?_
  refine r_iload_n C dX8_clause_5 (pc' := 6) rfl (j := 0) rfl ?_
  refine r_if_eq C dX8_clause_6 (pc' := 9) rfl (tgt := 20) (by decide) (fun c_4 => ?_) (fun c_4 => ?_)
  · have h := it_t h c_4
    refine r_sub (lv' := [(0, .ref a0), (1, .int r_2)]) [1, 0] rfl ?_
    exact B_X8_clause_20 C hE (Nat.zero_le _) (Nat.zero_le _) (mMo.kd m_3 k_a0 (by decide)) h
  · have h := it_f h c_4
    refine r_aload_n C dX8_clause_9 (pc' := 10) rfl (j := 1) rfl ?_
    refine r_getf C (Cn := RX8) (T := TX8) 1 (mMo.kd m_3 k_a0 (by decide)) (by decide) vc_X8 in_X8 (by decide) q514 dX8_clause_10 (pc' := 13) rfl (v := va_rf (mgR M_1 a0 1)) rfl ?_
    refine r_iload_n C dX8_clause_13 (pc' := 14) rfl (j := 0) rfl ?_
    obtain ⟨i_86, e_87, e_88, h⟩ := h
    refine r_ref [.int r_2] e_88 ?_
    refine r_ixOf (rest := []) C e_87 q555 (Nat.le_of_ble_eq_true rfl) (by dsimp only; omega) (by dsimp only; omega) (Nat.zero_le _) (Nat.zero_le _) dX8_clause_14 (pc' := 17) rfl ?_
    refine r_if_ge C dX8_clause_17 (pc' := 20) rfl (tgt := 32) (by decide) (fun c_91 => ?_) (fun c_91 => ?_)
    · have h := it_t h c_91
      refine r_aload_n C dX8_clause_32 (pc' := 33) rfl (j := 1) rfl ?_
      refine r_getf C (Cn := RX8) (T := TX8) 2 (mMo.kd m_3 k_a0 (by decide)) (by decide) vc_X8 in_X8 (by decide) q515 dX8_clause_33 (pc' := 36) rfl (v := va_rf (mgR M_1 a0 2)) rfl ?_
      obtain ⟨b_92, e_93, k_94, h⟩ := h
      refine r_ref [] e_93 ?_
      refine r_getfN C (Cn := RX6) (T := TX6) 3 k_94 (by decide) vc_X6 in_X6 (by decide) (List.mem_of_getElem? (i := 42) rfl) dX8_clause_36 (pc' := 39) rfl (v := .int (mgI M_1 b_92 3)) rfl ?_
      refine r_bipush C dX8_clause_39 (pc' := 41) rfl (v := 14) rfl ?_
      refine r_icmp_ne C dX8_clause_41 (pc' := 44) rfl (tgt := 53) (by decide) (fun c_95 => ?_) (fun c_95 => ?_)
      · have h := it_f h c_95
        refine r_sub (lv' := [(0, .ref a0), (1, .int r_2)]) [1, 0] rfl ?_
        exact B_X8_clause_53 C hE (Nat.zero_le _) (Nat.zero_le _) (mMo.kd m_3 k_a0 (by decide)) h
      · have h := it_t h c_95
        refine r_aload_n C dX8_clause_44 (pc' := 45) rfl (j := 1) rfl ?_
        refine r_iconst C dX8_clause_45 (pc' := 46) rfl (v := 4) rfl ?_
        refine r_aload_n C dX8_clause_46 (pc' := 47) rfl (j := 1) rfl ?_
        refine r_getf C (Cn := RX8) (T := TX8) 3 (mMo.kd m_3 k_a0 (by decide)) (by decide) vc_X8 in_X8 (by decide) q517 dX8_clause_47 (pc' := 50) rfl (v := .int (mgI M_1 a0 3)) rfl ?_
        refine r_callVv (As := [.int (4 : Int32), .int (mgI M_1 a0 3)]) (rest := []) (Cn := RX8) (T := TX8) C (mMo.kd m_3 k_a0 (by decide)) (by decide) vc_X8 (S_X8_bad (mMo.kd m_3 k_a0 (by decide)) h) (lw_V q639 q641 qs5 q114 q642) rfl hd_X8_bad rfl rfl (Nat.le_of_ble_eq_true rfl) (by dsimp only; omega) (by dsimp only; omega) rfl rfl (Nat.zero_le _) (Nat.zero_le _) dX8_clause_50 (pc' := 53) rfl (fun M_96 h m_98 => ?_)
        refine r_sub (lv' := [(0, .ref a0), (1, .int r_2)]) [1, 0] rfl ?_
        exact B_X8_clause_53 C hE (Nat.zero_le _) (Nat.zero_le _) (mMo.kd m_98 (mMo.kd m_3 k_a0 (by decide)) (by decide)) h
    · have h := it_f h c_91
      refine r_sub (lv' := [(0, .ref a0), (1, .int r_2)]) [1, 0] rfl ?_
      exact B_X8_clause_20 C hE (Nat.zero_le _) (Nat.zero_le _) (mMo.kd m_3 k_a0 (by decide)) h
set_option maxHeartbeats 4000000 in
theorem B_X8_read_40 {E : mE} {bc bs : Nat} {k n : Nat} {M : MM} {a0 : Nat} {xs0 : Int32} {R : Nat → Nat → MM → Int32 → Prop} {X54 : Nat → Nat → MM → Prop} {Post : Int32 → MM → Prop} (C : mC E yX8_read cX8_read 2 ((some .int)) { frames := 142, cells := bc, slots := bs, locals := 3946 }) (hE : mEnd E { frames := 142, cells := bc, slots := bs, locals := 3946 } (pI_ Post)) (hkb : k ≤ bc) (hnb : n ≤ bs) (k_a0 : mkd M a0 = 8) (h : wb_X8_read_40 E.2.1 bc bs k n M a0 xs0 R X54) (hR : ∀ (k' n' : Nat) (M' : MM) (x1' : Int32), k' ≤ bc → n' ≤ bs → mMo M M' → mkd M' a0 = 8 → R k' n' M' x1' → mV E M' k' n' 2 [(0, .ref a0), (1, .int x1')] []) (hX54 : ∀ (k' n' : Nat) (M' : MM), k' ≤ bc → n' ≤ bs → mMo M M' → X54 k' n' M' → mV E M' k' n' 54 [(0, .ref a0)] []) : mV E M k n 40 [(0, .ref a0)] [.int xs0] := by
  unfold wb_X8_read_40 at h
  refine r_istore_n C (lv' := [(1, .int xs0), (0, .ref a0)]) dX8_read_40 (pc' := 41) rfl rfl xs0 rfl (Nat.le_of_ble_eq_true rfl) rfl ?_
  refine r_iload_n C dX8_read_41 (pc' := 42) rfl (j := 0) rfl ?_
  refine r_if_eq C dX8_read_42 (pc' := 45) rfl (tgt := 2) (by decide) (fun c_16 => ?_) (fun c_16 => ?_)
  · have h := it_t h c_16
    refine r_sub (lv' := [(0, .ref a0), (1, .int xs0)]) [1, 0] rfl ?_
    exact hR k n M xs0 hkb hnb mMo.rf k_a0 h
  · have h := it_f h c_16
    refine r_aload_n C dX8_read_45 (pc' := 46) rfl (j := 1) rfl ?_
    refine r_bipush C dX8_read_46 (pc' := 48) rfl (v := 59) rfl ?_
    refine r_callVv (As := [.int (59 : Int32)]) (rest := []) (Cn := RX8) (T := TX8) C k_a0 (by decide) vc_X8 (S_X8_must k_a0 h) (lw_V q661 q663 qs10 q114 q664) rfl hd_X8_must rfl rfl (Nat.le_of_ble_eq_true rfl) (by dsimp only; omega) (by dsimp only; omega) rfl rfl hkb hnb dX8_read_48 (pc' := 51) rfl (fun M_17 h m_19 => ?_)
    refine r_goto C dX8_read_51 (tgt := 2) (by decide) ?_
    refine r_sub (lv' := [(0, .ref a0), (1, .int xs0)]) [1, 0] rfl ?_
    exact hR k n M_17 xs0 hkb hnb m_19 (mMo.kd m_19 k_a0 (by decide)) h
set_option maxHeartbeats 4000000 in
theorem B_X8_read_39 {E : mE} {bc bs : Nat} {k n : Nat} {M : MM} {a0 : Nat} {R : Nat → Nat → MM → Int32 → Prop} {X54 : Nat → Nat → MM → Prop} {Post : Int32 → MM → Prop} (C : mC E yX8_read cX8_read 2 ((some .int)) { frames := 142, cells := bc, slots := bs, locals := 3946 }) (hE : mEnd E { frames := 142, cells := bc, slots := bs, locals := 3946 } (pI_ Post)) (hkb : k ≤ bc) (hnb : n ≤ bs) (k_a0 : mkd M a0 = 8) (h : wb_X8_read_39 E.2.1 bc bs k n M a0 R X54) (hR : ∀ (k' n' : Nat) (M' : MM) (x1' : Int32), k' ≤ bc → n' ≤ bs → mMo M M' → mkd M' a0 = 8 → R k' n' M' x1' → mV E M' k' n' 2 [(0, .ref a0), (1, .int x1')] []) (hX54 : ∀ (k' n' : Nat) (M' : MM), k' ≤ bc → n' ≤ bs → mMo M M' → X54 k' n' M' → mV E M' k' n' 54 [(0, .ref a0)] []) : mV E M k n 39 [(0, .ref a0)] [] := by
  unfold wb_X8_read_39 at h
  refine r_iconst C dX8_read_39 (pc' := 40) rfl (v := 0) rfl ?_
  refine r_sub (lv' := [(0, .ref a0)]) [0] rfl ?_
  exact B_X8_read_40 C hE hkb hnb k_a0 h (fun k8 n8 M8 v0 b8 c8 hm8 g0 h8 => hR k8 n8 M8 v0 b8 c8 hm8 g0 h8) (fun k9 n9 M9 b9 c9 hm9 h9 => hX54 k9 n9 M9 b9 c9 hm9 h9)
set_option maxHeartbeats 4000000 in
theorem B_X8_read_2 {E : mE} {bc bs : Nat} {a0 : Nat} {X54 : Nat → Nat → MM → Prop} {Post : Int32 → MM → Prop} (C : mC E yX8_read cX8_read 2 ((some .int)) { frames := 142, cells := bc, slots := bs, locals := 3946 }) (hE : mEnd E { frames := 142, cells := bc, slots := bs, locals := 3946 } (pI_ Post)) : ∀ (n_ : Nat) (k n : Nat) (M : MM) (x1 : Int32), k ≤ bc → n ≤ bs → mkd M a0 = 8 → wl_X8_read_2 E.2.1 bc bs a0 X54 n_ k n M x1 → (∀ (k' n' : Nat) (M' : MM), k' ≤ bc → n' ≤ bs → mMo M M' → X54 k' n' M' → mV E M' k' n' 54 [(0, .ref a0)] []) → mV E M k n 2 [(0, .ref a0), (1, .int x1)] [] := by
  intro n_
  induction n_ with
  | zero =>
    intro k n M x1 hkb hnb k_a0 h hX54
    exact absurd h (by rw [wl_X8_read_2]; exact fun q => q)
  | succ n_ ih =>
    intro k n M x1 hkb hnb k_a0 h hX54
    rw [wl_X8_read_2] at h
    refine r_iload_n C dX8_read_2 (pc' := 3) rfl (j := 1) rfl ?_
    refine r_if_eq C dX8_read_3 (pc' := 6) rfl (tgt := 54) (by decide) (fun c_1 => ?_) (fun c_1 => ?_)
    · have h := it_t h c_1
      refine r_sub (lv' := [(0, .ref a0)]) [0] rfl ?_
      exact hX54 k n M hkb hnb mMo.rf h
    · have h := it_f h c_1
      refine r_aload_n C dX8_read_6 (pc' := 7) rfl (j := 0) rfl ?_
      refine r_callVi (As := []) (rest := []) (Cn := RX8) (T := TX8) C k_a0 (by decide) vc_X8 (S_X8_isGood k_a0 h) (lw_V q543 q545 qs2 q114 q546) rfl hd_X8_isGood rfl rfl (Nat.le_of_ble_eq_true rfl) (by dsimp only; omega) (by dsimp only; omega) rfl rfl hkb hnb dX8_read_7 (pc' := 10) rfl (fun r_3 M_2 h m_4 => ?_)
      refine r_if_eq C dX8_read_10 (pc' := 13) rfl (tgt := 54) (by decide) (fun c_5 => ?_) (fun c_5 => ?_)
      · have h := it_t h c_5
        refine r_sub (lv' := [(0, .ref a0)]) [0] rfl ?_
        exact hX54 k n M_2 hkb hnb m_4 h
      · have h := it_f h c_5
        refine r_aload_n C dX8_read_13 (pc' := 14) rfl (j := 0) rfl ?_
        obtain ⟨c_6, s_7, c_8, h⟩ := h
        refine r_callVv (As := []) (rest := []) (Cn := RX8) (T := TX8) C (mMo.kd m_4 k_a0 (by decide)) (by decide) vc_X8 (S_X8_clause (mMo.kd m_4 k_a0 (by decide)) h) (lw_V q547 q549 qs3 q114 q550) rfl hd_X8_clause rfl rfl (Nat.le_of_ble_eq_true rfl) (by dsimp only; omega) (by dsimp only; omega) rfl rfl c_8.1 c_8.2 dX8_read_14 (pc' := 17) rfl (fun M_9 h m_11 => ?_)
        refine r_aload_n C dX8_read_17 (pc' := 18) rfl (j := 0) rfl ?_
        refine r_callVi (As := []) (rest := []) (Cn := RX8) (T := TX8) C (mMo.kd m_11 (mMo.kd m_4 k_a0 (by decide)) (by decide)) (by decide) vc_X8 (S_X8_isGood (mMo.kd m_11 (mMo.kd m_4 k_a0 (by decide)) (by decide)) h) (lw_V q543 q545 qs2 q114 q546) rfl hd_X8_isGood rfl rfl (Nat.le_of_ble_eq_true rfl) (by dsimp only; omega) (by dsimp only; omega) rfl rfl c_8.1 c_8.2 dX8_read_18 (pc' := 21) rfl (fun r_13 M_12 h m_14 => ?_)
        refine r_if_eq C dX8_read_21 (pc' := 24) rfl (tgt := 39) (by decide) (fun c_15 => ?_) (fun c_15 => ?_)
        · have h := it_t h c_15
          refine r_sub (lv' := [(0, .ref a0)]) [0] rfl ?_
          exact B_X8_read_39 C hE c_8.1 c_8.2 (mMo.kd m_14 (mMo.kd m_11 (mMo.kd m_4 k_a0 (by decide)) (by decide)) (by decide)) h (fun k8 n8 M8 v0 b8 c8 hm8 g0 h8 => ih k8 n8 M8 v0 b8 c8 g0 h8 (fun k9 n9 M9 b9 c9 hm9 h9 => hX54 k9 n9 M9 b9 c9 (mMo.tr (mMo.tr (mMo.tr (mMo.tr m_4 m_11) m_14) hm8) hm9) h9)) (fun k9 n9 M9 b9 c9 hm9 h9 => hX54 k9 n9 M9 b9 c9 (mMo.tr (mMo.tr (mMo.tr m_4 m_11) m_14) hm9) h9)
        · have h := it_f h c_15
          refine r_aload_n C dX8_read_24 (pc' := 25) rfl (j := 0) rfl ?_
          refine r_getf C (Cn := RX8) (T := TX8) 3 (mMo.kd m_14 (mMo.kd m_11 (mMo.kd m_4 k_a0 (by decide)) (by decide)) (by decide)) (by decide) vc_X8 in_X8 (by decide) q517 dX8_read_25 (pc' := 28) rfl (v := .int (mgI M_12 a0 3)) rfl ?_
          refine r_aload_n C dX8_read_28 (pc' := 29) rfl (j := 0) rfl ?_
          refine r_getf C (Cn := RX8) (T := TX8) 0 (mMo.kd m_14 (mMo.kd m_11 (mMo.kd m_4 k_a0 (by decide)) (by decide)) (by decide)) (by decide) vc_X8 in_X8 (by decide) q513 dX8_read_29 (pc' := 32) rfl (v := .int (mgI M_12 a0 0)) rfl ?_
          refine r_icmp_ge C dX8_read_32 (pc' := 35) rfl (tgt := 39) (by decide) (fun c_20 => ?_) (fun c_20 => ?_)
          · have h := it_t h c_20
            refine r_sub (lv' := [(0, .ref a0)]) [0] rfl ?_
            exact B_X8_read_39 C hE c_8.1 c_8.2 (mMo.kd m_14 (mMo.kd m_11 (mMo.kd m_4 k_a0 (by decide)) (by decide)) (by decide)) h (fun k8 n8 M8 v0 b8 c8 hm8 g0 h8 => ih k8 n8 M8 v0 b8 c8 g0 h8 (fun k9 n9 M9 b9 c9 hm9 h9 => hX54 k9 n9 M9 b9 c9 (mMo.tr (mMo.tr (mMo.tr (mMo.tr m_4 m_11) m_14) hm8) hm9) h9)) (fun k9 n9 M9 b9 c9 hm9 h9 => hX54 k9 n9 M9 b9 c9 (mMo.tr (mMo.tr (mMo.tr m_4 m_11) m_14) hm9) h9)
          · have h := it_f h c_20
            refine r_iconst C dX8_read_35 (pc' := 36) rfl (v := 1) rfl ?_
            refine r_goto C dX8_read_36 (tgt := 40) (by decide) ?_
            refine r_sub (lv' := [(0, .ref a0)]) [0] rfl ?_
            exact B_X8_read_40 C hE c_8.1 c_8.2 (mMo.kd m_14 (mMo.kd m_11 (mMo.kd m_4 k_a0 (by decide)) (by decide)) (by decide)) h (fun k8 n8 M8 v0 b8 c8 hm8 g0 h8 => ih k8 n8 M8 v0 b8 c8 g0 h8 (fun k9 n9 M9 b9 c9 hm9 h9 => hX54 k9 n9 M9 b9 c9 (mMo.tr (mMo.tr (mMo.tr (mMo.tr m_4 m_11) m_14) hm8) hm9) h9)) (fun k9 n9 M9 b9 c9 hm9 h9 => hX54 k9 n9 M9 b9 c9 (mMo.tr (mMo.tr (mMo.tr m_4 m_11) m_14) hm9) h9)
set_option maxHeartbeats 4000000 in
theorem B_X8_read_54 {E : mE} {bc bs : Nat} {k n : Nat} {M : MM} {a0 : Nat} {Post : Int32 → MM → Prop} (C : mC E yX8_read cX8_read 2 ((some .int)) { frames := 142, cells := bc, slots := bs, locals := 3946 }) (hE : mEnd E { frames := 142, cells := bc, slots := bs, locals := 3946 } (pI_ Post)) (hkb : k ≤ bc) (hnb : n ≤ bs) (k_a0 : mkd M a0 = 8) (h : wb_X8_read_54 E.2.1 bc bs k n M a0 Post) : mV E M k n 54 [(0, .ref a0)] [] := by
  unfold wb_X8_read_54 at h
  refine r_aload_n C dX8_read_54 (pc' := 55) rfl (j := 0) rfl ?_
  refine r_callVi (As := []) (rest := []) (Cn := RX8) (T := TX8) C k_a0 (by decide) vc_X8 (S_X8_isGood k_a0 h) (lw_V q543 q545 qs2 q114 q546) rfl hd_X8_isGood rfl rfl (Nat.le_of_ble_eq_true rfl) (by dsimp only; omega) (by dsimp only; omega) rfl rfl hkb hnb dX8_read_55 (pc' := 58) rfl (fun r_29 M_28 h m_30 => ?_)
  refine r_if_eq C dX8_read_58 (pc' := 61) rfl (tgt := 71) (by decide) (fun c_31 => ?_) (fun c_31 => ?_)
  · have h := it_t h c_31
    refine r_sipush C dX8_read_71 (pc' := 74) rfl (v := -1000) rfl ?_
    refine r_aload_n C dX8_read_74 (pc' := 75) rfl (j := 0) rfl ?_
    refine r_getf C (Cn := RX8) (T := TX8) 5 (mMo.kd m_30 k_a0 (by decide)) (by decide) vc_X8 in_X8 (by decide) q519 dX8_read_75 (pc' := 78) rfl (v := .int (mgI M_28 a0 5)) rfl ?_
    refine r_imul C dX8_read_78 (pc' := 79) rfl ?_
    refine r_aload_n C dX8_read_79 (pc' := 80) rfl (j := 0) rfl ?_
    refine r_getf C (Cn := RX8) (T := TX8) 6 (mMo.kd m_30 k_a0 (by decide)) (by decide) vc_X8 in_X8 (by decide) q520 dX8_read_80 (pc' := 83) rfl (v := .int (mgI M_28 a0 6)) rfl ?_
    refine r_isub C dX8_read_83 (pc' := 84) rfl ?_
    exact r_iret C hE hkb hnb dX8_read_84 ⟨_, rfl, h⟩
  · have h := it_f h c_31
    refine r_aload_n C dX8_read_61 (pc' := 62) rfl (j := 0) rfl ?_
    refine r_getf C (Cn := RX8) (T := TX8) 2 (mMo.kd m_30 k_a0 (by decide)) (by decide) vc_X8 in_X8 (by decide) q515 dX8_read_62 (pc' := 65) rfl (v := va_rf (mgR M_28 a0 2)) rfl ?_
    obtain ⟨b_32, e_33, k_34, h⟩ := h
    refine r_ref [] e_33 ?_
    refine r_getfN C (Cn := RX6) (T := TX6) 3 k_34 (by decide) vc_X6 in_X6 (by decide) (List.mem_of_getElem? (i := 42) rfl) dX8_read_65 (pc' := 68) rfl (v := .int (mgI M_28 b_32 3)) rfl ?_
    refine r_goto C dX8_read_68 (tgt := 84) (by decide) ?_
    exact r_iret C hE hkb hnb dX8_read_84 ⟨_, rfl, h⟩
set_option maxHeartbeats 4000000 in
theorem S_X8_read {D : DD} {l : Launch} {bc bs : Nat} {M : MM} {a0 : Nat} {Post : Int32 → MM → Prop} (k_a0 : mkd M a0 = 8) (h : wp_X8_read D bc bs M a0 Post) : mMet D l yX8_read cX8_read 2 ((some .int)) { frames := 142, cells := bc, slots := bs, locals := 3946 } M [.ref a0] (pI_ Post) := by
  refine m_of2 [(0, .ref a0)] (by decide +kernel) (Nat.le_of_ble_eq_true rfl) rfl (fun E hED hEl C hE => ?_)
  subst hED
  subst hEl
  unfold wp_X8_read at h
  refine r_iconst C dX8_read_0 (pc' := 1) rfl (v := 1) rfl ?_
  refine r_istore_n C (lv' := [(1, .int (1 : Int32)), (0, .ref a0)]) dX8_read_1 (pc' := 2) rfl rfl (1 : Int32) rfl (Nat.le_of_ble_eq_true rfl) rfl ?_
  obtain ⟨n_21, h⟩ := h
  refine r_sub (lv' := [(0, .ref a0), (1, .int (1 : Int32))]) [1, 0] rfl ?_
  refine B_X8_read_2 C hE n_21 0 0 M (1 : Int32) (Nat.zero_le _) (Nat.zero_le _) k_a0 h (fun k_24 n_25 M_22 b_26 c_27 m_23 h => ?_)
  refine r_sub (lv' := [(0, .ref a0)]) [0] rfl ?_
  exact B_X8_read_54 C hE b_26 c_27 (mMo.kd m_23 k_a0 (by decide)) h
