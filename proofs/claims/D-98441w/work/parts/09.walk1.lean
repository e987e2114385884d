set_option maxRecDepth 100000
def wp_X1_init (M : MM) (a0 : Nat) (Post : MM → Prop) : Prop :=
  Post M
def wp_X9_init (M : MM) (a0 : Nat) (Post : MM → Prop) : Prop :=
  Post M
def wp_X13_init (M : MM) (a0 : Nat) (Post : MM → Prop) : Prop :=
  Post M
def wp_X10_init (M : MM) (a0 : Nat) (x1 : Int32) (o2 : Option Nat) (Post : MM → Prop) : Prop :=
  wp_X9_init M a0 (fun M_1 => ∀ M_4, M_4 = msI M_1 a0 0 x1 → ∀ M_6, M_6 = msR M_4 a0 1 o2 → Post M_6)
def wp_X11_init (M : MM) (a0 : Nat) (x1 : Int32) (Post : MM → Prop) : Prop :=
  wp_X9_init M a0 (fun M_1 => ∀ M_4, M_4 = msI M_1 a0 0 x1 → Post M_4)
def wp_X12_init (M : MM) (a0 : Nat) (x1 : Int32) (Post : MM → Prop) : Prop :=
  wp_X9_init M a0 (fun M_1 => ∀ M_4, M_4 = msI M_1 a0 0 x1 → Post M_4)
def wp_X14_init (M : MM) (a0 : Nat) (o1 : Option Nat) (x2 : Int32) (Post : MM → Prop) : Prop :=
  wp_X13_init M a0 (fun M_1 => ∀ M_4, M_4 = msR M_1 a0 0 o1 → ∀ M_6, M_6 = msI M_4 a0 1 x2 → Post M_6)
def wp_X15_init (M : MM) (a0 : Nat) (o1 : Option Nat) (Post : MM → Prop) : Prop :=
  wp_X13_init M a0 (fun M_1 => ∀ M_4, M_4 = msR M_1 a0 0 o1 → Post M_4)
def wp_X16_init (M : MM) (a0 : Nat) (o1 : Option Nat) (x2 : Int32) (o3 : Option Nat) (Post : MM → Prop) : Prop :=
  wp_X13_init M a0 (fun M_1 => ∀ M_4, M_4 = msR M_1 a0 0 o1 → ∀ M_6, M_6 = msI M_4 a0 2 x2 → ∀ M_8, M_8 = msR M_6 a0 1 o3 → Post M_8)
def wp_X6_init (M : MM) (a0 : Nat) (Post : MM → Prop) : Prop :=
  ∀ b_3, b_3 = msz M → ∀ M_5, M_5 = mnw M 100 14 → ∀ M_7, M_7 = msR M_5 a0 0 (some b_3) → ∀ b_11, b_11 = msz M_7 → ∀ M_13, M_13 = mnw M_7 106 14 → ∀ M_15, M_15 = msR M_13 a0 1 (some b_11) → ∀ b_19, b_19 = msz M_15 → ∀ M_21, M_21 = mnw M_15 107 14 → ∀ M_23, M_23 = msR M_21 a0 2 (some b_19) → Post M_23
def wp_X2_init (M : MM) (a0 : Nat) (a1 : Nat) (Post : MM → Prop) : Prop :=
  ∀ M_1, M_1 = msR M a0 13 (some a1) → wp_X1_init M_1 a0 (fun M_3 => Post M_3)
def wp_X2_of (M : MM) (a0 : Nat) (x1 : Int32) (x2 : Int32) (Post : Option Nat → MM → Prop) : Prop :=
  ∀ M_1, M_1 = msI M a0 1 x1 → ∀ M_3, M_3 = msI M_1 a0 2 x2 → ∀ M_5, M_5 = msI M_3 a0 3 (0 : Int32) → ∀ M_7, M_7 = msI M_5 a0 4 (0 : Int32) → ∀ M_9, M_9 = msI M_7 a0 5 (0 : Int32) → ∀ M_11, M_11 = msI M_9 a0 6 (0 : Int32) → ∀ M_13, M_13 = msI M_11 a0 7 (0 : Int32) → ∀ M_15, M_15 = msI M_13 a0 8 (0 : Int32) → ∀ M_17, M_17 = msI M_15 a0 9 (0 : Int32) → ∀ M_19, M_19 = msI M_17 a0 10 (0 : Int32) → ∀ M_21, M_21 = msI M_19 a0 11 (0 : Int32) → ∀ M_23, M_23 = msI M_21 a0 12 (0 : Int32) → Post (some a0) M_23
def wp_X2_ofPlant (M : MM) (a0 : Nat) (x1 : Int32) (x2 : Int32) (x3 : Int32) (x4 : Int32) (x5 : Int32) (x6 : Int32) (x7 : Int32) (Post : Option Nat → MM → Prop) : Prop :=
  ∀ M_1, M_1 = msI M a0 3 x1 → ∀ M_3, M_3 = msI M_1 a0 4 x2 → ∀ M_5, M_5 = msI M_3 a0 5 x3 → ∀ M_7, M_7 = msI M_5 a0 6 x4 → ∀ M_9, M_9 = msI M_7 a0 7 x5 → ∀ M_11, M_11 = msI M_9 a0 8 x6 → ∀ M_13, M_13 = msI M_11 a0 11 x7 → Post (some a0) M_13
def wp_X2_by (M : MM) (a0 : Nat) (x1 : Int32) (x2 : Int32) (x3 : Int32) (Post : Option Nat → MM → Prop) : Prop :=
  ∀ M_1, M_1 = msI M a0 9 x1 → ∀ M_3, M_3 = msI M_1 a0 10 x2 → ∀ M_5, M_5 = msI M_3 a0 12 x3 → Post (some a0) M_5
def wp_X2_value (M : MM) (a0 : Nat) (x1 : Int32) (Post : Int32 → MM → Prop) : Prop :=
  if x1 = 97 then (Post (mgI M a0 11) M)
  else (if x1 = 98 then (Post (mgI M a0 12) M)
  else (if x1 = 99 then (Post (mgI M a0 12) M)
  else (if x1 = 100 then (Post (mgI M a0 1) M)
  else (if x1 = 101 then (Post (mgI M a0 12) M)
  else (if x1 = 102 then (Post (mgI M a0 5) M)
  else (if x1 = 103 then (Post (mgI M a0 12) M)
  else (if x1 = 104 then (Post (mgI M a0 12) M)
  else (if x1 = 105 then (Post (mgI M a0 12) M)
  else (if x1 = 106 then (Post (mgI M a0 12) M)
  else (if x1 = 107 then (Post (mgI M a0 12) M)
  else (if x1 = 108 then (Post (mgI M a0 3) M)
  else (if x1 = 109 then (Post (mgI M a0 12) M)
  else (if x1 = 110 then (Post (mgI M a0 2) M)
  else (if x1 = 111 then (Post (mgI M a0 4) M)
  else (if x1 = 112 then (Post (mgI M a0 9) M)
  else (if x1 = 113 then (Post (mgI M a0 12) M)
  else (if x1 = 114 then (Post (mgI M a0 12) M)
  else (if x1 = 115 then (Post (mgI M a0 6) M)
  else (if x1 = 116 then (Post (mgI M a0 10) M)
  else (if x1 = 117 then (Post (mgI M a0 12) M)
  else (if x1 = 118 then (Post (mgI M a0 12) M)
  else (if x1 = 119 then (Post (rm_ (mgI M a0 1) (7 : Int32)) M)
  else (if x1 = 120 then (Post (mgI M a0 12) M)
  else (if x1 = 121 then (Post (mgI M a0 7) M)
  else (if x1 = 122 then (Post (mgI M a0 8) M)
  else (Post (mgI M a0 12) M))))))))))))))))))))))))))
def wb_X10_worked_53 (M : MM) (x0 : Int32) (x1 : Int32) (x2 : Int32) (Post : Int32 → MM → Prop) : Prop :=
  if x2 = 0 then (Post (0 : Int32) M)
  else (if x0 = (47 : Int32) then (¬ x2 = 0 ∧ Post (x1 / x2) M)
  else (¬ x2 = 0 ∧ Post (rm_ x1 x2) M))
def wp_X10_worked (M : MM) (x0 : Int32) (x1 : Int32) (x2 : Int32) (a3 : Nat) (Post : Int32 → MM → Prop) : Prop :=
  if x0 = 42 then (Post (x1 * x2) M)
  else (if x0 = 43 then (Post (x1 + x2) M)
  else (if x0 = 44 then (if x2 = 0 then (∀ M_9, M_9 = msI M a3 0 (1 : Int32) → wb_X10_worked_53 M_9 x0 x1 x2 Post)
  else (wb_X10_worked_53 M x0 x1 x2 Post))
  else (if x0 = 45 then (Post (x1 - x2) M)
  else (if x2 = 0 then (∀ M_13, M_13 = msI M a3 0 (1 : Int32) → wb_X10_worked_53 M_13 x0 x1 x2 Post)
  else (wb_X10_worked_53 M x0 x1 x2 Post)))))
def wp_J6_bitCount (M : MM) (x0 : Int32) (Post : Int32 → MM → Prop) : Prop :=
  ∀ x0_1, x0_1 = x0 - (((x0.toUInt32 >>> ((1 : Int32).toUInt32 &&& Int32.toUInt32 31)).toInt32) &&& (1431655765 : Int32)) → ∀ x0_3, x0_3 = (x0_1 &&& (858993459 : Int32)) + (((x0_1.toUInt32 >>> ((2 : Int32).toUInt32 &&& Int32.toUInt32 31)).toInt32) &&& (858993459 : Int32)) → ∀ x0_5, x0_5 = (x0_3 + ((x0_3.toUInt32 >>> ((4 : Int32).toUInt32 &&& Int32.toUInt32 31)).toInt32)) &&& (252645135 : Int32) → ∀ x0_7, x0_7 = x0_5 + ((x0_5.toUInt32 >>> ((8 : Int32).toUInt32 &&& Int32.toUInt32 31)).toInt32) → ∀ x0_9, x0_9 = x0_7 + ((x0_7.toUInt32 >>> ((16 : Int32).toUInt32 &&& Int32.toUInt32 31)).toInt32) → Post (x0_9 &&& (63 : Int32)) M
def wp_X4_init (M : MM) (a0 : Nat) (Post : MM → Prop) : Prop :=
  ∀ b_3, b_3 = msz M → ∀ M_5, M_5 = mnw M 100 7 → ∀ M_7, M_7 = msR M_5 a0 0 (some b_3) → Post M_7
def wp_X4_isDead (M : MM) (a0 : Nat) (Post : Int32 → MM → Prop) : Prop :=
  if (mgI M a0 3) ≤ (mgI M a0 4) then (Post (1 : Int32) M)
  else (if (mgI M a0 5) < (mgI M a0 3) then (Post (0 : Int32) M)
  else (Post (1 : Int32) M))
def wp_X4_gets (M : MM) (a0 : Nat) (x1 : Int32) (Post : Int32 → MM → Prop) : Prop :=
  ∀ x2_1, x2_1 = mx_ (0 : Int32) (((mgI M a0 2) + x1) - (mgI M a0 1)) → ∀ M_3, M_3 = msI M a0 2 (((mgI M a0 2) + x1) - x2_1) → Post x2_1 M_3
def wp_X4_lives (M : MM) (a0 : Nat) (Post : Int32 → MM → Prop) : Prop :=
  if (mgI M a0 8) = 0 then (Post (0 : Int32) M)
  else (wp_X4_isDead M a0 (fun r_3 M_2 => if r_3 = 0 then (Post (1 : Int32) M_2)
  else (Post (0 : Int32) M_2)))
def wp_X4_looked (M : MM) (a0 : Nat) (x1 : Int32) (Post : Int32 → MM → Prop) : Prop :=
  ∃ b_1, mgR M a0 0 = some b_1 ∧ mkd M b_1 = 100 ∧ vp_in (rm_ ((((mgI M a0 6) + (7 : Int32)) - (1 : Int32)) - x1) (7 : Int32)) (mln M b_1) ∧ Post (mgI M b_1 (ix_ (rm_ ((((mgI M a0 6) + (7 : Int32)) - (1 : Int32)) - x1) (7 : Int32)))) M
def wb_X4_dayEnds_57 (M : MM) (a0 : Nat) (as0 : Nat) (xs1 : Int32) (Post : MM → Prop) : Prop :=
  ∀ M_7, M_7 = msI M as0 5 xs1 → ∃ b_9, mgR M_7 a0 0 = some b_9 ∧ mkd M_7 b_9 = 100 ∧ vp_in (mgI M_7 a0 6) (mln M_7 b_9) ∧ ∀ M_13, M_13 = msI M_7 b_9 (ix_ (mgI M_7 a0 6)) (mgI M_7 a0 2) → ∀ M_15, M_15 = msI M_13 a0 6 (rm_ ((mgI M_13 a0 6) + (1 : Int32)) (7 : Int32)) → Post M_15
def wb_X4_dayEnds_32 (M : MM) (a0 : Nat) (as0 : Nat) (xs1 : Int32) (Post : MM → Prop) : Prop :=
  ∀ M_4, M_4 = msI M as0 4 xs1 → if (mgI M_4 a0 2) = (mgI M_4 a0 1) then (wb_X4_dayEnds_57 M_4 a0 a0 ((mgI M_4 a0 5) + (1 : Int32)) Post)
  else (wb_X4_dayEnds_57 M_4 a0 a0 (0 : Int32) Post)
def wp_X4_dayEnds (M : MM) (a0 : Nat) (x1 : Int32) (Post : MM → Prop) : Prop :=
  ∀ M_1, M_1 = msI M a0 2 (mx_ (0 : Int32) ((mgI M a0 2) - x1)) → if (mgI M_1 a0 2) = 0 then (wb_X4_dayEnds_32 M_1 a0 a0 ((mgI M_1 a0 4) + (1 : Int32)) Post)
  else (wb_X4_dayEnds_32 M_1 a0 a0 (0 : Int32) Post)
def wl_X4_takes_2 (a0 : Nat) (a1 : Nat) (X26 : MM → Prop) : Nat → MM → Int32 → Prop
  | 0, _, _ => False
  | n_ + 1, M, x2 =>
  if (7 : Int32) ≤ x2 then (X26 M)
  else (∃ b_2, mgR M a0 0 = some b_2 ∧ mkd M b_2 = 100 ∧ ∃ b_5, mgR M a1 0 = some b_5 ∧ mkd M b_5 = 100 ∧ vp_in x2 (mln M b_5) ∧ vp_in x2 (mln M b_2) ∧ ∀ M_10, M_10 = msI M b_2 (ix_ x2) (mgI M b_5 (ix_ x2)) → ∀ x2_12, x2_12 = x2 + 1 → wl_X4_takes_2 a0 a1 X26 n_ M_10 x2_12)
def wp_X4_takes (M : MM) (a0 : Nat) (a1 : Nat) (Post : MM → Prop) : Prop :=
  ∃ n_14, wl_X4_takes_2 a0 a1
    (fun (M_15 : MM) => ∀ M_17, M_17 = msI M_15 a0 1 (mgI M_15 a1 1) → ∀ M_19, M_19 = msI M_17 a0 2 (mgI M_17 a1 2) → ∀ M_21, M_21 = msI M_19 a0 3 (mgI M_19 a1 3) → ∀ M_23, M_23 = msI M_21 a0 4 (mgI M_21 a1 4) → ∀ M_25, M_25 = msI M_23 a0 5 (mgI M_23 a1 5) → ∀ M_27, M_27 = msI M_25 a0 6 (mgI M_25 a1 6) → ∀ M_29, M_29 = msI M_27 a0 7 (mgI M_27 a1 7) → isB_ (mgI M_29 a1 8) ∧ ∀ M_32, M_32 = msI M_29 a0 8 (mgI M_29 a1 8) → isB_ (mgI M_32 a1 9) ∧ ∀ M_35, M_35 = msI M_32 a0 9 (mgI M_32 a1 9) → Post M_35) n_14 M (0 : Int32)
def wp_X5_init (M : MM) (a0 : Nat) (Post : MM → Prop) : Prop :=
  Post M
def wp_X5_takes (M : MM) (a0 : Nat) (a1 : Nat) (Post : MM → Prop) : Prop :=
  ∀ M_1, M_1 = msI M a0 0 (mgI M a1 0) → ∀ M_3, M_3 = msI M_1 a0 1 (mgI M_1 a1 1) → ∀ M_5, M_5 = msI M_3 a0 2 (mgI M_3 a1 2) → isB_ (mgI M_5 a1 3) ∧ ∀ M_8, M_8 = msI M_5 a0 3 (mgI M_5 a1 3) → Post M_8
def wp_X0_held (M : MM) (x0 : Int32) (x1 : Int32) (Post : Int32 → MM → Prop) : Prop :=
  Post (mx_ (0 : Int32) (mn_ x1 x0)) M
def wp_X0_in (M : MM) (x0 : Int32) (x1 : Int32) (Post : Int32 → MM → Prop) : Prop :=
  if x0 < 0 then (Post (0 : Int32) M)
  else (if x1 ≤ x0 then (Post (0 : Int32) M)
  else (Post (1 : Int32) M))
def wp_X0_within (M : MM) (x0 : Int32) (x1 : Int32) (x2 : Int32) (Post : Int32 → MM → Prop) : Prop :=
  if x0 < x1 then (Post (0 : Int32) M)
  else (if x2 < x0 then (Post (0 : Int32) M)
  else (Post (1 : Int32) M))
def wp_X0_has (M : MM) (x0 : Int32) (x1 : Int32) (Post : Int32 → MM → Prop) : Prop :=
  if ((x0 >>> (x1 &&& 31)) &&& (1 : Int32)) = (1 : Int32) then (Post (1 : Int32) M)
  else (Post (0 : Int32) M)
def wl_X0_divisor_6 (X31 : MM → Int64 → Prop) : Nat → MM → Int64 → Int64 → Prop
  | 0, _, _, _ => False
  | n_ + 1, M, x4, x6 =>
  if x6 = (0 : Int64) then (X31 M x4)
  else (¬ x6 = 0 ∧ ∀ x8_3, x8_3 = rmL_ x4 x6 → wl_X0_divisor_6 X31 n_ M x6 x8_3)
def wp_X0_divisor (M : MM) (x0 : Int64) (x2 : Int64) (Post : Int64 → MM → Prop) : Prop :=
  ∃ n_5, wl_X0_divisor_6
    (fun (M_6 : MM) (x4_8 : Int64) => Post x4_8 M_6) n_5 M x0 x2
def wl_X0_powerOf_5 (x0 : Int32) (x1 : Int32) (X22 : MM → Int64 → Prop) : Nat → MM → Int64 → Int32 → Prop
  | 0, _, _, _ => False
  | n_ + 1, M, x2, x4 =>
  if x1 ≤ x4 then (X22 M x2)
  else (∀ x2_2, x2_2 = x2 * x0.toInt64 → ∀ x4_4, x4_4 = x4 + 1 → wl_X0_powerOf_5 x0 x1 X22 n_ M x2_2 x4_4)
def wp_X0_powerOf (M : MM) (x0 : Int32) (x1 : Int32) (Post : Int64 → MM → Prop) : Prop :=
  ∃ n_6, wl_X0_powerOf_5 x0 x1
    (fun (M_7 : MM) (x2_9 : Int64) => Post x2_9 M_7) n_6 M (1 : Int64) (0 : Int32)
def wp_X0_dryOf (M : MM) (x0 : Int32) (Post : Int32 → MM → Prop) : Prop :=
  if (9 : Int32) < x0 then (Post (0 : Int32) M)
  else (Post x0 M)
def wp_X0_drownedOf (M : MM) (x0 : Int32) (Post : Int32 → MM → Prop) : Prop :=
  if (9 : Int32) < x0 then (Post ((x0 - (9 : Int32)) - (1 : Int32)) M)
  else (Post (0 : Int32) M)
abbrev WT : Type := MM → Nat → Nat → (Int32 → MM → Prop) → Prop

def wl_X10_worth_14 (Rc : WT) (a1 : Nat) (X44 : MM → Int32 → Prop) : Nat → MM → Int32 → Option Nat → Prop
  | 0, _, _, _ => False
  | n_ + 1, M, x2, o3 =>
  if o3 = none then (X44 M x2)
  else (∃ b_7, o3 = some b_7 ∧ mkd M b_7 = 9 ∧ ∃ b_10, o3 = some b_10 ∧ mkd M b_10 = 9 ∧ ∃ b_13, (mgR M b_10 1) = some b_13 ∧ Rc M b_13 a1 (fun r_16 M_15 => wp_X10_worked M_15 (mgI M b_7 0) x2 r_16 a1 (fun r_19 M_18 => ∃ b_21, o3 = some b_21 ∧ mkd M_18 b_21 = 9 ∧ wl_X10_worth_14 Rc a1 X44 n_ M_18 r_19 (mgR M_18 b_21 2))))
def wp_X10_worth (Rc : WT) (M : MM) (a0 : Nat) (a1 : Nat) (Post : Int32 → MM → Prop) : Prop :=
  ∃ b_1, (mgR M a0 1) = some b_1 ∧ Rc M b_1 a1 (fun r_4 M_3 => ∃ n_24, wl_X10_worth_14 Rc a1
    (fun (M_25 : MM) (x2_27 : Int32) => Post x2_27 M_25) n_24 M_3 r_4 (mgR M_3 a0 2))
def wp_X11_worth (Rc : WT) (M : MM) (a0 : Nat) (a1 : Nat) (Post : Int32 → MM → Prop) : Prop :=
  Post (mgI M a0 0) M
def wp_X12_worth (Rc : WT) (M : MM) (a0 : Nat) (a1 : Nat) (Post : Int32 → MM → Prop) : Prop :=
  wp_X2_value M a1 (mgI M a0 0) (fun r_2 M_1 => Post r_2 M_1)
def wpW : Nat → WT
  | 0 => fun _ _ _ _ => False
  | d + 1 => fun M b q P => (mkd M b = 9 ∧ wp_X10_worth (wpW d) M b q P) ∨ (mkd M b = 10 ∧ wp_X11_worth (wpW d) M b q P) ∨ (mkd M b = 11 ∧ wp_X12_worth (wpW d) M b q P)

def wl_X14_holds_2 (Rc : WT) (a0 : Nat) (a1 : Nat) (X28 : MM → Int32 → Prop) (X38 : MM → Prop) : Nat → MM → Option Nat → Prop
  | 0, _, _ => False
  | n_ + 1, M, o2 =>
  if o2 = none then (X38 M)
  else (∃ b_2, o2 = some b_2 ∧ mkd M b_2 = 12 ∧ ∃ b_5, (mgR M b_2 0) = some b_5 ∧ Rc M b_5 a1 (fun r_8 M_7 => if r_8 = (2 : Int32) then (X28 M_7 r_8)
  else (if r_8 = (mgI M_7 a0 1) then (X28 M_7 r_8)
  else (∃ b_12, o2 = some b_12 ∧ mkd M_7 b_12 = 12 ∧ wl_X14_holds_2 Rc a0 a1 X28 X38 n_ M_7 (mgR M_7 b_12 2)))))
def wp_X14_holds (Rc : WT) (M : MM) (a0 : Nat) (a1 : Nat) (Post : Int32 → MM → Prop) : Prop :=
  ∃ n_15, wl_X14_holds_2 Rc a0 a1
    (fun (M_16 : MM) (x3_18 : Int32) => Post x3_18 M_16)
    (fun (M_19 : MM) => Post ((1 : Int32) - (mgI M_19 a0 1)) M_19) n_15 M (some a0)
def wp_X15_holds (Rc : WT) (M : MM) (a0 : Nat) (a1 : Nat) (Post : Int32 → MM → Prop) : Prop :=
  ∃ b_1, (mgR M a0 0) = some b_1 ∧ Rc M b_1 a1 (fun r_4 M_3 => if r_4 = (2 : Int32) then (Post (2 : Int32) M_3)
  else (Post ((1 : Int32) - r_4) M_3))
def wb_X16_holds_77 (Rc : WT) (M : MM) (a1 : Nat) (xs0 : Int32) (Post : Int32 → MM → Prop) : Prop :=
  if (mgI M a1 0) = 0 then (if xs0 = 0 then (Post (0 : Int32) M)
  else (Post (1 : Int32) M))
  else (Post (2 : Int32) M)
def wp_X16_holds (Rc : WT) (M : MM) (a0 : Nat) (a1 : Nat) (Post : Int32 → MM → Prop) : Prop :=
  ∀ M_1, M_1 = msI M a1 0 (0 : Int32) → ∃ b_3, (mgR M_1 a0 0) = some b_3 ∧ wpW 40 M_1 b_3 a1 (fun r_6 M_5 => ∃ b_8, (mgR M_5 a0 1) = some b_8 ∧ wpW 40 M_5 b_8 a1 (fun r_11 M_10 => if (mgI M_10 a0 2) = (60 : Int32) then (if r_11 ≤ r_6 then (wb_X16_holds_77 Rc M_10 a1 (0 : Int32) Post)
  else (wb_X16_holds_77 Rc M_10 a1 (1 : Int32) Post))
  else (if (mgI M_10 a0 2) = (62 : Int32) then (if r_6 ≤ r_11 then (wb_X16_holds_77 Rc M_10 a1 (0 : Int32) Post)
  else (wb_X16_holds_77 Rc M_10 a1 (1 : Int32) Post))
  else (if r_6 = r_11 then (wb_X16_holds_77 Rc M_10 a1 (1 : Int32) Post)
  else (wb_X16_holds_77 Rc M_10 a1 (0 : Int32) Post)))))
def wpH : Nat → WT
  | 0 => fun _ _ _ _ => False
  | d + 1 => fun M b q P => (mkd M b = 12 ∧ wp_X14_holds (wpH d) M b q P) ∨ (mkd M b = 13 ∧ wp_X15_holds (wpH d) M b q P) ∨ (mkd M b = 14 ∧ wp_X16_holds (wpH d) M b q P)

def wp_X9_told (M : MM) (a0 : Nat) (a1 : Nat) (Post : Int32 → MM → Prop) : Prop :=
  ∀ M_1, M_1 = msI M a1 0 (0 : Int32) → wpW 40 M_1 a0 a1 (fun r_6 M_5 => if (mgI M_5 a1 0) = 0 then (Post r_6 M_5)
  else (Post (0 : Int32) M_5))
def wpT : WT := fun M b q P => (mkd M b = 9 ∨ mkd M b = 10 ∨ mkd M b = 11) ∧ wp_X9_told M b q P

def wl_X6_tells_2 (a0 : Nat) (x1 : Int32) (a2 : Nat) (X34 : MM → Int32 → Prop) (X51 : MM → Prop) : Nat → MM → Int32 → Prop
  | 0, _, _ => False
  | n_ + 1, M, x3 =>
  if (mgI M a0 3) ≤ x3 then (X51 M)
  else (∃ b_2, mgR M a0 0 = some b_2 ∧ mkd M b_2 = 100 ∧ vp_in x3 (mln M b_2) ∧ if (mgI M b_2 (ix_ x3)) = x1 then (∃ b_9, mgR M a0 2 = some b_9 ∧ mkd M b_9 = 107 ∧ vp_in x3 (mln M b_9) ∧ ∃ b_13, (mgR M b_9 (ix_ x3)) = some b_13 ∧ wpH 40 M b_13 a2 (fun r_16 M_15 => if r_16 = (1 : Int32) then (X34 M_15 x3)
  else (∀ x3_19, x3_19 = x3 + 1 → wl_X6_tells_2 a0 x1 a2 X34 X51 n_ M_15 x3_19)))
  else (∀ x3_7, x3_7 = x3 + 1 → wl_X6_tells_2 a0 x1 a2 X34 X51 n_ M x3_7))
def wp_X6_tells (M : MM) (a0 : Nat) (x1 : Int32) (a2 : Nat) (Post : Int32 → MM → Prop) : Prop :=
  ∃ n_21, wl_X6_tells_2 a0 x1 a2
    (fun (M_22 : MM) (x3_24 : Int32) => ∃ b_25, mgR M_22 a0 1 = some b_25 ∧ mkd M_22 b_25 = 106 ∧ vp_in x3_24 (mln M_22 b_25) ∧ ∃ b_29, (mgR M_22 b_25 (ix_ x3_24)) = some b_29 ∧ wpT M_22 b_29 a2 (fun r_32 M_31 => Post r_32 M_31))
    (fun (M_34 : MM) => Post (0 : Int32) M_34) n_21 M (0 : Int32)
def wp_X2_tells (M : MM) (a0 : Nat) (x1 : Int32) (x2 : Int32) (Post : Int32 → MM → Prop) : Prop :=
  ∃ b_1, mgR M a0 13 = some b_1 ∧ mkd M b_1 = 1 ∧ ∃ b_4, mgR M b_1 6 = some b_4 ∧ mkd M b_4 = 6 ∧ wp_X6_tells M b_4 x1 a0 (fun r_8 M_7 => wp_X0_held M_7 r_8 x2 (fun r_11 M_10 => Post r_11 M_10))
def wp_X2_givesBy (M : MM) (a0 : Nat) (x1 : Int32) (Post : Int32 → MM → Prop) : Prop :=
  ∃ b_1, mgR M a0 13 = some b_1 ∧ mkd M b_1 = 1 ∧ ∃ b_4, mgR M b_1 5 = some b_4 ∧ mkd M b_4 = 105 ∧ vp_in x1 (mln M b_4) ∧ if (mgR M b_4 (ix_ x1)) = none then (Post (0 : Int32) M)
  else (∃ b_9, mgR M a0 13 = some b_9 ∧ mkd M b_9 = 1 ∧ ∃ b_12, mgR M b_9 5 = some b_12 ∧ mkd M b_12 = 105 ∧ vp_in x1 (mln M b_12) ∧ ∃ b_16, (mgR M b_12 (ix_ x1)) = some b_16 ∧ mkd M b_16 = 6 ∧ wp_X6_tells M b_16 (103 : Int32) a0 (fun r_20 M_19 => wp_X0_held M_19 r_20 (9 : Int32) (fun r_23 M_22 => Post r_23 M_22)))
def wp_X3_init (M : MM) (a0 : Nat) (a1 : Nat) (Post : MM → Prop) : Prop :=
  ∀ M_1, M_1 = msR M a0 7 (some a1) → ∀ b_5, b_5 = msz M_1 → ∀ M_7, M_7 = mnw M_1 103 4 → ∀ M_9, M_9 = msR M_7 a0 0 (some b_5) → ∀ b_13, b_13 = msz M_9 → ∀ M_15, M_15 = mnw M_9 104 8 → ∀ M_17, M_17 = msR M_15 a0 1 (some b_13) → ∃ b_20, mgR M_17 a0 0 = some b_20 ∧ mkd M_17 b_20 = 103 ∧ ∀ b_25, b_25 = msz M_17 → ∀ M_27, M_27 = mnw M_17 4 0 → wp_X4_init M_27 b_25 (fun M_29 => 0 < mln M_29 b_20 ∧ ∀ M_33, M_33 = msR M_29 b_20 0 (some b_25) → ∃ b_36, mgR M_33 a0 0 = some b_36 ∧ mkd M_33 b_36 = 103 ∧ ∀ b_41, b_41 = msz M_33 → ∀ M_43, M_43 = mnw M_33 4 0 → wp_X4_init M_43 b_41 (fun M_45 => 1 < mln M_45 b_36 ∧ ∀ M_49, M_49 = msR M_45 b_36 1 (some b_41) → ∃ b_52, mgR M_49 a0 0 = some b_52 ∧ mkd M_49 b_52 = 103 ∧ ∀ b_57, b_57 = msz M_49 → ∀ M_59, M_59 = mnw M_49 4 0 → wp_X4_init M_59 b_57 (fun M_61 => 2 < mln M_61 b_52 ∧ ∀ M_65, M_65 = msR M_61 b_52 2 (some b_57) → ∃ b_68, mgR M_65 a0 0 = some b_68 ∧ mkd M_65 b_68 = 103 ∧ ∀ b_73, b_73 = msz M_65 → ∀ M_75, M_75 = mnw M_65 4 0 → wp_X4_init M_75 b_73 (fun M_77 => 3 < mln M_77 b_68 ∧ ∀ M_81, M_81 = msR M_77 b_68 3 (some b_73) → ∃ b_85, mgR M_81 a0 1 = some b_85 ∧ mkd M_81 b_85 = 104 ∧ ∀ b_90, b_90 = msz M_81 → ∀ M_92, M_92 = mnw M_81 5 0 → wp_X5_init M_92 b_90 (fun M_94 => 0 < mln M_94 b_85 ∧ ∀ M_98, M_98 = msR M_94 b_85 0 (some b_90) → ∃ b_101, mgR M_98 a0 1 = some b_101 ∧ mkd M_98 b_101 = 104 ∧ ∀ b_106, b_106 = msz M_98 → ∀ M_108, M_108 = mnw M_98 5 0 → wp_X5_init M_108 b_106 (fun M_110 => 1 < mln M_110 b_101 ∧ ∀ M_114, M_114 = msR M_110 b_101 1 (some b_106) → ∃ b_117, mgR M_114 a0 1 = some b_117 ∧ mkd M_114 b_117 = 104 ∧ ∀ b_122, b_122 = msz M_114 → ∀ M_124, M_124 = mnw M_114 5 0 → wp_X5_init M_124 b_122 (fun M_126 => 2 < mln M_126 b_117 ∧ ∀ M_130, M_130 = msR M_126 b_117 2 (some b_122) → ∃ b_133, mgR M_130 a0 1 = some b_133 ∧ mkd M_130 b_133 = 104 ∧ ∀ b_138, b_138 = msz M_130 → ∀ M_140, M_140 = mnw M_130 5 0 → wp_X5_init M_140 b_138 (fun M_142 => 3 < mln M_142 b_133 ∧ ∀ M_146, M_146 = msR M_142 b_133 3 (some b_138) → ∃ b_149, mgR M_146 a0 1 = some b_149 ∧ mkd M_146 b_149 = 104 ∧ ∀ b_154, b_154 = msz M_146 → ∀ M_156, M_156 = mnw M_146 5 0 → wp_X5_init M_156 b_154 (fun M_158 => 4 < mln M_158 b_149 ∧ ∀ M_162, M_162 = msR M_158 b_149 4 (some b_154) → ∃ b_165, mgR M_162 a0 1 = some b_165 ∧ mkd M_162 b_165 = 104 ∧ ∀ b_170, b_170 = msz M_162 → ∀ M_172, M_172 = mnw M_162 5 0 → wp_X5_init M_172 b_170 (fun M_174 => 5 < mln M_174 b_165 ∧ ∀ M_178, M_178 = msR M_174 b_165 5 (some b_170) → ∃ b_181, mgR M_178 a0 1 = some b_181 ∧ mkd M_178 b_181 = 104 ∧ ∀ b_186, b_186 = msz M_178 → ∀ M_188, M_188 = mnw M_178 5 0 → wp_X5_init M_188 b_186 (fun M_190 => 6 < mln M_190 b_181 ∧ ∀ M_194, M_194 = msR M_190 b_181 6 (some b_186) → ∃ b_197, mgR M_194 a0 1 = some b_197 ∧ mkd M_194 b_197 = 104 ∧ ∀ b_202, b_202 = msz M_194 → ∀ M_204, M_204 = mnw M_194 5 0 → wp_X5_init M_204 b_202 (fun M_206 => 7 < mln M_206 b_197 ∧ ∀ M_210, M_210 = msR M_206 b_197 7 (some b_202) → Post M_210))))))))))))
def wl_X3_toldPeople_13 (a2 : Nat) (x3 : Int32) (X47 : MM → Int32 → Prop) : Nat → MM → Int32 → Int32 → Prop
  | 0, _, _, _ => False
  | n_ + 1, M, x1, x4 =>
  if x3 ≤ x4 then (X47 M x1)
  else (vp_in x4 (mln M a2) ∧ ∃ b_8, mgR M a2 (ix_ x4) = some b_8 ∧ mkd M b_8 = 5 ∧ if (mgI M b_8 3) = 0 then (∀ x1_12, x1_12 = x1 + (0 : Int32) → ∀ x4_14, x4_14 = x4 + 1 → wl_X3_toldPeople_13 a2 x3 X47 n_ M x1_12 x4_14)
  else (∀ x1_16, x1_16 = x1 + (1 : Int32) → ∀ x4_18, x4_18 = x4 + 1 → wl_X3_toldPeople_13 a2 x3 X47 n_ M x1_16 x4_18))
def wp_X3_toldPeople (M : MM) (a0 : Nat) (Post : Int32 → MM → Prop) : Prop :=
  ∃ b_1, mgR M a0 1 = some b_1 ∧ mkd M b_1 = 104 ∧ ∀ x3_4, x3_4 = nI (mln M b_1) → ∃ n_20, wl_X3_toldPeople_13 b_1 x3_4
    (fun (M_21 : MM) (x1_23 : Int32) => Post x1_23 M_21) n_20 M (0 : Int32) (0 : Int32)
def wb_X3_at_36 (M : MM) (a0 : Nat) (x1 : Int32) (a2 : Nat) (xs0 : Int32) (Post : Option Nat → MM → Prop) : Prop :=
  ∃ b_9, mgR M a0 7 = some b_9 ∧ mkd M b_9 = 1 ∧ ∃ b_12, mgR M b_9 0 = some b_12 ∧ mkd M b_12 = 2 ∧ wp_X3_toldPeople M a0 (fun r_16 M_15 => wp_X2_of M_15 b_12 (mgI M a0 2) r_16 (fun r_19 M_18 => ∃ b_21, r_19 = some b_21 ∧ mkd M_18 b_21 = 2 ∧ wp_X4_looked M_18 a2 (6 : Int32) (fun r_25 M_24 => wp_X2_ofPlant M_24 b_21 x1 (mgI M_18 a2 1) (mgI M_18 a2 2) r_25 (mgI M_24 a2 4) (mgI M_24 a2 5) xs0 (fun r_28 M_27 => ∃ b_30, r_28 = some b_30 ∧ mkd M_27 b_30 = 2 ∧ Post (some b_30) M_27))))
def wb_X3_at_22 (M : MM) (a0 : Nat) (x1 : Int32) (a2 : Nat) (Post : Option Nat → MM → Prop) : Prop :=
  wb_X3_at_36 M a0 x1 a2 (99 : Int32) Post
def wp_X3_at (M : MM) (a0 : Nat) (x1 : Int32) (Post : Option Nat → MM → Prop) : Prop :=
  ∃ b_1, mgR M a0 0 = some b_1 ∧ mkd M b_1 = 103 ∧ vp_in x1 (mln M b_1) ∧ ∃ b_5, mgR M b_1 (ix_ x1) = some b_5 ∧ mkd M b_5 = 4 ∧ if (mgI M b_5 9) = 0 then (wb_X3_at_22 M a0 x1 b_5 Post)
  else (if (mgI M b_5 7) = (-1 : Int32) then (wb_X3_at_22 M a0 x1 b_5 Post)
  else (wb_X3_at_36 M a0 x1 b_5 ((mgI M a0 2) - (mgI M b_5 7)) Post))
def wp_X3_draw (M : MM) (a0 : Nat) (Post : Int32 → MM → Prop) : Prop :=
  ∀ M_1, M_1 = msI M a0 3 (rm_ (((25173 : Int32) * (mgI M a0 3)) + (13849 : Int32)) (65536 : Int32)) → Post (rm_ (mgI M_1 a0 3) (10 : Int32)) M_1
def wb_X3_dayEnds_60 (M : MM) (a0 : Nat) (x1 : Int32) (x3 : Int32) (as0 : Nat) (xs1 : Int32) (xs2 : Int32) (Post : MM → Prop) : Prop :=
  ∀ M_16, M_16 = msI M as0 6 (xs1 + xs2) → ∃ b_18, mgR M_16 a0 0 = some b_18 ∧ mkd M_16 b_18 = 103 ∧ vp_in x1 (mln M_16 b_18) ∧ ∃ b_22, mgR M_16 b_18 (ix_ x1) = some b_22 ∧ mkd M_16 b_22 = 4 ∧ wp_X4_dayEnds M_16 b_22 x3 (fun M_25 => Post M_25)
def wb_X3_dayEnds_46 (M : MM) (a0 : Nat) (x1 : Int32) (x2 : Int32) (x3 : Int32) (Post : MM → Prop) : Prop :=
  if x2 = 0 then (wb_X3_dayEnds_60 M a0 x1 x3 a0 (mgI M a0 6) (0 : Int32) Post)
  else (wb_X3_dayEnds_60 M a0 x1 x3 a0 (mgI M a0 6) (1 : Int32) Post)
def wb_X3_dayEnds_13 (M : MM) (a0 : Nat) (x1 : Int32) (xs0 : Int32) (Post : MM → Prop) : Prop :=
  wp_X3_at M a0 x1 (fun r_6 M_5 => ∃ b_8, r_6 = some b_8 ∧ mkd M_5 b_8 = 2 ∧ wp_X2_tells M_5 b_8 (101 : Int32) (9 : Int32) (fun r_12 M_11 => if xs0 = 0 then (wb_X3_dayEnds_46 M_11 a0 x1 xs0 r_12 Post)
  else (wp_X3_at M_11 a0 x1 (fun r_29 M_28 => ∃ b_31, r_29 = some b_31 ∧ mkd M_28 b_31 = 2 ∧ wp_X2_tells M_28 b_31 (104 : Int32) (9 : Int32) (fun r_35 M_34 => ∀ x3_37, x3_37 = r_12 + r_35 → wb_X3_dayEnds_46 M_34 a0 x1 xs0 x3_37 Post)))))
def wp_X3_dayEnds (M : MM) (a0 : Nat) (x1 : Int32) (Post : MM → Prop) : Prop :=
  wp_X3_draw M a0 (fun r_2 M_1 => if (5 : Int32) ≤ r_2 then (wb_X3_dayEnds_13 M_1 a0 x1 (0 : Int32) Post)
  else (wb_X3_dayEnds_13 M_1 a0 x1 (1 : Int32) Post))
def wp_X3_givesTo (M : MM) (a0 : Nat) (x1 : Int32) (x2 : Int32) (Post : Int32 → MM → Prop) : Prop :=
  ∃ b_1, mgR M a0 0 = some b_1 ∧ mkd M b_1 = 103 ∧ vp_in x2 (mln M b_1) ∧ ∃ b_5, mgR M b_1 (ix_ x2) = some b_5 ∧ mkd M b_5 = 4 ∧ wp_X4_isDead M b_5 (fun r_9 M_8 => if r_9 = 0 then (wp_X3_at M_8 a0 x2 (fun r_13 M_12 => ∃ b_15, r_13 = some b_15 ∧ mkd M_12 b_15 = 2 ∧ ∃ b_18, mgR M_12 a0 1 = some b_18 ∧ mkd M_12 b_18 = 104 ∧ vp_in x1 (mln M_12 b_18) ∧ ∃ b_22, mgR M_12 b_18 (ix_ x1) = some b_22 ∧ mkd M_12 b_22 = 5 ∧ ∃ b_25, mgR M_12 a0 1 = some b_25 ∧ mkd M_12 b_25 = 104 ∧ vp_in x1 (mln M_12 b_25) ∧ ∃ b_29, mgR M_12 b_25 (ix_ x1) = some b_29 ∧ mkd M_12 b_29 = 5 ∧ wp_X2_by M_12 b_15 x1 (mgI M_12 b_22 0) (mgI M_12 b_29 2) (fun r_33 M_32 => ∃ b_35, r_33 = some b_35 ∧ mkd M_32 b_35 = 2 ∧ ∃ b_38, mgR M_32 a0 1 = some b_38 ∧ mkd M_32 b_38 = 104 ∧ vp_in x1 (mln M_32 b_38) ∧ ∃ b_42, mgR M_32 b_38 (ix_ x1) = some b_42 ∧ mkd M_32 b_42 = 5 ∧ wp_X2_givesBy M_32 b_35 (mgI M_32 b_42 1) (fun r_46 M_45 => Post r_46 M_45))))
  else (Post (0 : Int32) M_8))
def wp_X3_waters (M : MM) (a0 : Nat) (x1 : Int32) (x2 : Int32) (Post : MM → Prop) : Prop :=
  wp_X3_givesTo M a0 x1 x2 (fun r_2 M_1 => if r_2 = 0 then (Post M_1)
  else (∃ b_5, mgR M_1 a0 0 = some b_5 ∧ mkd M_1 b_5 = 103 ∧ vp_in x2 (mln M_1 b_5) ∧ ∃ b_9, mgR M_1 b_5 (ix_ x2) = some b_9 ∧ mkd M_1 b_9 = 4 ∧ wp_X4_gets M_1 b_9 r_2 (fun r_13 M_12 => ∀ M_15, M_15 = msI M_12 a0 5 ((mgI M_1 a0 5) + r_13) → ∃ b_17, mgR M_15 a0 1 = some b_17 ∧ mkd M_15 b_17 = 104 ∧ vp_in x1 (mln M_15 b_17) ∧ ∃ b_21, mgR M_15 b_17 (ix_ x1) = some b_21 ∧ mkd M_15 b_21 = 5 ∧ ∀ M_24, M_24 = msI M_15 b_21 2 ((mgI M_15 b_21 2) + r_2) → ∀ M_26, M_26 = msI M_24 a0 4 ((mgI M_24 a0 4) + r_2) → ∃ b_28, mgR M_26 a0 0 = some b_28 ∧ mkd M_26 b_28 = 103 ∧ vp_in x2 (mln M_26 b_28) ∧ ∃ b_32, mgR M_26 b_28 (ix_ x2) = some b_32 ∧ mkd M_26 b_32 = 4 ∧ if (mgI M_26 b_32 9) = 0 then (Post M_26)
  else (∃ b_36, mgR M_26 a0 0 = some b_36 ∧ mkd M_26 b_36 = 103 ∧ vp_in x2 (mln M_26 b_36) ∧ ∃ b_40, mgR M_26 b_36 (ix_ x2) = some b_40 ∧ mkd M_26 b_40 = 4 ∧ ∀ M_43, M_43 = msI M_26 b_40 7 (mgI M_26 a0 2) → Post M_43))))
def wl_X3_dayGoes_41 (a0 : Nat) (x1 : Int32) (X70 : MM → Prop) : Nat → MM → Int32 → Prop
  | 0, _, _ => False
  | n_ + 1, M, x2 =>
  if (4 : Int32) ≤ x2 then (X70 M)
  else (∃ b_24, mgR M a0 0 = some b_24 ∧ mkd M b_24 = 103 ∧ vp_in x2 (mln M b_24) ∧ ∃ b_28, mgR M b_24 (ix_ x2) = some b_28 ∧ mkd M b_28 = 4 ∧ wp_X4_lives M b_28 (fun r_32 M_31 => if r_32 = 0 then (∀ x2_35, x2_35 = x2 + 1 → wl_X3_dayGoes_41 a0 x1 X70 n_ M_31 x2_35)
  else (wp_X3_waters M_31 a0 x1 x2 (fun M_37 => ∀ x2_40, x2_40 = x2 + 1 → wl_X3_dayGoes_41 a0 x1 X70 n_ M_37 x2_40))))
def wl_X3_dayGoes_2 (a0 : Nat) (X76 : MM → Prop) : Nat → MM → Int32 → Prop
  | 0, _, _ => False
  | n_ + 1, M, x1 =>
  if (8 : Int32) ≤ x1 then (X76 M)
  else (∃ b_2, mgR M a0 1 = some b_2 ∧ mkd M b_2 = 104 ∧ vp_in x1 (mln M b_2) ∧ ∃ b_6, mgR M b_2 (ix_ x1) = some b_6 ∧ mkd M b_6 = 5 ∧ if (mgI M b_6 3) = 0 then (∀ x1_10, x1_10 = x1 + 1 → wl_X3_dayGoes_2 a0 X76 n_ M x1_10)
  else (wp_X3_draw M a0 (fun r_13 M_12 => ∃ b_15, mgR M_12 a0 1 = some b_15 ∧ mkd M_12 b_15 = 104 ∧ vp_in x1 (mln M_12 b_15) ∧ ∃ b_19, mgR M_12 b_15 (ix_ x1) = some b_19 ∧ mkd M_12 b_19 = 5 ∧ if r_13 < (mgI M_12 b_19 0) then (∃ n_42, wl_X3_dayGoes_41 a0 x1
    (fun (M_43 : MM) => ∀ x1_45, x1_45 = x1 + 1 → wl_X3_dayGoes_2 a0 X76 n_ M_43 x1_45) n_42 M_12 (0 : Int32))
  else (∀ x1_47, x1_47 = x1 + 1 → wl_X3_dayGoes_2 a0 X76 n_ M_12 x1_47))))
def wl_X3_dayGoes_78 (a0 : Nat) (X106 : MM → Prop) : Nat → MM → Int32 → Prop
  | 0, _, _ => False
  | n_ + 1, M, x1 =>
  if (4 : Int32) ≤ x1 then (X106 M)
  else (∃ b_53, mgR M a0 0 = some b_53 ∧ mkd M b_53 = 103 ∧ vp_in x1 (mln M b_53) ∧ ∃ b_57, mgR M b_53 (ix_ x1) = some b_57 ∧ mkd M b_57 = 4 ∧ wp_X4_lives M b_57 (fun r_61 M_60 => if r_61 = 0 then (∀ x1_64, x1_64 = x1 + 1 → wl_X3_dayGoes_78 a0 X106 n_ M_60 x1_64)
  else (wp_X3_dayEnds M_60 a0 x1 (fun M_66 => ∀ x1_69, x1_69 = x1 + 1 → wl_X3_dayGoes_78 a0 X106 n_ M_66 x1_69))))
def wp_X3_dayGoes (M : MM) (a0 : Nat) (Post : MM → Prop) : Prop :=
  ∃ n_49, wl_X3_dayGoes_2 a0
    (fun (M_50 : MM) => ∃ n_71, wl_X3_dayGoes_78 a0
    (fun (M_72 : MM) => ∀ M_74, M_74 = msI M_72 a0 2 ((mgI M_72 a0 2) + (1 : Int32)) → Post M_74) n_71 M_50 (0 : Int32)) n_49 M (0 : Int32)
def wl_X3_goes_17 (a0 : Nat) (x1 : Int32) (X42 : MM → Prop) : Nat → MM → Int32 → Prop
  | 0, _, _ => False
  | n_ + 1, M, x2 =>
  if x1 ≤ x2 then (X42 M)
  else (if (9999 : Int32) ≤ (mgI M a0 2) then (X42 M)
  else (wp_X3_dayGoes M a0 (fun M_9 => ∀ x2_12, x2_12 = x2 + 1 → wl_X3_goes_17 a0 x1 X42 n_ M_9 x2_12)))
def wp_X3_goes (M : MM) (a0 : Nat) (x1 : Int32) (Post : Option Nat → MM → Prop) : Prop :=
  ∀ M_1, M_1 = msI M a0 4 (0 : Int32) → ∀ M_3, M_3 = msI M_1 a0 5 (0 : Int32) → ∀ M_5, M_5 = msI M_3 a0 6 (0 : Int32) → ∃ n_14, wl_X3_goes_17 a0 x1
    (fun (M_15 : MM) => Post (some a0) M_15) n_14 M_5 (0 : Int32)
def wl_X3_takes_2 (a0 : Nat) (a1 : Nat) (X28 : MM → Prop) : Nat → MM → Int32 → Prop
  | 0, _, _ => False
  | n_ + 1, M, x2 =>
  if (4 : Int32) ≤ x2 then (X28 M)
  else (∃ b_2, mgR M a0 0 = some b_2 ∧ mkd M b_2 = 103 ∧ vp_in x2 (mln M b_2) ∧ ∃ b_6, mgR M b_2 (ix_ x2) = some b_6 ∧ mkd M b_6 = 4 ∧ ∃ b_9, mgR M a1 0 = some b_9 ∧ mkd M b_9 = 103 ∧ vp_in x2 (mln M b_9) ∧ ∃ b_13, mgR M b_9 (ix_ x2) = some b_13 ∧ mkd M b_13 = 4 ∧ wp_X4_takes M b_6 b_13 (fun M_16 => ∀ x2_19, x2_19 = x2 + 1 → wl_X3_takes_2 a0 a1 X28 n_ M_16 x2_19))
def wl_X3_takes_30 (a0 : Nat) (a1 : Nat) (X57 : MM → Prop) : Nat → MM → Int32 → Prop
  | 0, _, _ => False
  | n_ + 1, M, x2 =>
  if (8 : Int32) ≤ x2 then (X57 M)
  else (∃ b_25, mgR M a0 1 = some b_25 ∧ mkd M b_25 = 104 ∧ vp_in x2 (mln M b_25) ∧ ∃ b_29, mgR M b_25 (ix_ x2) = some b_29 ∧ mkd M b_29 = 5 ∧ ∃ b_32, mgR M a1 1 = some b_32 ∧ mkd M b_32 = 104 ∧ vp_in x2 (mln M b_32) ∧ ∃ b_36, mgR M b_32 (ix_ x2) = some b_36 ∧ mkd M b_36 = 5 ∧ wp_X5_takes M b_29 b_36 (fun M_39 => ∀ x2_42, x2_42 = x2 + 1 → wl_X3_takes_30 a0 a1 X57 n_ M_39 x2_42))
def wp_X3_takes (M : MM) (a0 : Nat) (a1 : Nat) (Post : Option Nat → MM → Prop) : Prop :=
  ∃ n_21, wl_X3_takes_2 a0 a1
    (fun (M_22 : MM) => ∃ n_44, wl_X3_takes_30 a0 a1
    (fun (M_45 : MM) => ∀ M_47, M_47 = msI M_45 a0 2 (mgI M_45 a1 2) → ∀ M_49, M_49 = msI M_47 a0 3 (mgI M_47 a1 3) → Post (some a0) M_49) n_44 M_22 (0 : Int32)) n_21 M (0 : Int32)
def wb_X3_dead_40 (M : MM) (a0 : Nat) (x2 : Int32) (xs0 : Int32) (R : MM → Int32 → Int32 → Prop) (X49 : MM → Int32 → Prop) : Prop :=
  ∀ x1_10, x1_10 = xs0 ||| (0 : Int32) → ∀ x2_12, x2_12 = x2 + 1 → R M x1_10 x2_12
def wl_X3_dead_4 (a0 : Nat) (X49 : MM → Int32 → Prop) : Nat → MM → Int32 → Int32 → Prop
  | 0, _, _, _ => False
  | n_ + 1, M, x1, x2 =>
  if (4 : Int32) ≤ x2 then (X49 M x1)
  else (∃ b_2, mgR M a0 0 = some b_2 ∧ mkd M b_2 = 103 ∧ vp_in x2 (mln M b_2) ∧ ∃ b_6, mgR M b_2 (ix_ x2) = some b_6 ∧ mkd M b_6 = 4 ∧ if (mgI M b_6 8) = 0 then (wb_X3_dead_40 M a0 x2 x1 (wl_X3_dead_4 a0 X49 n_) X49)
  else (∃ b_14, mgR M a0 0 = some b_14 ∧ mkd M b_14 = 103 ∧ vp_in x2 (mln M b_14) ∧ ∃ b_18, mgR M b_14 (ix_ x2) = some b_18 ∧ mkd M b_18 = 4 ∧ wp_X4_isDead M b_18 (fun r_22 M_21 => if r_22 = 0 then (wb_X3_dead_40 M_21 a0 x2 x1 (wl_X3_dead_4 a0 X49 n_) X49)
  else (∀ x1_25, x1_25 = x1 ||| ((1 : Int32) <<< (x2 &&& 31)) → ∀ x2_27, x2_27 = x2 + 1 → wl_X3_dead_4 a0 X49 n_ M_21 x1_25 x2_27))))
def wp_X3_dead (M : MM) (a0 : Nat) (Post : Int32 → MM → Prop) : Prop :=
  ∃ n_29, wl_X3_dead_4 a0
    (fun (M_30 : MM) (x1_32 : Int32) => Post x1_32 M_30) n_29 M (0 : Int32) (0 : Int32)
theorem hd_X1_init : mHd yX1_init 0 := ⟨by decide, by decide, by decide +kernel⟩
theorem hd_X9_init : mHd yX9_init 0 := ⟨by decide, by decide, by decide +kernel⟩
theorem hd_X13_init : mHd yX13_init 0 := ⟨by decide, by decide, by decide +kernel⟩
theorem hd_X10_init : mHd yX10_init 2 := ⟨by decide, by decide, by decide +kernel⟩
theorem hd_X11_init : mHd yX11_init 1 := ⟨by decide, by decide, by decide +kernel⟩
theorem hd_X12_init : mHd yX12_init 1 := ⟨by decide, by decide, by decide +kernel⟩
theorem hd_X14_init : mHd yX14_init 2 := ⟨by decide, by decide, by decide +kernel⟩
theorem hd_X15_init : mHd yX15_init 1 := ⟨by decide, by decide, by decide +kernel⟩
theorem hd_X16_init : mHd yX16_init 3 := ⟨by decide, by decide, by decide +kernel⟩
theorem hd_X6_init : mHd yX6_init 0 := ⟨by decide, by decide, by decide +kernel⟩
theorem hd_X2_init : mHd yX2_init 1 := ⟨by decide, by decide, by decide +kernel⟩
theorem hd_X2_of : mHd yX2_of 2 := ⟨by decide, by decide, by decide +kernel⟩
theorem hd_X2_ofPlant : mHd yX2_ofPlant 7 := ⟨by decide, by decide, by decide +kernel⟩
theorem hd_X2_by : mHd yX2_by 3 := ⟨by decide, by decide, by decide +kernel⟩
theorem hd_X2_value : mHd yX2_value 1 := ⟨by decide, by decide, by decide +kernel⟩
theorem hd_X10_worked : mHd yX10_worked 4 := ⟨by decide, by decide, by decide +kernel⟩
theorem hd_J6_bitCount : mHd yJ6_bitCount 1 := ⟨by decide, by decide, by decide +kernel⟩
set_option maxHeartbeats 4000000 in
theorem S_X1_init {D : DD} {l : Launch} {M : MM} {a0 : Nat} {Post : MM → Prop} (k_a0 : mkd M a0 = 2) (h : wp_X1_init M a0 Post) : mMet D l yX1_init cX1_init 1 (none) { frames := 1, cells := 0, slots := 0, locals := 12 } M [.ref a0] (pV_ Post) := by
  refine m_of2 [(0, .ref a0)] (by decide +kernel) (Nat.le_of_ble_eq_true rfl) rfl (fun E hED hEl C hE => ?_)
  subst hED
  subst hEl
  unfold wp_X1_init at h
  refine r_aload_n C dX1_init_0 (pc' := 1) rfl (j := 0) rfl ?_
  refine r_objInit C (a := a0) q146 q136 q137 (Nat.le_of_ble_eq_true rfl) (Nat.le_of_ble_eq_true rfl) dX1_init_1 (pc' := 4) rfl ?_
  exact r_vret C hE (Nat.le_of_ble_eq_true rfl) (Nat.le_of_ble_eq_true rfl) dX1_init_4 ⟨rfl, h⟩
set_option maxHeartbeats 4000000 in
theorem S_X9_init {D : DD} {l : Launch} {M : MM} {a0 : Nat} {Post : MM → Prop} (h : wp_X9_init M a0 Post) : mMet D l yX9_init cX9_init 1 (none) { frames := 1, cells := 0, slots := 0, locals := 12 } M [.ref a0] (pV_ Post) := by
  refine m_of2 [(0, .ref a0)] (by decide +kernel) (Nat.le_of_ble_eq_true rfl) rfl (fun E hED hEl C hE => ?_)
  subst hED
  subst hEl
  unfold wp_X9_init at h
  refine r_aload_n C dX9_init_0 (pc' := 1) rfl (j := 0) rfl ?_
  refine r_objInit C (a := a0) q681 q136 q137 (Nat.le_of_ble_eq_true rfl) (Nat.le_of_ble_eq_true rfl) dX9_init_1 (pc' := 4) rfl ?_
  exact r_vret C hE (Nat.le_of_ble_eq_true rfl) (Nat.le_of_ble_eq_true rfl) dX9_init_4 ⟨rfl, h⟩
set_option maxHeartbeats 4000000 in
theorem S_X13_init {D : DD} {l : Launch} {M : MM} {a0 : Nat} {Post : MM → Prop} (h : wp_X13_init M a0 Post) : mMet D l yX13_init cX13_init 1 (none) { frames := 1, cells := 0, slots := 0, locals := 12 } M [.ref a0] (pV_ Post) := by
  refine m_of2 [(0, .ref a0)] (by decide +kernel) (Nat.le_of_ble_eq_true rfl) rfl (fun E hED hEl C hE => ?_)
  subst hED
  subst hEl
  unfold wp_X13_init at h
  refine r_aload_n C dX13_init_0 (pc' := 1) rfl (j := 0) rfl ?_
  refine r_objInit C (a := a0) q734 q136 q137 (Nat.le_of_ble_eq_true rfl) (Nat.le_of_ble_eq_true rfl) dX13_init_1 (pc' := 4) rfl ?_
  exact r_vret C hE (Nat.le_of_ble_eq_true rfl) (Nat.le_of_ble_eq_true rfl) dX13_init_4 ⟨rfl, h⟩
set_option maxHeartbeats 4000000 in
theorem S_X10_init {D : DD} {l : Launch} {M : MM} {a0 : Nat} {x1 : Int32} {o2 : Option Nat} {Post : MM → Prop} (k_a0 : mkd M a0 = 9) (h : wp_X10_init M a0 x1 o2 Post) : mMet D l yX10_init cX10_init 3 (none) { frames := 2, cells := 0, slots := 0, locals := 32 } M [.ref a0, .int x1, va_rf o2] (pV_ Post) := by
  refine m_of2 [(0, .ref a0), (1, .int x1), (2, va_rf o2)] (by decide +kernel) (by cases o2 <;> exact Nat.le_of_ble_eq_true rfl) (by cases o2 <;> rfl) (fun E hED hEl C hE => ?_)
  subst hED
  subst hEl
  unfold wp_X10_init at h
  refine r_aload_n C dX10_init_0 (pc' := 1) rfl (j := 0) rfl ?_
  refine r_callINv (As := []) (rest := []) C (S_X9_init h) q680 q120 (List.mem_of_getElem? (i := 13) rfl) q679 rfl rfl hd_X9_init rfl rfl (Nat.le_of_ble_eq_true rfl) (Nat.le_of_ble_eq_true rfl) (Nat.le_of_ble_eq_true rfl) rfl rfl (Nat.le_of_ble_eq_true rfl) (Nat.le_of_ble_eq_true rfl) dX10_init_1 (pc' := 4) rfl (fun M_1 h m_3 => ?_)
  refine r_aload_n C dX10_init_4 (pc' := 5) rfl (j := 0) rfl ?_
  refine r_iload_n C dX10_init_5 (pc' := 6) rfl (j := 1) rfl ?_
  obtain ⟨M_4, e_5, h⟩ := bn_ h
  refine r_putIF C (Cn := RX10) (T := TX10) tyX10 0 (mMo.kd m_3 k_a0 (by decide)) (by decide) vc_X10 in_X10 tyX10_ok nmX10 (by decide) q701 rfl rfl rfl rfl dX10_init_6 (pc' := 9) rfl rfl rfl M_4 e_5 ?_
  refine r_aload_n C dX10_init_9 (pc' := 10) rfl (j := 0) rfl ?_
  refine r_aload_nq C dX10_init_10 (pc' := 11) rfl (j := 2) rfl ?_
  obtain ⟨M_6, e_7, h⟩ := bn_ h
  refine r_putRF C (Cn := RX10) (T := TX10) (x := o2) tyX10 1 (mMo.kd (mo_I e_5) (mMo.kd m_3 k_a0 (by decide)) (by decide)) (by decide) vc_X10 in_X10 tyX10_ok nmX10 (by decide) q702 rfl rfl rfl rfl dX10_init_11 (pc' := 14) rfl (nO_ _) (fO_ _) M_6 e_7 ?_
  exact r_vret C hE (Nat.le_of_ble_eq_true rfl) (Nat.le_of_ble_eq_true rfl) dX10_init_14 ⟨rfl, h⟩
set_option maxHeartbeats 4000000 in
theorem S_X11_init {D : DD} {l : Launch} {M : MM} {a0 : Nat} {x1 : Int32} {Post : MM → Prop} (k_a0 : mkd M a0 = 10) (h : wp_X11_init M a0 x1 Post) : mMet D l yX11_init cX11_init 2 (none) { frames := 2, cells := 0, slots := 0, locals := 32 } M [.ref a0, .int x1] (pV_ Post) := by
  refine m_of2 [(0, .ref a0), (1, .int x1)] (by decide +kernel) (Nat.le_of_ble_eq_true rfl) rfl (fun E hED hEl C hE => ?_)
  subst hED
  subst hEl
  unfold wp_X11_init at h
  refine r_aload_n C dX11_init_0 (pc' := 1) rfl (j := 0) rfl ?_
  refine r_callINv (As := []) (rest := []) C (S_X9_init h) q680 q120 (List.mem_of_getElem? (i := 11) rfl) q679 rfl rfl hd_X9_init rfl rfl (Nat.le_of_ble_eq_true rfl) (Nat.le_of_ble_eq_true rfl) (Nat.le_of_ble_eq_true rfl) rfl rfl (Nat.le_of_ble_eq_true rfl) (Nat.le_of_ble_eq_true rfl) dX11_init_1 (pc' := 4) rfl (fun M_1 h m_3 => ?_)
  refine r_aload_n C dX11_init_4 (pc' := 5) rfl (j := 0) rfl ?_
  refine r_iload_n C dX11_init_5 (pc' := 6) rfl (j := 1) rfl ?_
  obtain ⟨M_4, e_5, h⟩ := bn_ h
  refine r_putIF C (Cn := RX11) (T := TX11) tyX11 0 (mMo.kd m_3 k_a0 (by decide)) (by decide) vc_X11 in_X11 tyX11_ok nmX11 (by decide) q682 rfl rfl rfl rfl dX11_init_6 (pc' := 9) rfl rfl rfl M_4 e_5 ?_
  exact r_vret C hE (Nat.le_of_ble_eq_true rfl) (Nat.le_of_ble_eq_true rfl) dX11_init_9 ⟨rfl, h⟩
set_option maxHeartbeats 4000000 in
theorem S_X12_init {D : DD} {l : Launch} {M : MM} {a0 : Nat} {x1 : Int32} {Post : MM → Prop} (k_a0 : mkd M a0 = 11) (h : wp_X12_init M a0 x1 Post) : mMet D l yX12_init cX12_init 2 (none) { frames := 2, cells := 0, slots := 0, locals := 32 } M [.ref a0, .int x1] (pV_ Post) := by
  refine m_of2 [(0, .ref a0), (1, .int x1)] (by decide +kernel) (Nat.le_of_ble_eq_true rfl) rfl (fun E hED hEl C hE => ?_)
  subst hED
  subst hEl
  unfold wp_X12_init at h
  refine r_aload_n C dX12_init_0 (pc' := 1) rfl (j := 0) rfl ?_
  refine r_callINv (As := []) (rest := []) C (S_X9_init h) q680 q120 (List.mem_of_getElem? (i := 7) rfl) q679 rfl rfl hd_X9_init rfl rfl (Nat.le_of_ble_eq_true rfl) (Nat.le_of_ble_eq_true rfl) (Nat.le_of_ble_eq_true rfl) rfl rfl (Nat.le_of_ble_eq_true rfl) (Nat.le_of_ble_eq_true rfl) dX12_init_1 (pc' := 4) rfl (fun M_1 h m_3 => ?_)
  refine r_aload_n C dX12_init_4 (pc' := 5) rfl (j := 0) rfl ?_
  refine r_iload_n C dX12_init_5 (pc' := 6) rfl (j := 1) rfl ?_
  obtain ⟨M_4, e_5, h⟩ := bn_ h
  refine r_putIF C (Cn := RX12) (T := TX12) tyX12 0 (mMo.kd m_3 k_a0 (by decide)) (by decide) vc_X12 in_X12 tyX12_ok nmX12 (by decide) q693 rfl rfl rfl rfl dX12_init_6 (pc' := 9) rfl rfl rfl M_4 e_5 ?_
  exact r_vret C hE (Nat.le_of_ble_eq_true rfl) (Nat.le_of_ble_eq_true rfl) dX12_init_9 ⟨rfl, h⟩
set_option maxHeartbeats 4000000 in
theorem S_X14_init {D : DD} {l : Launch} {M : MM} {a0 : Nat} {o1 : Option Nat} {x2 : Int32} {Post : MM → Prop} (k_a0 : mkd M a0 = 12) (h : wp_X14_init M a0 o1 x2 Post) : mMet D l yX14_init cX14_init 3 (none) { frames := 2, cells := 0, slots := 0, locals := 32 } M [.ref a0, va_rf o1, .int x2] (pV_ Post) := by
  refine m_of2 [(0, .ref a0), (1, va_rf o1), (2, .int x2)] (by decide +kernel) (by cases o1 <;> exact Nat.le_of_ble_eq_true rfl) (by cases o1 <;> rfl) (fun E hED hEl C hE => ?_)
  subst hED
  subst hEl
  unfold wp_X14_init at h
  refine r_aload_n C dX14_init_0 (pc' := 1) rfl (j := 0) rfl ?_
  refine r_callINv (As := []) (rest := []) C (S_X13_init h) q733 q124 (List.mem_of_getElem? (i := 14) rfl) q732 rfl rfl hd_X13_init rfl rfl (Nat.le_of_ble_eq_true rfl) (Nat.le_of_ble_eq_true rfl) (Nat.le_of_ble_eq_true rfl) rfl rfl (Nat.le_of_ble_eq_true rfl) (Nat.le_of_ble_eq_true rfl) dX14_init_1 (pc' := 4) rfl (fun M_1 h m_3 => ?_)
  refine r_aload_n C dX14_init_4 (pc' := 5) rfl (j := 0) rfl ?_
  refine r_aload_nq C dX14_init_5 (pc' := 6) rfl (j := 1) rfl ?_
  obtain ⟨M_4, e_5, h⟩ := bn_ h
  refine r_putRF C (Cn := RX14) (T := TX14) (x := o1) tyX14 0 (mMo.kd m_3 k_a0 (by decide)) (by decide) vc_X14 in_X14 tyX14_ok nmX14 (by decide) q759 rfl rfl rfl rfl dX14_init_6 (pc' := 9) rfl (nO_ _) (fO_ _) M_4 e_5 ?_
  refine r_aload_n C dX14_init_9 (pc' := 10) rfl (j := 0) rfl ?_
  refine r_iload_n C dX14_init_10 (pc' := 11) rfl (j := 2) rfl ?_
  obtain ⟨M_6, e_7, h⟩ := bn_ h
  refine r_putIF C (Cn := RX14) (T := TX14) tyX14 1 (mMo.kd (mo_R e_5) (mMo.kd m_3 k_a0 (by decide)) (by decide)) (by decide) vc_X14 in_X14 tyX14_ok nmX14 (by decide) q760 rfl rfl rfl rfl dX14_init_11 (pc' := 14) rfl rfl rfl M_6 e_7 ?_
  exact r_vret C hE (Nat.le_of_ble_eq_true rfl) (Nat.le_of_ble_eq_true rfl) dX14_init_14 ⟨rfl, h⟩
set_option maxHeartbeats 4000000 in
theorem S_X15_init {D : DD} {l : Launch} {M : MM} {a0 : Nat} {o1 : Option Nat} {Post : MM → Prop} (k_a0 : mkd M a0 = 13) (h : wp_X15_init M a0 o1 Post) : mMet D l yX15_init cX15_init 2 (none) { frames := 2, cells := 0, slots := 0, locals := 32 } M [.ref a0, va_rf o1] (pV_ Post) := by
  refine m_of2 [(0, .ref a0), (1, va_rf o1)] (by decide +kernel) (by cases o1 <;> exact Nat.le_of_ble_eq_true rfl) (by cases o1 <;> rfl) (fun E hED hEl C hE => ?_)
  subst hED
  subst hEl
  unfold wp_X15_init at h
  refine r_aload_n C dX15_init_0 (pc' := 1) rfl (j := 0) rfl ?_
  refine r_callINv (As := []) (rest := []) C (S_X13_init h) q733 q124 (List.mem_of_getElem? (i := 10) rfl) q732 rfl rfl hd_X13_init rfl rfl (Nat.le_of_ble_eq_true rfl) (Nat.le_of_ble_eq_true rfl) (Nat.le_of_ble_eq_true rfl) rfl rfl (Nat.le_of_ble_eq_true rfl) (Nat.le_of_ble_eq_true rfl) dX15_init_1 (pc' := 4) rfl (fun M_1 h m_3 => ?_)
  refine r_aload_n C dX15_init_4 (pc' := 5) rfl (j := 0) rfl ?_
  refine r_aload_nq C dX15_init_5 (pc' := 6) rfl (j := 1) rfl ?_
  obtain ⟨M_4, e_5, h⟩ := bn_ h
  refine r_putRF C (Cn := RX15) (T := TX15) (x := o1) tyX15 0 (mMo.kd m_3 k_a0 (by decide)) (by decide) vc_X15 in_X15 tyX15_ok nmX15 (by decide) q735 rfl rfl rfl rfl dX15_init_6 (pc' := 9) rfl (nO_ _) (fO_ _) M_4 e_5 ?_
  exact r_vret C hE (Nat.le_of_ble_eq_true rfl) (Nat.le_of_ble_eq_true rfl) dX15_init_9 ⟨rfl, h⟩
set_option maxHeartbeats 4000000 in
theorem S_X16_init {D : DD} {l : Launch} {M : MM} {a0 : Nat} {o1 : Option Nat} {x2 : Int32} {o3 : Option Nat} {Post : MM → Prop} (k_a0 : mkd M a0 = 14) (h : wp_X16_init M a0 o1 x2 o3 Post) : mMet D l yX16_init cX16_init 4 (none) { frames := 2, cells := 0, slots := 0, locals := 32 } M [.ref a0, va_rf o1, .int x2, va_rf o3] (pV_ Post) := by
  refine m_of2 [(0, .ref a0), (1, va_rf o1), (2, .int x2), (3, va_rf o3)] (by decide +kernel) (by cases o1 <;> cases o3 <;> exact Nat.le_of_ble_eq_true rfl) (by cases o1 <;> cases o3 <;> rfl) (fun E hED hEl C hE => ?_)
  subst hED
  subst hEl
  unfold wp_X16_init at h
  refine r_aload_n C dX16_init_0 (pc' := 1) rfl (j := 0) rfl ?_
  refine r_callINv (As := []) (rest := []) C (S_X13_init h) q733 q124 (List.mem_of_getElem? (i := 4) rfl) q732 rfl rfl hd_X13_init rfl rfl (Nat.le_of_ble_eq_true rfl) (Nat.le_of_ble_eq_true rfl) (Nat.le_of_ble_eq_true rfl) rfl rfl (Nat.le_of_ble_eq_true rfl) (Nat.le_of_ble_eq_true rfl) dX16_init_1 (pc' := 4) rfl (fun M_1 h m_3 => ?_)
  refine r_aload_n C dX16_init_4 (pc' := 5) rfl (j := 0) rfl ?_
  refine r_aload_nq C dX16_init_5 (pc' := 6) rfl (j := 1) rfl ?_
  obtain ⟨M_4, e_5, h⟩ := bn_ h
  refine r_putRF C (Cn := RX16) (T := TX16) (x := o1) tyX16 0 (mMo.kd m_3 k_a0 (by decide)) (by decide) vc_X16 in_X16 tyX16_ok nmX16 (by decide) q745 rfl rfl rfl rfl dX16_init_6 (pc' := 9) rfl (nO_ _) (fO_ _) M_4 e_5 ?_
  refine r_aload_n C dX16_init_9 (pc' := 10) rfl (j := 0) rfl ?_
  refine r_iload_n C dX16_init_10 (pc' := 11) rfl (j := 2) rfl ?_
  obtain ⟨M_6, e_7, h⟩ := bn_ h
  refine r_putIF C (Cn := RX16) (T := TX16) tyX16 2 (mMo.kd (mo_R e_5) (mMo.kd m_3 k_a0 (by decide)) (by decide)) (by decide) vc_X16 in_X16 tyX16_ok nmX16 (by decide) q747 rfl rfl rfl rfl dX16_init_11 (pc' := 14) rfl rfl rfl M_6 e_7 ?_
  refine r_aload_n C dX16_init_14 (pc' := 15) rfl (j := 0) rfl ?_
  refine r_aload_nq C dX16_init_15 (pc' := 16) rfl (j := 3) rfl ?_
  obtain ⟨M_8, e_9, h⟩ := bn_ h
  refine r_putRF C (Cn := RX16) (T := TX16) (x := o3) tyX16 1 (mMo.kd (mo_I e_7) (mMo.kd (mo_R e_5) (mMo.kd m_3 k_a0 (by decide)) (by decide)) (by decide)) (by decide) vc_X16 in_X16 tyX16_ok nmX16 (by decide) q746 rfl rfl rfl rfl dX16_init_16 (pc' := 19) rfl (nO_ _) (fO_ _) M_8 e_9 ?_
  exact r_vret C hE (Nat.le_of_ble_eq_true rfl) (Nat.le_of_ble_eq_true rfl) dX16_init_19 ⟨rfl, h⟩
set_option maxHeartbeats 4000000 in
theorem S_X6_init {D : DD} {l : Launch} {M : MM} {a0 : Nat} {Post : MM → Prop} (k_a0 : mkd M a0 = 6) (h : wp_X6_init M a0 Post) : mMet D l yX6_init cX6_init 1 (none) { frames := 1, cells := 3, slots := 42, locals := 12 } M [.ref a0] (pV_ Post) := by
  refine m_of2 [(0, .ref a0)] (by decide +kernel) (Nat.le_of_ble_eq_true rfl) rfl (fun E hED hEl C hE => ?_)
  subst hED
  subst hEl
  unfold wp_X6_init at h
  refine r_aload_n C dX6_init_0 (pc' := 1) rfl (j := 0) rfl ?_
  refine r_objInit C (a := a0) q320 q136 q137 (Nat.le_of_ble_eq_true rfl) (Nat.le_of_ble_eq_true rfl) dX6_init_1 (pc' := 4) rfl ?_
  refine r_aload_n C dX6_init_4 (pc' := 5) rfl (j := 0) rfl ?_
  refine r_bipush C dX6_init_5 (pc' := 7) rfl (v := 14) rfl ?_
  obtain ⟨b_3, e_4, h⟩ := bn_ h
  obtain ⟨M_5, e_6, h⟩ := bn_ h
  refine r_newI C 14 (by decide) (by decide) (by decide) q255 (Nat.le_of_ble_eq_true rfl) (Nat.le_of_ble_eq_true rfl) dX6_init_7 (pc' := 9) rfl b_3 e_4 M_5 e_6 (fun m_1 k_2 => ?_)
  obtain ⟨M_7, e_8, h⟩ := bn_ h
  refine r_putRF C (Cn := RX6) (T := TX6) (x := (some b_3)) tyX6 0 (mMo.kd m_1 k_a0 (by decide)) (by decide) vc_X6 in_X6 tyX6_ok nmX6 (by decide) q325 rfl rfl rfl rfl dX6_init_9 (pc' := 12) rfl (nA_ _) (fA_ _) M_7 e_8 ?_
  refine r_aload_n C dX6_init_12 (pc' := 13) rfl (j := 0) rfl ?_
  refine r_bipush C dX6_init_13 (pc' := 15) rfl (v := 14) rfl ?_
  obtain ⟨b_11, e_12, h⟩ := bn_ h
  obtain ⟨M_13, e_14, h⟩ := bn_ h
  refine r_newQ C (t := 6) 14 (by decide) (by decide) (by decide) (by decide) q321 (List.mem_of_getElem? (i := 3) rfl) (Nat.le_of_ble_eq_true rfl) (Nat.le_of_ble_eq_true rfl) dX6_init_15 (pc' := 18) rfl b_11 e_12 M_13 e_14 (fun m_9 k_10 => ?_)
  obtain ⟨M_15, e_16, h⟩ := bn_ h
  refine r_putRF C (Cn := RX6) (T := TX6) (x := (some b_11)) tyX6 1 (mMo.kd m_9 (mMo.kd (mo_R e_8) (mMo.kd m_1 k_a0 (by decide)) (by decide)) (by decide)) (by decide) vc_X6 in_X6 tyX6_ok nmX6 (by decide) q327 rfl rfl rfl rfl dX6_init_18 (pc' := 21) rfl (nA_ _) (fA_ _) M_15 e_16 ?_
  refine r_aload_n C dX6_init_21 (pc' := 22) rfl (j := 0) rfl ?_
  refine r_bipush C dX6_init_22 (pc' := 24) rfl (v := 14) rfl ?_
  obtain ⟨b_19, e_20, h⟩ := bn_ h
  obtain ⟨M_21, e_22, h⟩ := bn_ h
  refine r_newQ C (t := 7) 14 (by decide) (by decide) (by decide) (by decide) q323 (List.mem_of_getElem? (i := 4) rfl) (Nat.le_of_ble_eq_true rfl) (Nat.le_of_ble_eq_true rfl) dX6_init_24 (pc' := 27) rfl b_19 e_20 M_21 e_22 (fun m_17 k_18 => ?_)
  obtain ⟨M_23, e_24, h⟩ := bn_ h
  refine r_putRF C (Cn := RX6) (T := TX6) (x := (some b_19)) tyX6 2 (mMo.kd m_17 (mMo.kd (mo_R e_16) (mMo.kd m_9 (mMo.kd (mo_R e_8) (mMo.kd m_1 k_a0 (by decide)) (by decide)) (by decide)) (by decide)) (by decide)) (by decide) vc_X6 in_X6 tyX6_ok nmX6 (by decide) q329 rfl rfl rfl rfl dX6_init_27 (pc' := 30) rfl (nA_ _) (fA_ _) M_23 e_24 ?_
  exact r_vret C hE (Nat.le_of_ble_eq_true rfl) (Nat.le_of_ble_eq_true rfl) dX6_init_30 ⟨rfl, h⟩
set_option maxHeartbeats 4000000 in
theorem S_X2_init {D : DD} {l : Launch} {M : MM} {a0 : Nat} {a1 : Nat} {Post : MM → Prop} (k_a0 : mkd M a0 = 2) (k_a1 : mkd M a1 = 1) (h : wp_X2_init M a0 a1 Post) : mMet D l yX2_init cX2_init 2 (none) { frames := 2, cells := 0, slots := 0, locals := 32 } M [.ref a0, .ref a1] (pV_ Post) := by
  refine m_of2 [(0, .ref a0), (1, .ref a1)] (by decide +kernel) (Nat.le_of_ble_eq_true rfl) rfl (fun E hED hEl C hE => ?_)
  subst hED
  subst hEl
  unfold wp_X2_init at h
  refine r_aload_n C dX2_init_0 (pc' := 1) rfl (j := 0) rfl ?_
  refine r_aload_n C dX2_init_1 (pc' := 2) rfl (j := 1) rfl ?_
  obtain ⟨M_1, e_2, h⟩ := bn_ h
  refine r_putRF C (Cn := RX2) (T := TX2) (x := (some a1)) tyX2 13 k_a0 (by decide) vc_X2 in_X2 tyX2_ok nmX2 (by decide) q159 rfl rfl rfl rfl dX2_init_2 (pc' := 5) rfl (nO_ _) (fO_ _) M_1 e_2 ?_
  refine r_aload_n C dX2_init_5 (pc' := 6) rfl (j := 0) rfl ?_
  refine r_callINv (As := []) (rest := []) C (S_X1_init (mMo.kd (mo_R e_2) k_a0 (by decide)) h) q145 q106 (List.mem_of_getElem? (i := 9) rfl) q144 rfl rfl hd_X1_init rfl rfl (Nat.le_of_ble_eq_true rfl) (Nat.le_of_ble_eq_true rfl) (Nat.le_of_ble_eq_true rfl) rfl rfl (Nat.le_of_ble_eq_true rfl) (Nat.le_of_ble_eq_true rfl) dX2_init_6 (pc' := 9) rfl (fun M_3 h m_5 => ?_)
  exact r_vret C hE (Nat.le_of_ble_eq_true rfl) (Nat.le_of_ble_eq_true rfl) dX2_init_9 ⟨rfl, h⟩
set_option maxHeartbeats 4000000 in
theorem S_X2_of {D : DD} {l : Launch} {M : MM} {a0 : Nat} {x1 : Int32} {x2 : Int32} {Post : Option Nat → MM → Prop} (k_a0 : mkd M a0 = 2) (h : wp_X2_of M a0 x1 x2 Post) : mMet D l yX2_of cX2_of 3 ((some (.object "LandingTree$Moment"))) { frames := 0, cells := 0, slots := 0, locals := 0 } M [.ref a0, .int x1, .int x2] (pR_ Post) := by
  refine m_of2 [(0, .ref a0), (1, .int x1), (2, .int x2)] (by decide +kernel) (Nat.le_of_ble_eq_true rfl) rfl (fun E hED hEl C hE => ?_)
  subst hED
  subst hEl
  unfold wp_X2_of at h
  refine r_aload_n C dX2_of_0 (pc' := 1) rfl (j := 0) rfl ?_
  refine r_iload_n C dX2_of_1 (pc' := 2) rfl (j := 1) rfl ?_
  obtain ⟨M_1, e_2, h⟩ := bn_ h
  refine r_putI C (Cn := RX2) (T := TX2) tyX2 1 k_a0 (by decide) vc_X2 in_X2 tyX2_ok nmX2 (by decide) q147 rfl rfl dX2_of_2 (pc' := 5) rfl rfl rfl M_1 e_2 ?_
  refine r_aload_n C dX2_of_5 (pc' := 6) rfl (j := 0) rfl ?_
  refine r_iload_n C dX2_of_6 (pc' := 7) rfl (j := 2) rfl ?_
  obtain ⟨M_3, e_4, h⟩ := bn_ h
  refine r_putI C (Cn := RX2) (T := TX2) tyX2 2 (mMo.kd (mo_I e_2) k_a0 (by decide)) (by decide) vc_X2 in_X2 tyX2_ok nmX2 (by decide) q148 rfl rfl dX2_of_7 (pc' := 10) rfl rfl rfl M_3 e_4 ?_
  refine r_aload_n C dX2_of_10 (pc' := 11) rfl (j := 0) rfl ?_
  refine r_iconst C dX2_of_11 (pc' := 12) rfl (v := 0) rfl ?_
  obtain ⟨M_5, e_6, h⟩ := bn_ h
  refine r_putI C (Cn := RX2) (T := TX2) tyX2 3 (mMo.kd (mo_I e_4) (mMo.kd (mo_I e_2) k_a0 (by decide)) (by decide)) (by decide) vc_X2 in_X2 tyX2_ok nmX2 (by decide) q149 rfl rfl dX2_of_12 (pc' := 15) rfl rfl rfl M_5 e_6 ?_
  refine r_aload_n C dX2_of_15 (pc' := 16) rfl (j := 0) rfl ?_
  refine r_iconst C dX2_of_16 (pc' := 17) rfl (v := 0) rfl ?_
  obtain ⟨M_7, e_8, h⟩ := bn_ h
  refine r_putI C (Cn := RX2) (T := TX2) tyX2 4 (mMo.kd (mo_I e_6) (mMo.kd (mo_I e_4) (mMo.kd (mo_I e_2) k_a0 (by decide)) (by decide)) (by decide)) (by decide) vc_X2 in_X2 tyX2_ok nmX2 (by decide) q150 rfl rfl dX2_of_17 (pc' := 20) rfl rfl rfl M_7 e_8 ?_
  refine r_aload_n C dX2_of_20 (pc' := 21) rfl (j := 0) rfl ?_
  refine r_iconst C dX2_of_21 (pc' := 22) rfl (v := 0) rfl ?_
  obtain ⟨M_9, e_10, h⟩ := bn_ h
  refine r_putI C (Cn := RX2) (T := TX2) tyX2 5 (mMo.kd (mo_I e_8) (mMo.kd (mo_I e_6) (mMo.kd (mo_I e_4) (mMo.kd (mo_I e_2) k_a0 (by decide)) (by decide)) (by decide)) (by decide)) (by decide) vc_X2 in_X2 tyX2_ok nmX2 (by decide) q151 rfl rfl dX2_of_22 (pc' := 25) rfl rfl rfl M_9 e_10 ?_
  refine r_aload_n C dX2_of_25 (pc' := 26) rfl (j := 0) rfl ?_
  refine r_iconst C dX2_of_26 (pc' := 27) rfl (v := 0) rfl ?_
  obtain ⟨M_11, e_12, h⟩ := bn_ h
  refine r_putI C (Cn := RX2) (T := TX2) tyX2 6 (mMo.kd (mo_I e_10) (mMo.kd (mo_I e_8) (mMo.kd (mo_I e_6) (mMo.kd (mo_I e_4) (mMo.kd (mo_I e_2) k_a0 (by decide)) (by decide)) (by decide)) (by decide)) (by decide)) (by decide) vc_X2 in_X2 tyX2_ok nmX2 (by decide) q152 rfl rfl dX2_of_27 (pc' := 30) rfl rfl rfl M_11 e_12 ?_
  refine r_aload_n C dX2_of_30 (pc' := 31) rfl (j := 0) rfl ?_
  refine r_iconst C dX2_of_31 (pc' := 32) rfl (v := 0) rfl ?_
  obtain ⟨M_13, e_14, h⟩ := bn_ h
  refine r_putI C (Cn := RX2) (T := TX2) tyX2 7 (mMo.kd (mo_I e_12) (mMo.kd (mo_I e_10) (mMo.kd (mo_I e_8) (mMo.kd (mo_I e_6) (mMo.kd (mo_I e_4) (mMo.kd (mo_I e_2) k_a0 (by decide)) (by decide)) (by decide)) (by decide)) (by decide)) (by decide)) (by decide) vc_X2 in_X2 tyX2_ok nmX2 (by decide) q153 rfl rfl dX2_of_32 (pc' := 35) rfl rfl rfl M_13 e_14 ?_
  refine r_aload_n C dX2_of_35 (pc' := 36) rfl (j := 0) rfl ?_
  refine r_iconst C dX2_of_36 (pc' := 37) rfl (v := 0) rfl ?_
  obtain ⟨M_15, e_16, h⟩ := bn_ h
  refine r_putI C (Cn := RX2) (T := TX2) tyX2 8 (mMo.kd (mo_I e_14) (mMo.kd (mo_I e_12) (mMo.kd (mo_I e_10) (mMo.kd (mo_I e_8) (mMo.kd (mo_I e_6) (mMo.kd (mo_I e_4) (mMo.kd (mo_I e_2) k_a0 (by decide)) (by decide)) (by decide)) (by decide)) (by decide)) (by decide)) (by decide)) (by decide) vc_X2 in_X2 tyX2_ok nmX2 (by decide) q154 rfl rfl dX2_of_37 (pc' := 40) rfl rfl rfl M_15 e_16 ?_
  refine r_aload_n C dX2_of_40 (pc' := 41) rfl (j := 0) rfl ?_
  refine r_iconst C dX2_of_41 (pc' := 42) rfl (v := 0) rfl ?_
  obtain ⟨M_17, e_18, h⟩ := bn_ h
  refine r_putI C (Cn := RX2) (T := TX2) tyX2 9 (mMo.kd (mo_I e_16) (mMo.kd (mo_I e_14) (mMo.kd (mo_I e_12) (mMo.kd (mo_I e_10) (mMo.kd (mo_I e_8) (mMo.kd (mo_I e_6) (mMo.kd (mo_I e_4) (mMo.kd (mo_I e_2) k_a0 (by decide)) (by decide)) (by decide)) (by decide)) (by decide)) (by decide)) (by decide)) (by decide)) (by decide) vc_X2 in_X2 tyX2_ok nmX2 (by decide) q155 rfl rfl dX2_of_42 (pc' := 45) rfl rfl rfl M_17 e_18 ?_
  refine r_aload_n C dX2_of_45 (pc' := 46) rfl (j := 0) rfl ?_
  refine r_iconst C dX2_of_46 (pc' := 47) rfl (v := 0) rfl ?_
  obtain ⟨M_19, e_20, h⟩ := bn_ h
  refine r_putI C (Cn := RX2) (T := TX2) tyX2 10 (mMo.kd (mo_I e_18) (mMo.kd (mo_I e_16) (mMo.kd (mo_I e_14) (mMo.kd (mo_I e_12) (mMo.kd (mo_I e_10) (mMo.kd (mo_I e_8) (mMo.kd (mo_I e_6) (mMo.kd (mo_I e_4) (mMo.kd (mo_I e_2) k_a0 (by decide)) (by decide)) (by decide)) (by decide)) (by decide)) (by decide)) (by decide)) (by decide)) (by decide)) (by decide) vc_X2 in_X2 tyX2_ok nmX2 (by decide) q156 rfl rfl dX2_of_47 (pc' := 50) rfl rfl rfl M_19 e_20 ?_
  refine r_aload_n C dX2_of_50 (pc' := 51) rfl (j := 0) rfl ?_
  refine r_iconst C dX2_of_51 (pc' := 52) rfl (v := 0) rfl ?_
  obtain ⟨M_21, e_22, h⟩ := bn_ h
  refine r_putI C (Cn := RX2) (T := TX2) tyX2 11 (mMo.kd (mo_I e_20) (mMo.kd (mo_I e_18) (mMo.kd (mo_I e_16) (mMo.kd (mo_I e_14) (mMo.kd (mo_I e_12) (mMo.kd (mo_I e_10) (mMo.kd (mo_I e_8) (mMo.kd (mo_I e_6) (mMo.kd (mo_I e_4) (mMo.kd (mo_I e_2) k_a0 (by decide)) (by decide)) (by decide)) (by decide)) (by decide)) (by decide)) (by decide)) (by decide)) (by decide)) (by decide)) (by decide) vc_X2 in_X2 tyX2_ok nmX2 (by decide) q157 rfl rfl dX2_of_52 (pc' := 55) rfl rfl rfl M_21 e_22 ?_
  refine r_aload_n C dX2_of_55 (pc' := 56) rfl (j := 0) rfl ?_
  refine r_iconst C dX2_of_56 (pc' := 57) rfl (v := 0) rfl ?_
  obtain ⟨M_23, e_24, h⟩ := bn_ h
  refine r_putI C (Cn := RX2) (T := TX2) tyX2 12 (mMo.kd (mo_I e_22) (mMo.kd (mo_I e_20) (mMo.kd (mo_I e_18) (mMo.kd (mo_I e_16) (mMo.kd (mo_I e_14) (mMo.kd (mo_I e_12) (mMo.kd (mo_I e_10) (mMo.kd (mo_I e_8) (mMo.kd (mo_I e_6) (mMo.kd (mo_I e_4) (mMo.kd (mo_I e_2) k_a0 (by decide)) (by decide)) (by decide)) (by decide)) (by decide)) (by decide)) (by decide)) (by decide)) (by decide)) (by decide)) (by decide)) (by decide) vc_X2 in_X2 tyX2_ok nmX2 (by decide) q158 rfl rfl dX2_of_57 (pc' := 60) rfl rfl rfl M_23 e_24 ?_
  refine r_aload_n C dX2_of_60 (pc' := 61) rfl (j := 0) rfl ?_
  exact r_aret (x := (some a0)) C hE (Nat.le_of_ble_eq_true rfl) (Nat.le_of_ble_eq_true rfl) dX2_of_61 ⟨_, rfl, h⟩
set_option maxHeartbeats 4000000 in
theorem S_X2_ofPlant {D : DD} {l : Launch} {M : MM} {a0 : Nat} {x1 : Int32} {x2 : Int32} {x3 : Int32} {x4 : Int32} {x5 : Int32} {x6 : Int32} {x7 : Int32} {Post : Option Nat → MM → Prop} (k_a0 : mkd M a0 = 2) (h : wp_X2_ofPlant M a0 x1 x2 x3 x4 x5 x6 x7 Post) : mMet D l yX2_ofPlant cX2_ofPlant 8 ((some (.object "LandingTree$Moment"))) { frames := 0, cells := 0, slots := 0, locals := 0 } M [.ref a0, .int x1, .int x2, .int x3, .int x4, .int x5, .int x6, .int x7] (pR_ Post) := by
  refine m_of2 [(0, .ref a0), (1, .int x1), (2, .int x2), (3, .int x3), (4, .int x4), (5, .int x5), (6, .int x6), (7, .int x7)] (by decide +kernel) (Nat.le_of_ble_eq_true rfl) rfl (fun E hED hEl C hE => ?_)
  subst hED
  subst hEl
  unfold wp_X2_ofPlant at h
  refine r_aload_n C dX2_ofPlant_0 (pc' := 1) rfl (j := 0) rfl ?_
  refine r_iload_n C dX2_ofPlant_1 (pc' := 2) rfl (j := 1) rfl ?_
  obtain ⟨M_1, e_2, h⟩ := bn_ h
  refine r_putI C (Cn := RX2) (T := TX2) tyX2 3 k_a0 (by decide) vc_X2 in_X2 tyX2_ok nmX2 (by decide) q149 rfl rfl dX2_ofPlant_2 (pc' := 5) rfl rfl rfl M_1 e_2 ?_
  refine r_aload_n C dX2_ofPlant_5 (pc' := 6) rfl (j := 0) rfl ?_
  refine r_iload_n C dX2_ofPlant_6 (pc' := 7) rfl (j := 2) rfl ?_
  obtain ⟨M_3, e_4, h⟩ := bn_ h
  refine r_putI C (Cn := RX2) (T := TX2) tyX2 4 (mMo.kd (mo_I e_2) k_a0 (by decide)) (by decide) vc_X2 in_X2 tyX2_ok nmX2 (by decide) q150 rfl rfl dX2_ofPlant_7 (pc' := 10) rfl rfl rfl M_3 e_4 ?_
  refine r_aload_n C dX2_ofPlant_10 (pc' := 11) rfl (j := 0) rfl ?_
  refine r_iload_n C dX2_ofPlant_11 (pc' := 12) rfl (j := 3) rfl ?_
  obtain ⟨M_5, e_6, h⟩ := bn_ h
  refine r_putI C (Cn := RX2) (T := TX2) tyX2 5 (mMo.kd (mo_I e_4) (mMo.kd (mo_I e_2) k_a0 (by decide)) (by decide)) (by decide) vc_X2 in_X2 tyX2_ok nmX2 (by decide) q151 rfl rfl dX2_ofPlant_12 (pc' := 15) rfl rfl rfl M_5 e_6 ?_
  refine r_aload_n C dX2_ofPlant_15 (pc' := 16) rfl (j := 0) rfl ?_
  refine r_iload C dX2_ofPlant_16 (pc' := 18) rfl (j := 4) rfl ?_
  obtain ⟨M_7, e_8, h⟩ := bn_ h
  refine r_putI C (Cn := RX2) (T := TX2) tyX2 6 (mMo.kd (mo_I e_6) (mMo.kd (mo_I e_4) (mMo.kd (mo_I e_2) k_a0 (by decide)) (by decide)) (by decide)) (by decide) vc_X2 in_X2 tyX2_ok nmX2 (by decide) q152 rfl rfl dX2_ofPlant_18 (pc' := 21) rfl rfl rfl M_7 e_8 ?_
  refine r_aload_n C dX2_ofPlant_21 (pc' := 22) rfl (j := 0) rfl ?_
  refine r_iload C dX2_ofPlant_22 (pc' := 24) rfl (j := 5) rfl ?_
  obtain ⟨M_9, e_10, h⟩ := bn_ h
  refine r_putI C (Cn := RX2) (T := TX2) tyX2 7 (mMo.kd (mo_I e_8) (mMo.kd (mo_I e_6) (mMo.kd (mo_I e_4) (mMo.kd (mo_I e_2) k_a0 (by decide)) (by decide)) (by decide)) (by decide)) (by decide) vc_X2 in_X2 tyX2_ok nmX2 (by decide) q153 rfl rfl dX2_ofPlant_24 (pc' := 27) rfl rfl rfl M_9 e_10 ?_
  refine r_aload_n C dX2_ofPlant_27 (pc' := 28) rfl (j := 0) rfl ?_
  refine r_iload C dX2_ofPlant_28 (pc' := 30) rfl (j := 6) rfl ?_
  obtain ⟨M_11, e_12, h⟩ := bn_ h
  refine r_putI C (Cn := RX2) (T := TX2) tyX2 8 (mMo.kd (mo_I e_10) (mMo.kd (mo_I e_8) (mMo.kd (mo_I e_6) (mMo.kd (mo_I e_4) (mMo.kd (mo_I e_2) k_a0 (by decide)) (by decide)) (by decide)) (by decide)) (by decide)) (by decide) vc_X2 in_X2 tyX2_ok nmX2 (by decide) q154 rfl rfl dX2_ofPlant_30 (pc' := 33) rfl rfl rfl M_11 e_12 ?_
  refine r_aload_n C dX2_ofPlant_33 (pc' := 34) rfl (j := 0) rfl ?_
  refine r_iload C dX2_ofPlant_34 (pc' := 36) rfl (j := 7) rfl ?_
  obtain ⟨M_13, e_14, h⟩ := bn_ h
  refine r_putI C (Cn := RX2) (T := TX2) tyX2 11 (mMo.kd (mo_I e_12) (mMo.kd (mo_I e_10) (mMo.kd (mo_I e_8) (mMo.kd (mo_I e_6) (mMo.kd (mo_I e_4) (mMo.kd (mo_I e_2) k_a0 (by decide)) (by decide)) (by decide)) (by decide)) (by decide)) (by decide)) (by decide) vc_X2 in_X2 tyX2_ok nmX2 (by decide) q157 rfl rfl dX2_ofPlant_36 (pc' := 39) rfl rfl rfl M_13 e_14 ?_
  refine r_aload_n C dX2_ofPlant_39 (pc' := 40) rfl (j := 0) rfl ?_
  exact r_aret (x := (some a0)) C hE (Nat.le_of_ble_eq_true rfl) (Nat.le_of_ble_eq_true rfl) dX2_ofPlant_40 ⟨_, rfl, h⟩
set_option maxHeartbeats 4000000 in
theorem S_X2_by {D : DD} {l : Launch} {M : MM} {a0 : Nat} {x1 : Int32} {x2 : Int32} {x3 : Int32} {Post : Option Nat → MM → Prop} (k_a0 : mkd M a0 = 2) (h : wp_X2_by M a0 x1 x2 x3 Post) : mMet D l yX2_by cX2_by 4 ((some (.object "LandingTree$Moment"))) { frames := 0, cells := 0, slots := 0, locals := 0 } M [.ref a0, .int x1, .int x2, .int x3] (pR_ Post) := by
  refine m_of2 [(0, .ref a0), (1, .int x1), (2, .int x2), (3, .int x3)] (by decide +kernel) (Nat.le_of_ble_eq_true rfl) rfl (fun E hED hEl C hE => ?_)
  subst hED
  subst hEl
  unfold wp_X2_by at h
  refine r_aload_n C dX2_by_0 (pc' := 1) rfl (j := 0) rfl ?_
  refine r_iload_n C dX2_by_1 (pc' := 2) rfl (j := 1) rfl ?_
  obtain ⟨M_1, e_2, h⟩ := bn_ h
  refine r_putI C (Cn := RX2) (T := TX2) tyX2 9 k_a0 (by decide) vc_X2 in_X2 tyX2_ok nmX2 (by decide) q155 rfl rfl dX2_by_2 (pc' := 5) rfl rfl rfl M_1 e_2 ?_
  refine r_aload_n C dX2_by_5 (pc' := 6) rfl (j := 0) rfl ?_
  refine r_iload_n C dX2_by_6 (pc' := 7) rfl (j := 2) rfl ?_
  obtain ⟨M_3, e_4, h⟩ := bn_ h
  refine r_putI C (Cn := RX2) (T := TX2) tyX2 10 (mMo.kd (mo_I e_2) k_a0 (by decide)) (by decide) vc_X2 in_X2 tyX2_ok nmX2 (by decide) q156 rfl rfl dX2_by_7 (pc' := 10) rfl rfl rfl M_3 e_4 ?_
  refine r_aload_n C dX2_by_10 (pc' := 11) rfl (j := 0) rfl ?_
  refine r_iload_n C dX2_by_11 (pc' := 12) rfl (j := 3) rfl ?_
  obtain ⟨M_5, e_6, h⟩ := bn_ h
  refine r_putI C (Cn := RX2) (T := TX2) tyX2 12 (mMo.kd (mo_I e_4) (mMo.kd (mo_I e_2) k_a0 (by decide)) (by decide)) (by decide) vc_X2 in_X2 tyX2_ok nmX2 (by decide) q158 rfl rfl dX2_by_12 (pc' := 15) rfl rfl rfl M_5 e_6 ?_
  refine r_aload_n C dX2_by_15 (pc' := 16) rfl (j := 0) rfl ?_
  exact r_aret (x := (some a0)) C hE (Nat.le_of_ble_eq_true rfl) (Nat.le_of_ble_eq_true rfl) dX2_by_16 ⟨_, rfl, h⟩
set_option maxHeartbeats 4000000 in
theorem S_X2_value {D : DD} {l : Launch} {M : MM} {a0 : Nat} {x1 : Int32} {Post : Int32 → MM → Prop} (k_a0 : mkd M a0 = 2) (h : wp_X2_value M a0 x1 Post) : mMet D l yX2_value cX2_value 2 ((some .int)) { frames := 0, cells := 0, slots := 0, locals := 0 } M [.ref a0, .int x1] (pI_ Post) := by
  refine m_of2 [(0, .ref a0), (1, .int x1)] (by decide +kernel) (Nat.le_of_ble_eq_true rfl) rfl (fun E hED hEl C hE => ?_)
  subst hED
  subst hEl
  unfold wp_X2_value at h
  refine r_iload_n C dX2_value_0 (pc' := 1) rfl (j := 1) rfl ?_
  by_cases c_1 : x1 = 97
  · have h := it_t h c_1
    refine r_tsIn C dX2_value_1 (off := 177) (tgt := 178) (by rw [c_1]; decide) (by rw [c_1]; decide) (by rw [c_1]; decide) (by decide) ?_
    refine r_aload_n C dX2_value_178 (pc' := 179) rfl (j := 0) rfl ?_
    refine r_getf C (Cn := RX2) (T := TX2) 11 k_a0 (by decide) vc_X2 in_X2 (by decide) q157 dX2_value_179 (pc' := 182) rfl (v := .int (mgI M a0 11)) rfl ?_
    exact r_iret C hE (Nat.le_of_ble_eq_true rfl) (Nat.le_of_ble_eq_true rfl) dX2_value_182 ⟨_, rfl, h⟩
  have h := it_f h c_1
  by_cases c_2 : x1 = 98
  · have h := it_t h c_2
    refine r_tsIn C dX2_value_1 (off := 182) (tgt := 183) (by rw [c_2]; decide) (by rw [c_2]; decide) (by rw [c_2]; decide) (by decide) ?_
    refine r_aload_n C dX2_value_183 (pc' := 184) rfl (j := 0) rfl ?_
    refine r_getf C (Cn := RX2) (T := TX2) 12 k_a0 (by decide) vc_X2 in_X2 (by decide) q158 dX2_value_184 (pc' := 187) rfl (v := .int (mgI M a0 12)) rfl ?_
    exact r_iret C hE (Nat.le_of_ble_eq_true rfl) (Nat.le_of_ble_eq_true rfl) dX2_value_187 ⟨_, rfl, h⟩
  have h := it_f h c_2
  by_cases c_3 : x1 = 99
  · have h := it_t h c_3
    refine r_tsIn C dX2_value_1 (off := 182) (tgt := 183) (by rw [c_3]; decide) (by rw [c_3]; decide) (by rw [c_3]; decide) (by decide) ?_
    refine r_aload_n C dX2_value_183 (pc' := 184) rfl (j := 0) rfl ?_
    refine r_getf C (Cn := RX2) (T := TX2) 12 k_a0 (by decide) vc_X2 in_X2 (by decide) q158 dX2_value_184 (pc' := 187) rfl (v := .int (mgI M a0 12)) rfl ?_
    exact r_iret C hE (Nat.le_of_ble_eq_true rfl) (Nat.le_of_ble_eq_true rfl) dX2_value_187 ⟨_, rfl, h⟩
  have h := it_f h c_3
  by_cases c_4 : x1 = 100
  · have h := it_t h c_4
    refine r_tsIn C dX2_value_1 (off := 119) (tgt := 120) (by rw [c_4]; decide) (by rw [c_4]; decide) (by rw [c_4]; decide) (by decide) ?_
    refine r_aload_n C dX2_value_120 (pc' := 121) rfl (j := 0) rfl ?_
    refine r_getf C (Cn := RX2) (T := TX2) 1 k_a0 (by decide) vc_X2 in_X2 (by decide) q147 dX2_value_121 (pc' := 124) rfl (v := .int (mgI M a0 1)) rfl ?_
    exact r_iret C hE (Nat.le_of_ble_eq_true rfl) (Nat.le_of_ble_eq_true rfl) dX2_value_124 ⟨_, rfl, h⟩
  have h := it_f h c_4
  by_cases c_5 : x1 = 101
  · have h := it_t h c_5
    refine r_tsIn C dX2_value_1 (off := 182) (tgt := 183) (by rw [c_5]; decide) (by rw [c_5]; decide) (by rw [c_5]; decide) (by decide) ?_
    refine r_aload_n C dX2_value_183 (pc' := 184) rfl (j := 0) rfl ?_
    refine r_getf C (Cn := RX2) (T := TX2) 12 k_a0 (by decide) vc_X2 in_X2 (by decide) q158 dX2_value_184 (pc' := 187) rfl (v := .int (mgI M a0 12)) rfl ?_
    exact r_iret C hE (Nat.le_of_ble_eq_true rfl) (Nat.le_of_ble_eq_true rfl) dX2_value_187 ⟨_, rfl, h⟩
  have h := it_f h c_5
  by_cases c_6 : x1 = 102
  · have h := it_t h c_6
    refine r_tsIn C dX2_value_1 (off := 142) (tgt := 143) (by rw [c_6]; decide) (by rw [c_6]; decide) (by rw [c_6]; decide) (by decide) ?_
    refine r_aload_n C dX2_value_143 (pc' := 144) rfl (j := 0) rfl ?_
    refine r_getf C (Cn := RX2) (T := TX2) 5 k_a0 (by decide) vc_X2 in_X2 (by decide) q151 dX2_value_144 (pc' := 147) rfl (v := .int (mgI M a0 5)) rfl ?_
    exact r_iret C hE (Nat.le_of_ble_eq_true rfl) (Nat.le_of_ble_eq_true rfl) dX2_value_147 ⟨_, rfl, h⟩
  have h := it_f h c_6
  by_cases c_7 : x1 = 103
  · have h := it_t h c_7
    refine r_tsIn C dX2_value_1 (off := 182) (tgt := 183) (by rw [c_7]; decide) (by rw [c_7]; decide) (by rw [c_7]; decide) (by decide) ?_
    refine r_aload_n C dX2_value_183 (pc' := 184) rfl (j := 0) rfl ?_
    refine r_getf C (Cn := RX2) (T := TX2) 12 k_a0 (by decide) vc_X2 in_X2 (by decide) q158 dX2_value_184 (pc' := 187) rfl (v := .int (mgI M a0 12)) rfl ?_
    exact r_iret C hE (Nat.le_of_ble_eq_true rfl) (Nat.le_of_ble_eq_true rfl) dX2_value_187 ⟨_, rfl, h⟩
  have h := it_f h c_7
  by_cases c_8 : x1 = 104
  · have h := it_t h c_8
    refine r_tsIn C dX2_value_1 (off := 182) (tgt := 183) (by rw [c_8]; decide) (by rw [c_8]; decide) (by rw [c_8]; decide) (by decide) ?_
    refine r_aload_n C dX2_value_183 (pc' := 184) rfl (j := 0) rfl ?_
    refine r_getf C (Cn := RX2) (T := TX2) 12 k_a0 (by decide) vc_X2 in_X2 (by decide) q158 dX2_value_184 (pc' := 187) rfl (v := .int (mgI M a0 12)) rfl ?_
    exact r_iret C hE (Nat.le_of_ble_eq_true rfl) (Nat.le_of_ble_eq_true rfl) dX2_value_187 ⟨_, rfl, h⟩
  have h := it_f h c_8
  by_cases c_9 : x1 = 105
  · have h := it_t h c_9
    refine r_tsIn C dX2_value_1 (off := 182) (tgt := 183) (by rw [c_9]; decide) (by rw [c_9]; decide) (by rw [c_9]; decide) (by decide) ?_
    refine r_aload_n C dX2_value_183 (pc' := 184) rfl (j := 0) rfl ?_
    refine r_getf C (Cn := RX2) (T := TX2) 12 k_a0 (by decide) vc_X2 in_X2 (by decide) q158 dX2_value_184 (pc' := 187) rfl (v := .int (mgI M a0 12)) rfl ?_
    exact r_iret C hE (Nat.le_of_ble_eq_true rfl) (Nat.le_of_ble_eq_true rfl) dX2_value_187 ⟨_, rfl, h⟩
  have h := it_f h c_9
  by_cases c_10 : x1 = 106
  · have h := it_t h c_10
    refine r_tsIn C dX2_value_1 (off := 182) (tgt := 183) (by rw [c_10]; decide) (by rw [c_10]; decide) (by rw [c_10]; decide) (by decide) ?_
    refine r_aload_n C dX2_value_183 (pc' := 184) rfl (j := 0) rfl ?_
    refine r_getf C (Cn := RX2) (T := TX2) 12 k_a0 (by decide) vc_X2 in_X2 (by decide) q158 dX2_value_184 (pc' := 187) rfl (v := .int (mgI M a0 12)) rfl ?_
    exact r_iret C hE (Nat.le_of_ble_eq_true rfl) (Nat.le_of_ble_eq_true rfl) dX2_value_187 ⟨_, rfl, h⟩
  have h := it_f h c_10
  by_cases c_11 : x1 = 107
  · have h := it_t h c_11
    refine r_tsIn C dX2_value_1 (off := 182) (tgt := 183) (by rw [c_11]; decide) (by rw [c_11]; decide) (by rw [c_11]; decide) (by decide) ?_
    refine r_aload_n C dX2_value_183 (pc' := 184) rfl (j := 0) rfl ?_
    refine r_getf C (Cn := RX2) (T := TX2) 12 k_a0 (by decide) vc_X2 in_X2 (by decide) q158 dX2_value_184 (pc' := 187) rfl (v := .int (mgI M a0 12)) rfl ?_
    exact r_iret C hE (Nat.le_of_ble_eq_true rfl) (Nat.le_of_ble_eq_true rfl) dX2_value_187 ⟨_, rfl, h⟩
  have h := it_f h c_11
  by_cases c_12 : x1 = 108
  · have h := it_t h c_12
    refine r_tsIn C dX2_value_1 (off := 132) (tgt := 133) (by rw [c_12]; decide) (by rw [c_12]; decide) (by rw [c_12]; decide) (by decide) ?_
    refine r_aload_n C dX2_value_133 (pc' := 134) rfl (j := 0) rfl ?_
    refine r_getf C (Cn := RX2) (T := TX2) 3 k_a0 (by decide) vc_X2 in_X2 (by decide) q149 dX2_value_134 (pc' := 137) rfl (v := .int (mgI M a0 3)) rfl ?_
    exact r_iret C hE (Nat.le_of_ble_eq_true rfl) (Nat.le_of_ble_eq_true rfl) dX2_value_137 ⟨_, rfl, h⟩
  have h := it_f h c_12
  by_cases c_13 : x1 = 109
  · have h := it_t h c_13
    refine r_tsIn C dX2_value_1 (off := 182) (tgt := 183) (by rw [c_13]; decide) (by rw [c_13]; decide) (by rw [c_13]; decide) (by decide) ?_
    refine r_aload_n C dX2_value_183 (pc' := 184) rfl (j := 0) rfl ?_
    refine r_getf C (Cn := RX2) (T := TX2) 12 k_a0 (by decide) vc_X2 in_X2 (by decide) q158 dX2_value_184 (pc' := 187) rfl (v := .int (mgI M a0 12)) rfl ?_
    exact r_iret C hE (Nat.le_of_ble_eq_true rfl) (Nat.le_of_ble_eq_true rfl) dX2_value_187 ⟨_, rfl, h⟩
  have h := it_f h c_13
  by_cases c_14 : x1 = 110
  · have h := it_t h c_14
    refine r_tsIn C dX2_value_1 (off := 172) (tgt := 173) (by rw [c_14]; decide) (by rw [c_14]; decide) (by rw [c_14]; decide) (by decide) ?_
    refine r_aload_n C dX2_value_173 (pc' := 174) rfl (j := 0) rfl ?_
    refine r_getf C (Cn := RX2) (T := TX2) 2 k_a0 (by decide) vc_X2 in_X2 (by decide) q148 dX2_value_174 (pc' := 177) rfl (v := .int (mgI M a0 2)) rfl ?_
    exact r_iret C hE (Nat.le_of_ble_eq_true rfl) (Nat.le_of_ble_eq_true rfl) dX2_value_177 ⟨_, rfl, h⟩
  have h := it_f h c_14
  by_cases c_15 : x1 = 111
  · have h := it_t h c_15
    refine r_tsIn C dX2_value_1 (off := 137) (tgt := 138) (by rw [c_15]; decide) (by rw [c_15]; decide) (by rw [c_15]; decide) (by decide) ?_
    refine r_aload_n C dX2_value_138 (pc' := 139) rfl (j := 0) rfl ?_
    refine r_getf C (Cn := RX2) (T := TX2) 4 k_a0 (by decide) vc_X2 in_X2 (by decide) q150 dX2_value_139 (pc' := 142) rfl (v := .int (mgI M a0 4)) rfl ?_
    exact r_iret C hE (Nat.le_of_ble_eq_true rfl) (Nat.le_of_ble_eq_true rfl) dX2_value_142 ⟨_, rfl, h⟩
  have h := it_f h c_15
  by_cases c_16 : x1 = 112
  · have h := it_t h c_16
    refine r_tsIn C dX2_value_1 (off := 162) (tgt := 163) (by rw [c_16]; decide) (by rw [c_16]; decide) (by rw [c_16]; decide) (by decide) ?_
    refine r_aload_n C dX2_value_163 (pc' := 164) rfl (j := 0) rfl ?_
    refine r_getf C (Cn := RX2) (T := TX2) 9 k_a0 (by decide) vc_X2 in_X2 (by decide) q155 dX2_value_164 (pc' := 167) rfl (v := .int (mgI M a0 9)) rfl ?_
    exact r_iret C hE (Nat.le_of_ble_eq_true rfl) (Nat.le_of_ble_eq_true rfl) dX2_value_167 ⟨_, rfl, h⟩
  have h := it_f h c_16
  by_cases c_17 : x1 = 113
  · have h := it_t h c_17
    refine r_tsIn C dX2_value_1 (off := 182) (tgt := 183) (by rw [c_17]; decide) (by rw [c_17]; decide) (by rw [c_17]; decide) (by decide) ?_
    refine r_aload_n C dX2_value_183 (pc' := 184) rfl (j := 0) rfl ?_
    refine r_getf C (Cn := RX2) (T := TX2) 12 k_a0 (by decide) vc_X2 in_X2 (by decide) q158 dX2_value_184 (pc' := 187) rfl (v := .int (mgI M a0 12)) rfl ?_
    exact r_iret C hE (Nat.le_of_ble_eq_true rfl) (Nat.le_of_ble_eq_true rfl) dX2_value_187 ⟨_, rfl, h⟩
  have h := it_f h c_17
  by_cases c_18 : x1 = 114
  · have h := it_t h c_18
    refine r_tsIn C dX2_value_1 (off := 182) (tgt := 183) (by rw [c_18]; decide) (by rw [c_18]; decide) (by rw [c_18]; decide) (by decide) ?_
    refine r_aload_n C dX2_value_183 (pc' := 184) rfl (j := 0) rfl ?_
    refine r_getf C (Cn := RX2) (T := TX2) 12 k_a0 (by decide) vc_X2 in_X2 (by decide) q158 dX2_value_184 (pc' := 187) rfl (v := .int (mgI M a0 12)) rfl ?_
    exact r_iret C hE (Nat.le_of_ble_eq_true rfl) (Nat.le_of_ble_eq_true rfl) dX2_value_187 ⟨_, rfl, h⟩
  have h := it_f h c_18
  by_cases c_19 : x1 = 115
  · have h := it_t h c_19
    refine r_tsIn C dX2_value_1 (off := 147) (tgt := 148) (by rw [c_19]; decide) (by rw [c_19]; decide) (by rw [c_19]; decide) (by decide) ?_
    refine r_aload_n C dX2_value_148 (pc' := 149) rfl (j := 0) rfl ?_
    refine r_getf C (Cn := RX2) (T := TX2) 6 k_a0 (by decide) vc_X2 in_X2 (by decide) q152 dX2_value_149 (pc' := 152) rfl (v := .int (mgI M a0 6)) rfl ?_
    exact r_iret C hE (Nat.le_of_ble_eq_true rfl) (Nat.le_of_ble_eq_true rfl) dX2_value_152 ⟨_, rfl, h⟩
  have h := it_f h c_19
  by_cases c_20 : x1 = 116
  · have h := it_t h c_20
    refine r_tsIn C dX2_value_1 (off := 167) (tgt := 168) (by rw [c_20]; decide) (by rw [c_20]; decide) (by rw [c_20]; decide) (by decide) ?_
    refine r_aload_n C dX2_value_168 (pc' := 169) rfl (j := 0) rfl ?_
    refine r_getf C (Cn := RX2) (T := TX2) 10 k_a0 (by decide) vc_X2 in_X2 (by decide) q156 dX2_value_169 (pc' := 172) rfl (v := .int (mgI M a0 10)) rfl ?_
    exact r_iret C hE (Nat.le_of_ble_eq_true rfl) (Nat.le_of_ble_eq_true rfl) dX2_value_172 ⟨_, rfl, h⟩
  have h := it_f h c_20
  by_cases c_21 : x1 = 117
  · have h := it_t h c_21
    refine r_tsIn C dX2_value_1 (off := 182) (tgt := 183) (by rw [c_21]; decide) (by rw [c_21]; decide) (by rw [c_21]; decide) (by decide) ?_
    refine r_aload_n C dX2_value_183 (pc' := 184) rfl (j := 0) rfl ?_
    refine r_getf C (Cn := RX2) (T := TX2) 12 k_a0 (by decide) vc_X2 in_X2 (by decide) q158 dX2_value_184 (pc' := 187) rfl (v := .int (mgI M a0 12)) rfl ?_
    exact r_iret C hE (Nat.le_of_ble_eq_true rfl) (Nat.le_of_ble_eq_true rfl) dX2_value_187 ⟨_, rfl, h⟩
  have h := it_f h c_21
  by_cases c_22 : x1 = 118
  · have h := it_t h c_22
    refine r_tsIn C dX2_value_1 (off := 182) (tgt := 183) (by rw [c_22]; decide) (by rw [c_22]; decide) (by rw [c_22]; decide) (by decide) ?_
    refine r_aload_n C dX2_value_183 (pc' := 184) rfl (j := 0) rfl ?_
    refine r_getf C (Cn := RX2) (T := TX2) 12 k_a0 (by decide) vc_X2 in_X2 (by decide) q158 dX2_value_184 (pc' := 187) rfl (v := .int (mgI M a0 12)) rfl ?_
    exact r_iret C hE (Nat.le_of_ble_eq_true rfl) (Nat.le_of_ble_eq_true rfl) dX2_value_187 ⟨_, rfl, h⟩
  have h := it_f h c_22
  by_cases c_23 : x1 = 119
  · have h := it_t h c_23
    refine r_tsIn C dX2_value_1 (off := 124) (tgt := 125) (by rw [c_23]; decide) (by rw [c_23]; decide) (by rw [c_23]; decide) (by decide) ?_
    refine r_aload_n C dX2_value_125 (pc' := 126) rfl (j := 0) rfl ?_
    refine r_getf C (Cn := RX2) (T := TX2) 1 k_a0 (by decide) vc_X2 in_X2 (by decide) q147 dX2_value_126 (pc' := 129) rfl (v := .int (mgI M a0 1)) rfl ?_
    refine r_bipush C dX2_value_129 (pc' := 131) rfl (v := 7) rfl ?_
    refine r_irem C dX2_value_131 (pc' := 132) rfl (by decide) ?_
    exact r_iret C hE (Nat.le_of_ble_eq_true rfl) (Nat.le_of_ble_eq_true rfl) dX2_value_132 ⟨_, rfl, h⟩
  have h := it_f h c_23
  by_cases c_24 : x1 = 120
  · have h := it_t h c_24
    refine r_tsIn C dX2_value_1 (off := 182) (tgt := 183) (by rw [c_24]; decide) (by rw [c_24]; decide) (by rw [c_24]; decide) (by decide) ?_
    refine r_aload_n C dX2_value_183 (pc' := 184) rfl (j := 0) rfl ?_
    refine r_getf C (Cn := RX2) (T := TX2) 12 k_a0 (by decide) vc_X2 in_X2 (by decide) q158 dX2_value_184 (pc' := 187) rfl (v := .int (mgI M a0 12)) rfl ?_
    exact r_iret C hE (Nat.le_of_ble_eq_true rfl) (Nat.le_of_ble_eq_true rfl) dX2_value_187 ⟨_, rfl, h⟩
  have h := it_f h c_24
  by_cases c_25 : x1 = 121
  · have h := it_t h c_25
    refine r_tsIn C dX2_value_1 (off := 152) (tgt := 153) (by rw [c_25]; decide) (by rw [c_25]; decide) (by rw [c_25]; decide) (by decide) ?_
    refine r_aload_n C dX2_value_153 (pc' := 154) rfl (j := 0) rfl ?_
    refine r_getf C (Cn := RX2) (T := TX2) 7 k_a0 (by decide) vc_X2 in_X2 (by decide) q153 dX2_value_154 (pc' := 157) rfl (v := .int (mgI M a0 7)) rfl ?_
    exact r_iret C hE (Nat.le_of_ble_eq_true rfl) (Nat.le_of_ble_eq_true rfl) dX2_value_157 ⟨_, rfl, h⟩
  have h := it_f h c_25
  by_cases c_26 : x1 = 122
  · have h := it_t h c_26
    refine r_tsIn C dX2_value_1 (off := 157) (tgt := 158) (by rw [c_26]; decide) (by rw [c_26]; decide) (by rw [c_26]; decide) (by decide) ?_
    refine r_aload_n C dX2_value_158 (pc' := 159) rfl (j := 0) rfl ?_
    refine r_getf C (Cn := RX2) (T := TX2) 8 k_a0 (by decide) vc_X2 in_X2 (by decide) q154 dX2_value_159 (pc' := 162) rfl (v := .int (mgI M a0 8)) rfl ?_
    exact r_iret C hE (Nat.le_of_ble_eq_true rfl) (Nat.le_of_ble_eq_true rfl) dX2_value_162 ⟨_, rfl, h⟩
  have h := it_f h c_26
  have c_1 := lv_neT c_1 (show ((97 : Int32)).toInt = 97 from by decide)
  have c_2 := lv_neT c_2 (show ((98 : Int32)).toInt = 98 from by decide)
  have c_3 := lv_neT c_3 (show ((99 : Int32)).toInt = 99 from by decide)
  have c_4 := lv_neT c_4 (show ((100 : Int32)).toInt = 100 from by decide)
  have c_5 := lv_neT c_5 (show ((101 : Int32)).toInt = 101 from by decide)
  have c_6 := lv_neT c_6 (show ((102 : Int32)).toInt = 102 from by decide)
  have c_7 := lv_neT c_7 (show ((103 : Int32)).toInt = 103 from by decide)
  have c_8 := lv_neT c_8 (show ((104 : Int32)).toInt = 104 from by decide)
  have c_9 := lv_neT c_9 (show ((105 : Int32)).toInt = 105 from by decide)
  have c_10 := lv_neT c_10 (show ((106 : Int32)).toInt = 106 from by decide)
  have c_11 := lv_neT c_11 (show ((107 : Int32)).toInt = 107 from by decide)
  have c_12 := lv_neT c_12 (show ((108 : Int32)).toInt = 108 from by decide)
  have c_13 := lv_neT c_13 (show ((109 : Int32)).toInt = 109 from by decide)
  have c_14 := lv_neT c_14 (show ((110 : Int32)).toInt = 110 from by decide)
  have c_15 := lv_neT c_15 (show ((111 : Int32)).toInt = 111 from by decide)
  have c_16 := lv_neT c_16 (show ((112 : Int32)).toInt = 112 from by decide)
  have c_17 := lv_neT c_17 (show ((113 : Int32)).toInt = 113 from by decide)
  have c_18 := lv_neT c_18 (show ((114 : Int32)).toInt = 114 from by decide)
  have c_19 := lv_neT c_19 (show ((115 : Int32)).toInt = 115 from by decide)
  have c_20 := lv_neT c_20 (show ((116 : Int32)).toInt = 116 from by decide)
  have c_21 := lv_neT c_21 (show ((117 : Int32)).toInt = 117 from by decide)
  have c_22 := lv_neT c_22 (show ((118 : Int32)).toInt = 118 from by decide)
  have c_23 := lv_neT c_23 (show ((119 : Int32)).toInt = 119 from by decide)
  have c_24 := lv_neT c_24 (show ((120 : Int32)).toInt = 120 from by decide)
  have c_25 := lv_neT c_25 (show ((121 : Int32)).toInt = 121 from by decide)
  have c_26 := lv_neT c_26 (show ((122 : Int32)).toInt = 122 from by decide)
  refine r_tsOut C dX2_value_1 (tgt := 183) (by omega) (by decide) ?_
  refine r_aload_n C dX2_value_183 (pc' := 184) rfl (j := 0) rfl ?_
  refine r_getf C (Cn := RX2) (T := TX2) 12 k_a0 (by decide) vc_X2 in_X2 (by decide) q158 dX2_value_184 (pc' := 187) rfl (v := .int (mgI M a0 12)) rfl ?_
  exact r_iret C hE (Nat.le_of_ble_eq_true rfl) (Nat.le_of_ble_eq_true rfl) dX2_value_187 ⟨_, rfl, h⟩
set_option maxHeartbeats 4000000 in
theorem B_X10_worked_53 {E : mE} {M : MM} {x0 : Int32} {x1 : Int32} {x2 : Int32} {Post : Int32 → MM → Prop} (C : mC E yX10_worked cX10_worked 4 ((some .int)) { frames := 0, cells := 0, slots := 0, locals := 0 }) (hE : mEnd E { frames := 0, cells := 0, slots := 0, locals := 0 } (pI_ Post)) (h : wb_X10_worked_53 M x0 x1 x2 Post) : mV E M 0 0 53 [(0, .int x0), (1, .int x1), (2, .int x2)] [] := by
  unfold wb_X10_worked_53 at h
  refine r_iload_n C dX10_worked_53 (pc' := 54) rfl (j := 2) rfl ?_
  refine r_if_ne C dX10_worked_54 (pc' := 57) rfl (tgt := 61) (by decide) (fun c_5 => ?_) (fun c_5 => ?_)
  · have h := it_f h c_5
    refine r_iload_n C dX10_worked_61 (pc' := 62) rfl (j := 0) rfl ?_
    refine r_bipush C dX10_worked_62 (pc' := 64) rfl (v := 47) rfl ?_
    refine r_icmp_ne C dX10_worked_64 (pc' := 67) rfl (tgt := 73) (by decide) (fun c_6 => ?_) (fun c_6 => ?_)
    · have h := it_f h c_6
      refine r_iload_n C dX10_worked_73 (pc' := 74) rfl (j := 1) rfl ?_
      refine r_iload_n C dX10_worked_74 (pc' := 75) rfl (j := 2) rfl ?_
      obtain ⟨c_7, h⟩ := h
      refine r_irem C dX10_worked_75 (pc' := 76) rfl c_7 ?_
      exact r_iret C hE (Nat.le_of_ble_eq_true rfl) (Nat.le_of_ble_eq_true rfl) dX10_worked_76 ⟨_, rfl, h⟩
    · have h := it_t h c_6
      refine r_iload_n C dX10_worked_67 (pc' := 68) rfl (j := 1) rfl ?_
      refine r_iload_n C dX10_worked_68 (pc' := 69) rfl (j := 2) rfl ?_
      obtain ⟨c_8, h⟩ := h
      refine r_idiv C dX10_worked_69 (pc' := 70) rfl c_8 ?_
      refine r_goto C dX10_worked_70 (tgt := 76) (by decide) ?_
      exact r_iret C hE (Nat.le_of_ble_eq_true rfl) (Nat.le_of_ble_eq_true rfl) dX10_worked_76 ⟨_, rfl, h⟩
  · have h := it_t h c_5
    refine r_iconst C dX10_worked_57 (pc' := 58) rfl (v := 0) rfl ?_
    refine r_goto C dX10_worked_58 (tgt := 76) (by decide) ?_
    exact r_iret C hE (Nat.le_of_ble_eq_true rfl) (Nat.le_of_ble_eq_true rfl) dX10_worked_76 ⟨_, rfl, h⟩
set_option maxHeartbeats 4000000 in
theorem S_X10_worked {D : DD} {l : Launch} {M : MM} {x0 : Int32} {x1 : Int32} {x2 : Int32} {a3 : Nat} {Post : Int32 → MM → Prop} (k_a3 : mkd M a3 = 2) (h : wp_X10_worked M x0 x1 x2 a3 Post) : mMet D l yX10_worked cX10_worked 4 ((some .int)) { frames := 0, cells := 0, slots := 0, locals := 0 } M [.int x0, .int x1, .int x2, .ref a3] (pI_ Post) := by
  refine m_of2 [(0, .int x0), (1, .int x1), (2, .int x2), (3, .ref a3)] (by decide +kernel) (Nat.le_of_ble_eq_true rfl) rfl (fun E hED hEl C hE => ?_)
  subst hED
  subst hEl
  unfold wp_X10_worked at h
  refine r_iload_n C dX10_worked_0 (pc' := 1) rfl (j := 0) rfl ?_
  by_cases c_1 : x0 = 42
  · have h := it_t h c_1
    refine r_tsIn C dX10_worked_1 (off := 39) (tgt := 40) (by rw [c_1]; decide) (by rw [c_1]; decide) (by rw [c_1]; decide) (by decide) ?_
    refine r_iload_n C dX10_worked_40 (pc' := 41) rfl (j := 1) rfl ?_
    refine r_iload_n C dX10_worked_41 (pc' := 42) rfl (j := 2) rfl ?_
    refine r_imul C dX10_worked_42 (pc' := 43) rfl ?_
    exact r_iret C hE (Nat.le_of_ble_eq_true rfl) (Nat.le_of_ble_eq_true rfl) dX10_worked_43 ⟨_, rfl, h⟩
  have h := it_f h c_1
  by_cases c_2 : x0 = 43
  · have h := it_t h c_2
    refine r_tsIn C dX10_worked_1 (off := 31) (tgt := 32) (by rw [c_2]; decide) (by rw [c_2]; decide) (by rw [c_2]; decide) (by decide) ?_
    refine r_iload_n C dX10_worked_32 (pc' := 33) rfl (j := 1) rfl ?_
    refine r_iload_n C dX10_worked_33 (pc' := 34) rfl (j := 2) rfl ?_
    refine r_iadd C dX10_worked_34 (pc' := 35) rfl ?_
    exact r_iret C hE (Nat.le_of_ble_eq_true rfl) (Nat.le_of_ble_eq_true rfl) dX10_worked_35 ⟨_, rfl, h⟩
  have h := it_f h c_2
  by_cases c_3 : x0 = 44
  · have h := it_t h c_3
    refine r_tsIn C dX10_worked_1 (off := 43) (tgt := 44) (by rw [c_3]; decide) (by rw [c_3]; decide) (by rw [c_3]; decide) (by decide) ?_
    refine r_iload_n C dX10_worked_44 (pc' := 45) rfl (j := 2) rfl ?_
    refine r_if_ne C dX10_worked_45 (pc' := 48) rfl (tgt := 53) (by decide) (fun c_4 => ?_) (fun c_4 => ?_)
    · have h := it_f h c_4
      refine r_sub (lv' := [(0, .int x0), (1, .int x1), (2, .int x2)]) [0, 1, 2] rfl ?_
      exact B_X10_worked_53 C hE h
    · have h := it_t h c_4
      refine r_aload_n C dX10_worked_48 (pc' := 49) rfl (j := 3) rfl ?_
      refine r_iconst C dX10_worked_49 (pc' := 50) rfl (v := 1) rfl ?_
      obtain ⟨M_9, e_10, h⟩ := bn_ h
      refine r_putIN C (Cn := RX2) (T := TX2) tyX2 0 k_a3 (by decide) vc_X2 in_X2 tyX2_ok nmX2 (by decide) (List.mem_of_getElem? (i := 48) rfl) rfl rfl dX10_worked_50 (pc' := 53) rfl rfl rfl M_9 e_10 ?_
      refine r_sub (lv' := [(0, .int x0), (1, .int x1), (2, .int x2)]) [0, 1, 2] rfl ?_
      exact B_X10_worked_53 C hE h
  have h := it_f h c_3
  by_cases c_11 : x0 = 45
  · have h := it_t h c_11
    refine r_tsIn C dX10_worked_1 (off := 35) (tgt := 36) (by rw [c_11]; decide) (by rw [c_11]; decide) (by rw [c_11]; decide) (by decide) ?_
    refine r_iload_n C dX10_worked_36 (pc' := 37) rfl (j := 1) rfl ?_
    refine r_iload_n C dX10_worked_37 (pc' := 38) rfl (j := 2) rfl ?_
    refine r_isub C dX10_worked_38 (pc' := 39) rfl ?_
    exact r_iret C hE (Nat.le_of_ble_eq_true rfl) (Nat.le_of_ble_eq_true rfl) dX10_worked_39 ⟨_, rfl, h⟩
  have h := it_f h c_11
  have c_1 := lv_neT c_1 (show ((42 : Int32)).toInt = 42 from by decide)
  have c_2 := lv_neT c_2 (show ((43 : Int32)).toInt = 43 from by decide)
  have c_3 := lv_neT c_3 (show ((44 : Int32)).toInt = 44 from by decide)
  have c_11 := lv_neT c_11 (show ((45 : Int32)).toInt = 45 from by decide)
  refine r_tsOut C dX10_worked_1 (tgt := 44) (by omega) (by decide) ?_
  refine r_iload_n C dX10_worked_44 (pc' := 45) rfl (j := 2) rfl ?_
  refine r_if_ne C dX10_worked_45 (pc' := 48) rfl (tgt := 53) (by decide) (fun c_12 => ?_) (fun c_12 => ?_)
  · have h := it_f h c_12
    refine r_sub (lv' := [(0, .int x0), (1, .int x1), (2, .int x2)]) [0, 1, 2] rfl ?_
    exact B_X10_worked_53 C hE h
  · have h := it_t h c_12
    refine r_aload_n C dX10_worked_48 (pc' := 49) rfl (j := 3) rfl ?_
    refine r_iconst C dX10_worked_49 (pc' := 50) rfl (v := 1) rfl ?_
    obtain ⟨M_13, e_14, h⟩ := bn_ h
    refine r_putIN C (Cn := RX2) (T := TX2) tyX2 0 k_a3 (by decide) vc_X2 in_X2 tyX2_ok nmX2 (by decide) (List.mem_of_getElem? (i := 48) rfl) rfl rfl dX10_worked_50 (pc' := 53) rfl rfl rfl M_13 e_14 ?_
    refine r_sub (lv' := [(0, .int x0), (1, .int x1), (2, .int x2)]) [0, 1, 2] rfl ?_
    exact B_X10_worked_53 C hE h
set_option maxHeartbeats 4000000 in
theorem S_J6_bitCount {D : DD} {l : Launch} {M : MM} {x0 : Int32} {Post : Int32 → MM → Prop} (h : wp_J6_bitCount M x0 Post) : mMet D l yJ6_bitCount cJ6_bitCount 1 ((some .int)) { frames := 0, cells := 0, slots := 0, locals := 0 } M [.int x0] (pI_ Post) := by
  refine m_of2 [(0, .int x0)] (by decide +kernel) (Nat.le_of_ble_eq_true rfl) rfl (fun E hED hEl C hE => ?_)
  subst hED
  subst hEl
  unfold wp_J6_bitCount at h
  refine r_iload_n C dJ6_bitCount_0 (pc' := 1) rfl (j := 0) rfl ?_
  refine r_iload_n C dJ6_bitCount_1 (pc' := 2) rfl (j := 0) rfl ?_
  refine r_iconst C dJ6_bitCount_2 (pc' := 3) rfl (v := 1) rfl ?_
  refine r_iushr C dJ6_bitCount_3 (pc' := 4) rfl rfl ?_
  refine r_ldcw C dJ6_bitCount_4 (pc' := 7) rfl q927 ?_
  refine r_iand C dJ6_bitCount_7 (pc' := 8) rfl ?_
  refine r_isub C dJ6_bitCount_8 (pc' := 9) rfl ?_
  obtain ⟨x0_1, e_2, h⟩ := bn_ h
  refine r_istore_n C (lv' := [(0, .int x0_1)]) dJ6_bitCount_9 (pc' := 10) rfl rfl x0_1 e_2 (Nat.le_of_ble_eq_true rfl) rfl ?_
  refine r_iload_n C dJ6_bitCount_10 (pc' := 11) rfl (j := 0) rfl ?_
  refine r_ldcw C dJ6_bitCount_11 (pc' := 14) rfl q928 ?_
  refine r_iand C dJ6_bitCount_14 (pc' := 15) rfl ?_
  refine r_iload_n C dJ6_bitCount_15 (pc' := 16) rfl (j := 0) rfl ?_
  refine r_iconst C dJ6_bitCount_16 (pc' := 17) rfl (v := 2) rfl ?_
  refine r_iushr C dJ6_bitCount_17 (pc' := 18) rfl rfl ?_
  refine r_ldcw C dJ6_bitCount_18 (pc' := 21) rfl q928 ?_
  refine r_iand C dJ6_bitCount_21 (pc' := 22) rfl ?_
  refine r_iadd C dJ6_bitCount_22 (pc' := 23) rfl ?_
  obtain ⟨x0_3, e_4, h⟩ := bn_ h
  refine r_istore_n C (lv' := [(0, .int x0_3)]) dJ6_bitCount_23 (pc' := 24) rfl rfl x0_3 e_4 (Nat.le_of_ble_eq_true rfl) rfl ?_
  refine r_iload_n C dJ6_bitCount_24 (pc' := 25) rfl (j := 0) rfl ?_
  refine r_iload_n C dJ6_bitCount_25 (pc' := 26) rfl (j := 0) rfl ?_
  refine r_iconst C dJ6_bitCount_26 (pc' := 27) rfl (v := 4) rfl ?_
  refine r_iushr C dJ6_bitCount_27 (pc' := 28) rfl rfl ?_
  refine r_iadd C dJ6_bitCount_28 (pc' := 29) rfl ?_
  refine r_ldcw C dJ6_bitCount_29 (pc' := 32) rfl q929 ?_
  refine r_iand C dJ6_bitCount_32 (pc' := 33) rfl ?_
  obtain ⟨x0_5, e_6, h⟩ := bn_ h
  refine r_istore_n C (lv' := [(0, .int x0_5)]) dJ6_bitCount_33 (pc' := 34) rfl rfl x0_5 e_6 (Nat.le_of_ble_eq_true rfl) rfl ?_
  refine r_iload_n C dJ6_bitCount_34 (pc' := 35) rfl (j := 0) rfl ?_
  refine r_iload_n C dJ6_bitCount_35 (pc' := 36) rfl (j := 0) rfl ?_
  refine r_bipush C dJ6_bitCount_36 (pc' := 38) rfl (v := 8) rfl ?_
  refine r_iushr C dJ6_bitCount_38 (pc' := 39) rfl rfl ?_
  refine r_iadd C dJ6_bitCount_39 (pc' := 40) rfl ?_
  obtain ⟨x0_7, e_8, h⟩ := bn_ h
  refine r_istore_n C (lv' := [(0, .int x0_7)]) dJ6_bitCount_40 (pc' := 41) rfl rfl x0_7 e_8 (Nat.le_of_ble_eq_true rfl) rfl ?_
  refine r_iload_n C dJ6_bitCount_41 (pc' := 42) rfl (j := 0) rfl ?_
  refine r_iload_n C dJ6_bitCount_42 (pc' := 43) rfl (j := 0) rfl ?_
  refine r_bipush C dJ6_bitCount_43 (pc' := 45) rfl (v := 16) rfl ?_
  refine r_iushr C dJ6_bitCount_45 (pc' := 46) rfl rfl ?_
  refine r_iadd C dJ6_bitCount_46 (pc' := 47) rfl ?_
  obtain ⟨x0_9, e_10, h⟩ := bn_ h
  refine r_istore_n C (lv' := [(0, .int x0_9)]) dJ6_bitCount_47 (pc' := 48) rfl rfl x0_9 e_10 (Nat.le_of_ble_eq_true rfl) rfl ?_
  refine r_iload_n C dJ6_bitCount_48 (pc' := 49) rfl (j := 0) rfl ?_
  refine r_bipush C dJ6_bitCount_49 (pc' := 51) rfl (v := 63) rfl ?_
  refine r_iand C dJ6_bitCount_51 (pc' := 52) rfl ?_
  exact r_iret C hE (Nat.le_of_ble_eq_true rfl) (Nat.le_of_ble_eq_true rfl) dJ6_bitCount_52 ⟨_, rfl, h⟩
theorem hd_X4_init : mHd yX4_init 0 := ⟨by decide, by decide, by decide +kernel⟩
theorem hd_X4_isDead : mHd yX4_isDead 0 := ⟨by decide, by decide, by decide +kernel⟩
theorem hd_X4_gets : mHd yX4_gets 1 := ⟨by decide, by decide, by decide +kernel⟩
theorem hd_X4_lives : mHd yX4_lives 0 := ⟨by decide, by decide, by decide +kernel⟩
theorem hd_X4_looked : mHd yX4_looked 1 := ⟨by decide, by decide, by decide +kernel⟩
theorem hd_X4_dayEnds : mHd yX4_dayEnds 1 := ⟨by decide, by decide, by decide +kernel⟩
theorem hd_X4_takes : mHd yX4_takes 1 := ⟨by decide, by decide, by decide +kernel⟩
theorem hd_X5_init : mHd yX5_init 0 := ⟨by decide, by decide, by decide +kernel⟩
theorem hd_X5_takes : mHd yX5_takes 1 := ⟨by decide, by decide, by decide +kernel⟩
set_option maxHeartbeats 4000000 in
theorem S_X4_init {D : DD} {l : Launch} {M : MM} {a0 : Nat} {Post : MM → Prop} (k_a0 : mkd M a0 = 4) (h : wp_X4_init M a0 Post) : mMet D l yX4_init cX4_init 1 (none) { frames := 1, cells := 1, slots := 7, locals := 12 } M [.ref a0] (pV_ Post) := by
  refine m_of2 [(0, .ref a0)] (by decide +kernel) (Nat.le_of_ble_eq_true rfl) rfl (fun E hED hEl C hE => ?_)
  subst hED
  subst hEl
  unfold wp_X4_init at h
  refine r_aload_n C dX4_init_0 (pc' := 1) rfl (j := 0) rfl ?_
  refine r_objInit C (a := a0) q206 q136 q137 (Nat.le_of_ble_eq_true rfl) (Nat.le_of_ble_eq_true rfl) dX4_init_1 (pc' := 4) rfl ?_
  refine r_aload_n C dX4_init_4 (pc' := 5) rfl (j := 0) rfl ?_
  refine r_bipush C dX4_init_5 (pc' := 7) rfl (v := 7) rfl ?_
  obtain ⟨b_3, e_4, h⟩ := bn_ h
  obtain ⟨M_5, e_6, h⟩ := bn_ h
  refine r_newI C 7 (by decide) (by decide) (by decide) q255 (Nat.le_of_ble_eq_true rfl) (Nat.le_of_ble_eq_true rfl) dX4_init_7 (pc' := 9) rfl b_3 e_4 M_5 e_6 (fun m_1 k_2 => ?_)
  obtain ⟨M_7, e_8, h⟩ := bn_ h
  refine r_putRF C (Cn := RX4) (T := TX4) (x := (some b_3)) tyX4 0 (mMo.kd m_1 k_a0 (by decide)) (by decide) vc_X4 in_X4 tyX4_ok nmX4 (by decide) q207 rfl rfl rfl rfl dX4_init_9 (pc' := 12) rfl (nA_ _) (fA_ _) M_7 e_8 ?_
  exact r_vret C hE (Nat.le_of_ble_eq_true rfl) (Nat.le_of_ble_eq_true rfl) dX4_init_12 ⟨rfl, h⟩
set_option maxHeartbeats 4000000 in
theorem S_X4_isDead {D : DD} {l : Launch} {M : MM} {a0 : Nat} {Post : Int32 → MM → Prop} (k_a0 : mkd M a0 = 4) (h : wp_X4_isDead M a0 Post) : mMet D l yX4_isDead cX4_isDead 1 ((some .boolean)) { frames := 0, cells := 0, slots := 0, locals := 0 } M [.ref a0] (pI_ Post) := by
  refine m_of2 [(0, .ref a0)] (by decide +kernel) (Nat.le_of_ble_eq_true rfl) rfl (fun E hED hEl C hE => ?_)
  subst hED
  subst hEl
  unfold wp_X4_isDead at h
  refine r_aload_n C dX4_isDead_0 (pc' := 1) rfl (j := 0) rfl ?_
  refine r_getf C (Cn := RX4) (T := TX4) 4 k_a0 (by decide) vc_X4 in_X4 (by decide) q217 dX4_isDead_1 (pc' := 4) rfl (v := .int (mgI M a0 4)) rfl ?_
  refine r_aload_n C dX4_isDead_4 (pc' := 5) rfl (j := 0) rfl ?_
  refine r_getf C (Cn := RX4) (T := TX4) 3 k_a0 (by decide) vc_X4 in_X4 (by decide) q215 dX4_isDead_5 (pc' := 8) rfl (v := .int (mgI M a0 3)) rfl ?_
  refine r_icmp_ge C dX4_isDead_8 (pc' := 11) rfl (tgt := 22) (by decide) (fun c_1 => ?_) (fun c_1 => ?_)
  · have h := it_t h c_1
    refine r_iconst C dX4_isDead_22 (pc' := 23) rfl (v := 1) rfl ?_
    refine r_goto C dX4_isDead_23 (tgt := 27) (by decide) ?_
    exact r_zret C hE (Or.inr rfl) (Nat.le_of_ble_eq_true rfl) (Nat.le_of_ble_eq_true rfl) dX4_isDead_27 ⟨_, rfl, h⟩
  · have h := it_f h c_1
    refine r_aload_n C dX4_isDead_11 (pc' := 12) rfl (j := 0) rfl ?_
    refine r_getf C (Cn := RX4) (T := TX4) 5 k_a0 (by decide) vc_X4 in_X4 (by decide) q220 dX4_isDead_12 (pc' := 15) rfl (v := .int (mgI M a0 5)) rfl ?_
    refine r_aload_n C dX4_isDead_15 (pc' := 16) rfl (j := 0) rfl ?_
    refine r_getf C (Cn := RX4) (T := TX4) 3 k_a0 (by decide) vc_X4 in_X4 (by decide) q215 dX4_isDead_16 (pc' := 19) rfl (v := .int (mgI M a0 3)) rfl ?_
    refine r_icmp_lt C dX4_isDead_19 (pc' := 22) rfl (tgt := 26) (by decide) (fun c_2 => ?_) (fun c_2 => ?_)
    · have h := it_t h c_2
      refine r_iconst C dX4_isDead_26 (pc' := 27) rfl (v := 0) rfl ?_
      exact r_zret C hE (Or.inl rfl) (Nat.le_of_ble_eq_true rfl) (Nat.le_of_ble_eq_true rfl) dX4_isDead_27 ⟨_, rfl, h⟩
    · have h := it_f h c_2
      refine r_iconst C dX4_isDead_22 (pc' := 23) rfl (v := 1) rfl ?_
      refine r_goto C dX4_isDead_23 (tgt := 27) (by decide) ?_
      exact r_zret C hE (Or.inr rfl) (Nat.le_of_ble_eq_true rfl) (Nat.le_of_ble_eq_true rfl) dX4_isDead_27 ⟨_, rfl, h⟩
set_option maxHeartbeats 4000000 in
theorem S_X4_gets {D : DD} {l : Launch} {M : MM} {a0 : Nat} {x1 : Int32} {Post : Int32 → MM → Prop} (k_a0 : mkd M a0 = 4) (h : wp_X4_gets M a0 x1 Post) : mMet D l yX4_gets cX4_gets 3 ((some .int)) { frames := 1, cells := 0, slots := 0, locals := 13 } M [.ref a0, .int x1] (pI_ Post) := by
  refine m_of2 [(0, .ref a0), (1, .int x1)] (by decide +kernel) (Nat.le_of_ble_eq_true rfl) rfl (fun E hED hEl C hE => ?_)
  subst hED
  subst hEl
  unfold wp_X4_gets at h
  refine r_iconst C dX4_gets_0 (pc' := 1) rfl (v := 0) rfl ?_
  refine r_aload_n C dX4_gets_1 (pc' := 2) rfl (j := 0) rfl ?_
  refine r_getf C (Cn := RX4) (T := TX4) 2 k_a0 (by decide) vc_X4 in_X4 (by decide) q212 dX4_gets_2 (pc' := 5) rfl (v := .int (mgI M a0 2)) rfl ?_
  refine r_iload_n C dX4_gets_5 (pc' := 6) rfl (j := 1) rfl ?_
  refine r_iadd C dX4_gets_6 (pc' := 7) rfl ?_
  refine r_aload_n C dX4_gets_7 (pc' := 8) rfl (j := 0) rfl ?_
  refine r_getf C (Cn := RX4) (T := TX4) 1 k_a0 (by decide) vc_X4 in_X4 (by decide) q209 dX4_gets_8 (pc' := 11) rfl (v := .int (mgI M a0 1)) rfl ?_
  refine r_isub C dX4_gets_11 (pc' := 12) rfl ?_
  refine r_mmax C q489 q490 q113 q491 (Nat.le_of_ble_eq_true rfl) (Nat.le_of_ble_eq_true rfl) (Nat.le_of_ble_eq_true rfl) (Nat.le_of_ble_eq_true rfl) dX4_gets_12 (pc' := 15) rfl ?_
  obtain ⟨x2_1, e_2, h⟩ := bn_ h
  refine r_istore_n C (lv' := [(2, .int x2_1), (0, .ref a0), (1, .int x1)]) dX4_gets_15 (pc' := 16) rfl rfl x2_1 e_2 (Nat.le_of_ble_eq_true rfl) rfl ?_
  refine r_aload_n C dX4_gets_16 (pc' := 17) rfl (j := 1) rfl ?_
  refine r_aload_n C dX4_gets_17 (pc' := 18) rfl (j := 1) rfl ?_
  refine r_getf C (Cn := RX4) (T := TX4) 2 k_a0 (by decide) vc_X4 in_X4 (by decide) q212 dX4_gets_18 (pc' := 21) rfl (v := .int (mgI M a0 2)) rfl ?_
  refine r_iload_n C dX4_gets_21 (pc' := 22) rfl (j := 2) rfl ?_
  refine r_iadd C dX4_gets_22 (pc' := 23) rfl ?_
  refine r_iload_n C dX4_gets_23 (pc' := 24) rfl (j := 0) rfl ?_
  refine r_isub C dX4_gets_24 (pc' := 25) rfl ?_
  obtain ⟨M_3, e_4, h⟩ := bn_ h
  refine r_putI C (Cn := RX4) (T := TX4) tyX4 2 k_a0 (by decide) vc_X4 in_X4 tyX4_ok nmX4 (by decide) q212 rfl rfl dX4_gets_25 (pc' := 28) rfl rfl rfl M_3 e_4 ?_
  refine r_iload_n C dX4_gets_28 (pc' := 29) rfl (j := 0) rfl ?_
  exact r_iret C hE (Nat.le_of_ble_eq_true rfl) (Nat.le_of_ble_eq_true rfl) dX4_gets_29 ⟨_, rfl, h⟩
set_option maxHeartbeats 4000000 in
theorem S_X4_lives {D : DD} {l : Launch} {M : MM} {a0 : Nat} {Post : Int32 → MM → Prop} (k_a0 : mkd M a0 = 4) (h : wp_X4_lives M a0 Post) : mMet D l yX4_lives cX4_lives 1 ((some .boolean)) { frames := 1, cells := 0, slots := 0, locals := 20 } M [.ref a0] (pI_ Post) := by
  refine m_of2 [(0, .ref a0)] (by decide +kernel) (Nat.le_of_ble_eq_true rfl) rfl (fun E hED hEl C hE => ?_)
  subst hED
  subst hEl
  unfold wp_X4_lives at h
  refine r_aload_n C dX4_lives_0 (pc' := 1) rfl (j := 0) rfl ?_
  refine r_getf C (Cn := RX4) (T := TX4) 8 k_a0 (by decide) vc_X4 in_X4 (by decide) q228 dX4_lives_1 (pc' := 4) rfl (v := .int (mgI M a0 8)) rfl ?_
  refine r_if_eq C dX4_lives_4 (pc' := 7) rfl (tgt := 18) (by decide) (fun c_1 => ?_) (fun c_1 => ?_)
  · have h := it_t h c_1
    refine r_iconst C dX4_lives_18 (pc' := 19) rfl (v := 0) rfl ?_
    exact r_zret C hE (Or.inl rfl) (Nat.le_of_ble_eq_true rfl) (Nat.le_of_ble_eq_true rfl) dX4_lives_19 ⟨_, rfl, h⟩
  · have h := it_f h c_1
    refine r_aload_n C dX4_lives_7 (pc' := 8) rfl (j := 0) rfl ?_
    refine r_callVi (As := []) (rest := []) (Cn := RX4) (T := TX4) C k_a0 (by decide) vc_X4 (S_X4_isDead k_a0 h) (lw_V q796 q482 q483 q109 q484) rfl hd_X4_isDead rfl rfl (Nat.le_of_ble_eq_true rfl) (Nat.le_of_ble_eq_true rfl) (Nat.le_of_ble_eq_true rfl) rfl rfl (Nat.le_of_ble_eq_true rfl) (Nat.le_of_ble_eq_true rfl) dX4_lives_8 (pc' := 11) rfl (fun r_3 M_2 h m_4 => ?_)
    refine r_if_ne C dX4_lives_11 (pc' := 14) rfl (tgt := 18) (by decide) (fun c_5 => ?_) (fun c_5 => ?_)
    · have h := it_f h c_5
      refine r_iconst C dX4_lives_18 (pc' := 19) rfl (v := 0) rfl ?_
      exact r_zret C hE (Or.inl rfl) (Nat.le_of_ble_eq_true rfl) (Nat.le_of_ble_eq_true rfl) dX4_lives_19 ⟨_, rfl, h⟩
    · have h := it_t h c_5
      refine r_iconst C dX4_lives_14 (pc' := 15) rfl (v := 1) rfl ?_
      refine r_goto C dX4_lives_15 (tgt := 19) (by decide) ?_
      exact r_zret C hE (Or.inr rfl) (Nat.le_of_ble_eq_true rfl) (Nat.le_of_ble_eq_true rfl) dX4_lives_19 ⟨_, rfl, h⟩
set_option maxHeartbeats 4000000 in
theorem S_X4_looked {D : DD} {l : Launch} {M : MM} {a0 : Nat} {x1 : Int32} {Post : Int32 → MM → Prop} (k_a0 : mkd M a0 = 4) (h : wp_X4_looked M a0 x1 Post) : mMet D l yX4_looked cX4_looked 2 ((some .int)) { frames := 0, cells := 0, slots := 0, locals := 0 } M [.ref a0, .int x1] (pI_ Post) := by
  refine m_of2 [(0, .ref a0), (1, .int x1)] (by decide +kernel) (Nat.le_of_ble_eq_true rfl) rfl (fun E hED hEl C hE => ?_)
  subst hED
  subst hEl
  unfold wp_X4_looked at h
  refine r_aload_n C dX4_looked_0 (pc' := 1) rfl (j := 0) rfl ?_
  refine r_getf C (Cn := RX4) (T := TX4) 0 k_a0 (by decide) vc_X4 in_X4 (by decide) q207 dX4_looked_1 (pc' := 4) rfl (v := va_rf (mgR M a0 0)) rfl ?_
  obtain ⟨b_1, e_2, k_3, h⟩ := h
  refine r_ref [] e_2 ?_
  refine r_aload_n C dX4_looked_4 (pc' := 5) rfl (j := 0) rfl ?_
  refine r_getf C (Cn := RX4) (T := TX4) 6 k_a0 (by decide) vc_X4 in_X4 (by decide) q223 dX4_looked_5 (pc' := 8) rfl (v := .int (mgI M a0 6)) rfl ?_
  refine r_bipush C dX4_looked_8 (pc' := 10) rfl (v := 7) rfl ?_
  refine r_iadd C dX4_looked_10 (pc' := 11) rfl ?_
  refine r_iconst C dX4_looked_11 (pc' := 12) rfl (v := 1) rfl ?_
  refine r_isub C dX4_looked_12 (pc' := 13) rfl ?_
  refine r_iload_n C dX4_looked_13 (pc' := 14) rfl (j := 1) rfl ?_
  refine r_isub C dX4_looked_14 (pc' := 15) rfl ?_
  refine r_bipush C dX4_looked_15 (pc' := 17) rfl (v := 7) rfl ?_
  refine r_irem C dX4_looked_17 (pc' := 18) rfl (by decide) ?_
  obtain ⟨c_4, h⟩ := h
  refine r_iald C (j := (ix_ (rm_ ((((mgI M a0 6) + (7 : Int32)) - (1 : Int32)) - x1) (7 : Int32)))) k_3 c_4 rfl dX4_looked_18 (pc' := 19) rfl ?_
  exact r_iret C hE (Nat.le_of_ble_eq_true rfl) (Nat.le_of_ble_eq_true rfl) dX4_looked_19 ⟨_, rfl, h⟩
set_option maxHeartbeats 4000000 in
theorem B_X4_dayEnds_57 {E : mE} {M : MM} {a0 : Nat} {as0 : Nat} {xs1 : Int32} {Post : MM → Prop} (C : mC E yX4_dayEnds cX4_dayEnds 2 (none) { frames := 1, cells := 0, slots := 0, locals := 14 }) (hE : mEnd E { frames := 1, cells := 0, slots := 0, locals := 14 } (pV_ Post)) (k_a0 : mkd M a0 = 4) (k_as0 : mkd M as0 = 4) (h : wb_X4_dayEnds_57 M a0 as0 xs1 Post) : mV E M 0 0 57 [(0, .ref a0)] [.int xs1, .ref as0] := by
  unfold wb_X4_dayEnds_57 at h
  obtain ⟨M_7, e_8, h⟩ := bn_ h
  refine r_putI C (Cn := RX4) (T := TX4) tyX4 5 k_as0 (by decide) vc_X4 in_X4 tyX4_ok nmX4 (by decide) q220 rfl rfl dX4_dayEnds_57 (pc' := 60) rfl rfl rfl M_7 e_8 ?_
  refine r_aload_n C dX4_dayEnds_60 (pc' := 61) rfl (j := 0) rfl ?_
  refine r_getf C (Cn := RX4) (T := TX4) 0 (mMo.kd (mo_I e_8) k_a0 (by decide)) (by decide) vc_X4 in_X4 (by decide) q207 dX4_dayEnds_61 (pc' := 64) rfl (v := va_rf (mgR M_7 a0 0)) rfl ?_
  obtain ⟨b_9, e_10, k_11, h⟩ := h
  refine r_ref [] e_10 ?_
  refine r_aload_n C dX4_dayEnds_64 (pc' := 65) rfl (j := 0) rfl ?_
  refine r_getf C (Cn := RX4) (T := TX4) 6 (mMo.kd (mo_I e_8) k_a0 (by decide)) (by decide) vc_X4 in_X4 (by decide) q223 dX4_dayEnds_65 (pc' := 68) rfl (v := .int (mgI M_7 a0 6)) rfl ?_
  refine r_aload_n C dX4_dayEnds_68 (pc' := 69) rfl (j := 0) rfl ?_
  refine r_getf C (Cn := RX4) (T := TX4) 2 (mMo.kd (mo_I e_8) k_a0 (by decide)) (by decide) vc_X4 in_X4 (by decide) q212 dX4_dayEnds_69 (pc' := 72) rfl (v := .int (mgI M_7 a0 2)) rfl ?_
  obtain ⟨c_12, h⟩ := h
  obtain ⟨M_13, e_14, h⟩ := bn_ h
  refine r_iast C (j := (ix_ (mgI M_7 a0 6))) k_11 c_12 rfl dX4_dayEnds_72 (pc' := 73) rfl M_13 e_14 ?_
  refine r_aload_n C dX4_dayEnds_73 (pc' := 74) rfl (j := 0) rfl ?_
  refine r_aload_n C dX4_dayEnds_74 (pc' := 75) rfl (j := 0) rfl ?_
  refine r_getf C (Cn := RX4) (T := TX4) 6 (mMo.kd (mo_I e_14) (mMo.kd (mo_I e_8) k_a0 (by decide)) (by decide)) (by decide) vc_X4 in_X4 (by decide) q223 dX4_dayEnds_75 (pc' := 78) rfl (v := .int (mgI M_13 a0 6)) rfl ?_
  refine r_iconst C dX4_dayEnds_78 (pc' := 79) rfl (v := 1) rfl ?_
  refine r_iadd C dX4_dayEnds_79 (pc' := 80) rfl ?_
  refine r_bipush C dX4_dayEnds_80 (pc' := 82) rfl (v := 7) rfl ?_
  refine r_irem C dX4_dayEnds_82 (pc' := 83) rfl (by decide) ?_
  obtain ⟨M_15, e_16, h⟩ := bn_ h
  refine r_putI C (Cn := RX4) (T := TX4) tyX4 6 (mMo.kd (mo_I e_14) (mMo.kd (mo_I e_8) k_a0 (by decide)) (by decide)) (by decide) vc_X4 in_X4 tyX4_ok nmX4 (by decide) q223 rfl rfl dX4_dayEnds_83 (pc' := 86) rfl rfl rfl M_15 e_16 ?_
  exact r_vret C hE (Nat.le_of_ble_eq_true rfl) (Nat.le_of_ble_eq_true rfl) dX4_dayEnds_86 ⟨rfl, h⟩
set_option maxHeartbeats 4000000 in
theorem B_X4_dayEnds_32 {E : mE} {M : MM} {a0 : Nat} {as0 : Nat} {xs1 : Int32} {Post : MM → Prop} (C : mC E yX4_dayEnds cX4_dayEnds 2 (none) { frames := 1, cells := 0, slots := 0, locals := 14 }) (hE : mEnd E { frames := 1, cells := 0, slots := 0, locals := 14 } (pV_ Post)) (k_a0 : mkd M a0 = 4) (k_as0 : mkd M as0 = 4) (h : wb_X4_dayEnds_32 M a0 as0 xs1 Post) : mV E M 0 0 32 [(0, .ref a0)] [.int xs1, .ref as0] := by
  unfold wb_X4_dayEnds_32 at h
  obtain ⟨M_4, e_5, h⟩ := bn_ h
  refine r_putI C (Cn := RX4) (T := TX4) tyX4 4 k_as0 (by decide) vc_X4 in_X4 tyX4_ok nmX4 (by decide) q217 rfl rfl dX4_dayEnds_32 (pc' := 35) rfl rfl rfl M_4 e_5 ?_
  refine r_aload_n C dX4_dayEnds_35 (pc' := 36) rfl (j := 0) rfl ?_
  refine r_aload_n C dX4_dayEnds_36 (pc' := 37) rfl (j := 0) rfl ?_
  refine r_getf C (Cn := RX4) (T := TX4) 2 (mMo.kd (mo_I e_5) k_a0 (by decide)) (by decide) vc_X4 in_X4 (by decide) q212 dX4_dayEnds_37 (pc' := 40) rfl (v := .int (mgI M_4 a0 2)) rfl ?_
  refine r_aload_n C dX4_dayEnds_40 (pc' := 41) rfl (j := 0) rfl ?_
  refine r_getf C (Cn := RX4) (T := TX4) 1 (mMo.kd (mo_I e_5) k_a0 (by decide)) (by decide) vc_X4 in_X4 (by decide) q209 dX4_dayEnds_41 (pc' := 44) rfl (v := .int (mgI M_4 a0 1)) rfl ?_
  refine r_icmp_ne C dX4_dayEnds_44 (pc' := 47) rfl (tgt := 56) (by decide) (fun c_6 => ?_) (fun c_6 => ?_)
  · have h := it_f h c_6
    refine r_iconst C dX4_dayEnds_56 (pc' := 57) rfl (v := 0) rfl ?_
    refine r_sub (lv' := [(0, .ref a0)]) [0] rfl ?_
    exact B_X4_dayEnds_57 C hE (mMo.kd (mo_I e_5) k_a0 (by decide)) (mMo.kd (mo_I e_5) k_a0 (by decide)) h
  · have h := it_t h c_6
    refine r_aload_n C dX4_dayEnds_47 (pc' := 48) rfl (j := 0) rfl ?_
    refine r_getf C (Cn := RX4) (T := TX4) 5 (mMo.kd (mo_I e_5) k_a0 (by decide)) (by decide) vc_X4 in_X4 (by decide) q220 dX4_dayEnds_48 (pc' := 51) rfl (v := .int (mgI M_4 a0 5)) rfl ?_
    refine r_iconst C dX4_dayEnds_51 (pc' := 52) rfl (v := 1) rfl ?_
    refine r_iadd C dX4_dayEnds_52 (pc' := 53) rfl ?_
    refine r_goto C dX4_dayEnds_53 (tgt := 57) (by decide) ?_
    refine r_sub (lv' := [(0, .ref a0)]) [0] rfl ?_
    exact B_X4_dayEnds_57 C hE (mMo.kd (mo_I e_5) k_a0 (by decide)) (mMo.kd (mo_I e_5) k_a0 (by decide)) h
set_option maxHeartbeats 4000000 in
theorem S_X4_dayEnds {D : DD} {l : Launch} {M : MM} {a0 : Nat} {x1 : Int32} {Post : MM → Prop} (k_a0 : mkd M a0 = 4) (h : wp_X4_dayEnds M a0 x1 Post) : mMet D l yX4_dayEnds cX4_dayEnds 2 (none) { frames := 1, cells := 0, slots := 0, locals := 14 } M [.ref a0, .int x1] (pV_ Post) := by
  refine m_of2 [(0, .ref a0), (1, .int x1)] (by decide +kernel) (Nat.le_of_ble_eq_true rfl) rfl (fun E hED hEl C hE => ?_)
  subst hED
  subst hEl
  unfold wp_X4_dayEnds at h
  refine r_aload_n C dX4_dayEnds_0 (pc' := 1) rfl (j := 0) rfl ?_
  refine r_iconst C dX4_dayEnds_1 (pc' := 2) rfl (v := 0) rfl ?_
  refine r_aload_n C dX4_dayEnds_2 (pc' := 3) rfl (j := 0) rfl ?_
  refine r_getf C (Cn := RX4) (T := TX4) 2 k_a0 (by decide) vc_X4 in_X4 (by decide) q212 dX4_dayEnds_3 (pc' := 6) rfl (v := .int (mgI M a0 2)) rfl ?_
  refine r_iload_n C dX4_dayEnds_6 (pc' := 7) rfl (j := 1) rfl ?_
  refine r_isub C dX4_dayEnds_7 (pc' := 8) rfl ?_
  refine r_mmax C q489 q490 q113 q491 (Nat.le_of_ble_eq_true rfl) (Nat.le_of_ble_eq_true rfl) (Nat.le_of_ble_eq_true rfl) (Nat.le_of_ble_eq_true rfl) dX4_dayEnds_8 (pc' := 11) rfl ?_
  obtain ⟨M_1, e_2, h⟩ := bn_ h
  refine r_putI C (Cn := RX4) (T := TX4) tyX4 2 k_a0 (by decide) vc_X4 in_X4 tyX4_ok nmX4 (by decide) q212 rfl rfl dX4_dayEnds_11 (pc' := 14) rfl rfl rfl M_1 e_2 ?_
  refine r_aload_n C dX4_dayEnds_14 (pc' := 15) rfl (j := 0) rfl ?_
  refine r_aload_n C dX4_dayEnds_15 (pc' := 16) rfl (j := 0) rfl ?_
  refine r_getf C (Cn := RX4) (T := TX4) 2 (mMo.kd (mo_I e_2) k_a0 (by decide)) (by decide) vc_X4 in_X4 (by decide) q212 dX4_dayEnds_16 (pc' := 19) rfl (v := .int (mgI M_1 a0 2)) rfl ?_
  refine r_if_ne C dX4_dayEnds_19 (pc' := 22) rfl (tgt := 31) (by decide) (fun c_3 => ?_) (fun c_3 => ?_)
  · have h := it_f h c_3
    refine r_iconst C dX4_dayEnds_31 (pc' := 32) rfl (v := 0) rfl ?_
    refine r_sub (lv' := [(0, .ref a0)]) [0] rfl ?_
    exact B_X4_dayEnds_32 C hE (mMo.kd (mo_I e_2) k_a0 (by decide)) (mMo.kd (mo_I e_2) k_a0 (by decide)) h
  · have h := it_t h c_3
    refine r_aload_n C dX4_dayEnds_22 (pc' := 23) rfl (j := 0) rfl ?_
    refine r_getf C (Cn := RX4) (T := TX4) 4 (mMo.kd (mo_I e_2) k_a0 (by decide)) (by decide) vc_X4 in_X4 (by decide) q217 dX4_dayEnds_23 (pc' := 26) rfl (v := .int (mgI M_1 a0 4)) rfl ?_
    refine r_iconst C dX4_dayEnds_26 (pc' := 27) rfl (v := 1) rfl ?_
    refine r_iadd C dX4_dayEnds_27 (pc' := 28) rfl ?_
    refine r_goto C dX4_dayEnds_28 (tgt := 32) (by decide) ?_
    refine r_sub (lv' := [(0, .ref a0)]) [0] rfl ?_
    exact B_X4_dayEnds_32 C hE (mMo.kd (mo_I e_2) k_a0 (by decide)) (mMo.kd (mo_I e_2) k_a0 (by decide)) h
set_option maxHeartbeats 4000000 in
theorem B_X4_takes_2 {E : mE} {a0 : Nat} {a1 : Nat} {X26 : MM → Prop} {Post : MM → Prop} (C : mC E yX4_takes cX4_takes 3 (none) { frames := 0, cells := 0, slots := 0, locals := 0 }) (hE : mEnd E { frames := 0, cells := 0, slots := 0, locals := 0 } (pV_ Post)) : ∀ (n_ : Nat) (M : MM) (x2 : Int32), mkd M a0 = 4 → mkd M a1 = 4 → wl_X4_takes_2 a0 a1 X26 n_ M x2 → (∀ (M' : MM), mMo M M' → X26 M' → mV E M' 0 0 26 [(0, .ref a0), (1, .ref a1)] []) → mV E M 0 0 2 [(0, .ref a0), (1, .ref a1), (2, .int x2)] [] := by
  intro n_
  induction n_ with
  | zero =>
    intro M x2 k_a0 k_a1 h hX26
    exact absurd h (by rw [wl_X4_takes_2]; exact fun q => q)
  | succ n_ ih =>
    intro M x2 k_a0 k_a1 h hX26
    rw [wl_X4_takes_2] at h
    refine r_iload_n C dX4_takes_2 (pc' := 3) rfl (j := 2) rfl ?_
    refine r_bipush C dX4_takes_3 (pc' := 5) rfl (v := 7) rfl ?_
    refine r_icmp_ge C dX4_takes_5 (pc' := 8) rfl (tgt := 26) (by decide) (fun c_1 => ?_) (fun c_1 => ?_)
    · have h := it_t h c_1
      refine r_sub (lv' := [(0, .ref a0), (1, .ref a1)]) [0, 1] rfl ?_
      exact hX26 M mMo.rf h
    · have h := it_f h c_1
      refine r_aload_n C dX4_takes_8 (pc' := 9) rfl (j := 0) rfl ?_
      refine r_getf C (Cn := RX4) (T := TX4) 0 k_a0 (by decide) vc_X4 in_X4 (by decide) q207 dX4_takes_9 (pc' := 12) rfl (v := va_rf (mgR M a0 0)) rfl ?_
      obtain ⟨b_2, e_3, k_4, h⟩ := h
      refine r_ref [] e_3 ?_
      refine r_iload_n C dX4_takes_12 (pc' := 13) rfl (j := 2) rfl ?_
      refine r_aload_n C dX4_takes_13 (pc' := 14) rfl (j := 1) rfl ?_
      refine r_getf C (Cn := RX4) (T := TX4) 0 k_a1 (by decide) vc_X4 in_X4 (by decide) q207 dX4_takes_14 (pc' := 17) rfl (v := va_rf (mgR M a1 0)) rfl ?_
      obtain ⟨b_5, e_6, k_7, h⟩ := h
      refine r_ref [] e_6 ?_
      refine r_iload_n C dX4_takes_17 (pc' := 18) rfl (j := 2) rfl ?_
      obtain ⟨c_8, h⟩ := h
      refine r_iald C (j := (ix_ x2)) k_7 c_8 rfl dX4_takes_18 (pc' := 19) rfl ?_
      obtain ⟨c_9, h⟩ := h
      obtain ⟨M_10, e_11, h⟩ := bn_ h
      refine r_iast C (j := (ix_ x2)) k_4 c_9 rfl dX4_takes_19 (pc' := 20) rfl M_10 e_11 ?_
      obtain ⟨x2_12, e_13, h⟩ := bn_ h
      refine r_iinc C (lv' := [(2, .int x2_12), (0, .ref a0), (1, .ref a1)]) dX4_takes_20 (pc' := 23) rfl (j := 2) rfl x2_12 (by rw [e_13]; rfl) (Nat.le_of_ble_eq_true rfl) rfl ?_
      refine r_goto C dX4_takes_23 (tgt := 2) (by decide) ?_
      refine r_sub (lv' := [(0, .ref a0), (1, .ref a1), (2, .int x2_12)]) [1, 2, 0] rfl ?_
      exact ih M_10 x2_12 (mMo.kd (mo_I e_11) k_a0 (by decide)) (mMo.kd (mo_I e_11) k_a1 (by decide)) h (fun M9 hm9 h9 => hX26 M9 (mMo.tr (mo_I e_11) hm9) h9)
set_option maxHeartbeats 4000000 in
theorem S_X4_takes {D : DD} {l : Launch} {M : MM} {a0 : Nat} {a1 : Nat} {Post : MM → Prop} (k_a0 : mkd M a0 = 4) (k_a1 : mkd M a1 = 4) (h : wp_X4_takes M a0 a1 Post) : mMet D l yX4_takes cX4_takes 3 (none) { frames := 0, cells := 0, slots := 0, locals := 0 } M [.ref a0, .ref a1] (pV_ Post) := by
  refine m_of2 [(0, .ref a0), (1, .ref a1)] (by decide +kernel) (Nat.le_of_ble_eq_true rfl) rfl (fun E hED hEl C hE => ?_)
  subst hED
  subst hEl
  unfold wp_X4_takes at h
  refine r_iconst C dX4_takes_0 (pc' := 1) rfl (v := 0) rfl ?_
  refine r_istore_n C (lv' := [(2, .int (0 : Int32)), (0, .ref a0), (1, .ref a1)]) dX4_takes_1 (pc' := 2) rfl rfl (0 : Int32) rfl (Nat.le_of_ble_eq_true rfl) rfl ?_
  obtain ⟨n_14, h⟩ := h
  refine r_sub (lv' := [(0, .ref a0), (1, .ref a1), (2, .int (0 : Int32))]) [1, 2, 0] rfl ?_
  refine B_X4_takes_2 C hE n_14 M (0 : Int32) k_a0 k_a1 h (fun M_15 m_16 h => ?_)
  refine r_aload_n C dX4_takes_26 (pc' := 27) rfl (j := 0) rfl ?_
  refine r_aload_n C dX4_takes_27 (pc' := 28) rfl (j := 1) rfl ?_
  refine r_getf C (Cn := RX4) (T := TX4) 1 (mMo.kd m_16 k_a1 (by decide)) (by decide) vc_X4 in_X4 (by decide) q209 dX4_takes_28 (pc' := 31) rfl (v := .int (mgI M_15 a1 1)) rfl ?_
  obtain ⟨M_17, e_18, h⟩ := bn_ h
  refine r_putI C (Cn := RX4) (T := TX4) tyX4 1 (mMo.kd m_16 k_a0 (by decide)) (by decide) vc_X4 in_X4 tyX4_ok nmX4 (by decide) q209 rfl rfl dX4_takes_31 (pc' := 34) rfl rfl rfl M_17 e_18 ?_
  refine r_aload_n C dX4_takes_34 (pc' := 35) rfl (j := 0) rfl ?_
  refine r_aload_n C dX4_takes_35 (pc' := 36) rfl (j := 1) rfl ?_
  refine r_getf C (Cn := RX4) (T := TX4) 2 (mMo.kd (mo_I e_18) (mMo.kd m_16 k_a1 (by decide)) (by decide)) (by decide) vc_X4 in_X4 (by decide) q212 dX4_takes_36 (pc' := 39) rfl (v := .int (mgI M_17 a1 2)) rfl ?_
  obtain ⟨M_19, e_20, h⟩ := bn_ h
  refine r_putI C (Cn := RX4) (T := TX4) tyX4 2 (mMo.kd (mo_I e_18) (mMo.kd m_16 k_a0 (by decide)) (by decide)) (by decide) vc_X4 in_X4 tyX4_ok nmX4 (by decide) q212 rfl rfl dX4_takes_39 (pc' := 42) rfl rfl rfl M_19 e_20 ?_
  refine r_aload_n C dX4_takes_42 (pc' := 43) rfl (j := 0) rfl ?_
  refine r_aload_n C dX4_takes_43 (pc' := 44) rfl (j := 1) rfl ?_
  refine r_getf C (Cn := RX4) (T := TX4) 3 (mMo.kd (mo_I e_20) (mMo.kd (mo_I e_18) (mMo.kd m_16 k_a1 (by decide)) (by decide)) (by decide)) (by decide) vc_X4 in_X4 (by decide) q215 dX4_takes_44 (pc' := 47) rfl (v := .int (mgI M_19 a1 3)) rfl ?_
  obtain ⟨M_21, e_22, h⟩ := bn_ h
  refine r_putI C (Cn := RX4) (T := TX4) tyX4 3 (mMo.kd (mo_I e_20) (mMo.kd (mo_I e_18) (mMo.kd m_16 k_a0 (by decide)) (by decide)) (by decide)) (by decide) vc_X4 in_X4 tyX4_ok nmX4 (by decide) q215 rfl rfl dX4_takes_47 (pc' := 50) rfl rfl rfl M_21 e_22 ?_
  refine r_aload_n C dX4_takes_50 (pc' := 51) rfl (j := 0) rfl ?_
  refine r_aload_n C dX4_takes_51 (pc' := 52) rfl (j := 1) rfl ?_
  refine r_getf C (Cn := RX4) (T := TX4) 4 (mMo.kd (mo_I e_22) (mMo.kd (mo_I e_20) (mMo.kd (mo_I e_18) (mMo.kd m_16 k_a1 (by decide)) (by decide)) (by decide)) (by decide)) (by decide) vc_X4 in_X4 (by decide) q217 dX4_takes_52 (pc' := 55) rfl (v := .int (mgI M_21 a1 4)) rfl ?_
  obtain ⟨M_23, e_24, h⟩ := bn_ h
  refine r_putI C (Cn := RX4) (T := TX4) tyX4 4 (mMo.kd (mo_I e_22) (mMo.kd (mo_I e_20) (mMo.kd (mo_I e_18) (mMo.kd m_16 k_a0 (by decide)) (by decide)) (by decide)) (by decide)) (by decide) vc_X4 in_X4 tyX4_ok nmX4 (by decide) q217 rfl rfl dX4_takes_55 (pc' := 58) rfl rfl rfl M_23 e_24 ?_
  refine r_aload_n C dX4_takes_58 (pc' := 59) rfl (j := 0) rfl ?_
  refine r_aload_n C dX4_takes_59 (pc' := 60) rfl (j := 1) rfl ?_
  refine r_getf C (Cn := RX4) (T := TX4) 5 (mMo.kd (mo_I e_24) (mMo.kd (mo_I e_22) (mMo.kd (mo_I e_20) (mMo.kd (mo_I e_18) (mMo.kd m_16 k_a1 (by decide)) (by decide)) (by decide)) (by decide)) (by decide)) (by decide) vc_X4 in_X4 (by decide) q220 dX4_takes_60 (pc' := 63) rfl (v := .int (mgI M_23 a1 5)) rfl ?_
  obtain ⟨M_25, e_26, h⟩ := bn_ h
  refine r_putI C (Cn := RX4) (T := TX4) tyX4 5 (mMo.kd (mo_I e_24) (mMo.kd (mo_I e_22) (mMo.kd (mo_I e_20) (mMo.kd (mo_I e_18) (mMo.kd m_16 k_a0 (by decide)) (by decide)) (by decide)) (by decide)) (by decide)) (by decide) vc_X4 in_X4 tyX4_ok nmX4 (by decide) q220 rfl rfl dX4_takes_63 (pc' := 66) rfl rfl rfl M_25 e_26 ?_
  refine r_aload_n C dX4_takes_66 (pc' := 67) rfl (j := 0) rfl ?_
  refine r_aload_n C dX4_takes_67 (pc' := 68) rfl (j := 1) rfl ?_
  refine r_getf C (Cn := RX4) (T := TX4) 6 (mMo.kd (mo_I e_26) (mMo.kd (mo_I e_24) (mMo.kd (mo_I e_22) (mMo.kd (mo_I e_20) (mMo.kd (mo_I e_18) (mMo.kd m_16 k_a1 (by decide)) (by decide)) (by decide)) (by decide)) (by decide)) (by decide)) (by decide) vc_X4 in_X4 (by decide) q223 dX4_takes_68 (pc' := 71) rfl (v := .int (mgI M_25 a1 6)) rfl ?_
  obtain ⟨M_27, e_28, h⟩ := bn_ h
  refine r_putI C (Cn := RX4) (T := TX4) tyX4 6 (mMo.kd (mo_I e_26) (mMo.kd (mo_I e_24) (mMo.kd (mo_I e_22) (mMo.kd (mo_I e_20) (mMo.kd (mo_I e_18) (mMo.kd m_16 k_a0 (by decide)) (by decide)) (by decide)) (by decide)) (by decide)) (by decide)) (by decide) vc_X4 in_X4 tyX4_ok nmX4 (by decide) q223 rfl rfl dX4_takes_71 (pc' := 74) rfl rfl rfl M_27 e_28 ?_
  refine r_aload_n C dX4_takes_74 (pc' := 75) rfl (j := 0) rfl ?_
  refine r_aload_n C dX4_takes_75 (pc' := 76) rfl (j := 1) rfl ?_
  refine r_getf C (Cn := RX4) (T := TX4) 7 (mMo.kd (mo_I e_28) (mMo.kd (mo_I e_26) (mMo.kd (mo_I e_24) (mMo.kd (mo_I e_22) (mMo.kd (mo_I e_20) (mMo.kd (mo_I e_18) (mMo.kd m_16 k_a1 (by decide)) (by decide)) (by decide)) (by decide)) (by decide)) (by decide)) (by decide)) (by decide) vc_X4 in_X4 (by decide) q225 dX4_takes_76 (pc' := 79) rfl (v := .int (mgI M_27 a1 7)) rfl ?_
  obtain ⟨M_29, e_30, h⟩ := bn_ h
  refine r_putI C (Cn := RX4) (T := TX4) tyX4 7 (mMo.kd (mo_I e_28) (mMo.kd (mo_I e_26) (mMo.kd (mo_I e_24) (mMo.kd (mo_I e_22) (mMo.kd (mo_I e_20) (mMo.kd (mo_I e_18) (mMo.kd m_16 k_a0 (by decide)) (by decide)) (by decide)) (by decide)) (by decide)) (by decide)) (by decide)) (by decide) vc_X4 in_X4 tyX4_ok nmX4 (by decide) q225 rfl rfl dX4_takes_79 (pc' := 82) rfl rfl rfl M_29 e_30 ?_
  refine r_aload_n C dX4_takes_82 (pc' := 83) rfl (j := 0) rfl ?_
  refine r_aload_n C dX4_takes_83 (pc' := 84) rfl (j := 1) rfl ?_
  refine r_getf C (Cn := RX4) (T := TX4) 8 (mMo.kd (mo_I e_30) (mMo.kd (mo_I e_28) (mMo.kd (mo_I e_26) (mMo.kd (mo_I e_24) (mMo.kd (mo_I e_22) (mMo.kd (mo_I e_20) (mMo.kd (mo_I e_18) (mMo.kd m_16 k_a1 (by decide)) (by decide)) (by decide)) (by decide)) (by decide)) (by decide)) (by decide)) (by decide)) (by decide) vc_X4 in_X4 (by decide) q228 dX4_takes_84 (pc' := 87) rfl (v := .int (mgI M_29 a1 8)) rfl ?_
  obtain ⟨c_31, h⟩ := h
  obtain ⟨M_32, e_33, h⟩ := bn_ h
  refine r_putI C (Cn := RX4) (T := TX4) tyX4 8 (mMo.kd (mo_I e_30) (mMo.kd (mo_I e_28) (mMo.kd (mo_I e_26) (mMo.kd (mo_I e_24) (mMo.kd (mo_I e_22) (mMo.kd (mo_I e_20) (mMo.kd (mo_I e_18) (mMo.kd m_16 k_a0 (by decide)) (by decide)) (by decide)) (by decide)) (by decide)) (by decide)) (by decide)) (by decide)) (by decide) vc_X4 in_X4 tyX4_ok nmX4 (by decide) q228 rfl rfl dX4_takes_87 (pc' := 90) rfl (nB_ c_31) (fB_ c_31) M_32 e_33 ?_
  refine r_aload_n C dX4_takes_90 (pc' := 91) rfl (j := 0) rfl ?_
  refine r_aload_n C dX4_takes_91 (pc' := 92) rfl (j := 1) rfl ?_
  refine r_getf C (Cn := RX4) (T := TX4) 9 (mMo.kd (mo_I e_33) (mMo.kd (mo_I e_30) (mMo.kd (mo_I e_28) (mMo.kd (mo_I e_26) (mMo.kd (mo_I e_24) (mMo.kd (mo_I e_22) (mMo.kd (mo_I e_20) (mMo.kd (mo_I e_18) (mMo.kd m_16 k_a1 (by decide)) (by decide)) (by decide)) (by decide)) (by decide)) (by decide)) (by decide)) (by decide)) (by decide)) (by decide) vc_X4 in_X4 (by decide) q231 dX4_takes_92 (pc' := 95) rfl (v := .int (mgI M_32 a1 9)) rfl ?_
  obtain ⟨c_34, h⟩ := h
  obtain ⟨M_35, e_36, h⟩ := bn_ h
  refine r_putI C (Cn := RX4) (T := TX4) tyX4 9 (mMo.kd (mo_I e_33) (mMo.kd (mo_I e_30) (mMo.kd (mo_I e_28) (mMo.kd (mo_I e_26) (mMo.kd (mo_I e_24) (mMo.kd (mo_I e_22) (mMo.kd (mo_I e_20) (mMo.kd (mo_I e_18) (mMo.kd m_16 k_a0 (by decide)) (by decide)) (by decide)) (by decide)) (by decide)) (by decide)) (by decide)) (by decide)) (by decide)) (by decide) vc_X4 in_X4 tyX4_ok nmX4 (by decide) q231 rfl rfl dX4_takes_95 (pc' := 98) rfl (nB_ c_34) (fB_ c_34) M_35 e_36 ?_
  exact r_vret C hE (Nat.le_of_ble_eq_true rfl) (Nat.le_of_ble_eq_true rfl) dX4_takes_98 ⟨rfl, h⟩
set_option maxHeartbeats 4000000 in
theorem S_X5_init {D : DD} {l : Launch} {M : MM} {a0 : Nat} {Post : MM → Prop} (k_a0 : mkd M a0 = 5) (h : wp_X5_init M a0 Post) : mMet D l yX5_init cX5_init 1 (none) { frames := 1, cells := 0, slots := 0, locals := 12 } M [.ref a0] (pV_ Post) := by
  refine m_of2 [(0, .ref a0)] (by decide +kernel) (Nat.le_of_ble_eq_true rfl) rfl (fun E hED hEl C hE => ?_)
  subst hED
  subst hEl
  unfold wp_X5_init at h
  refine r_aload_n C dX5_init_0 (pc' := 1) rfl (j := 0) rfl ?_
  refine r_objInit C (a := a0) q260 q136 q137 (Nat.le_of_ble_eq_true rfl) (Nat.le_of_ble_eq_true rfl) dX5_init_1 (pc' := 4) rfl ?_
  exact r_vret C hE (Nat.le_of_ble_eq_true rfl) (Nat.le_of_ble_eq_true rfl) dX5_init_4 ⟨rfl, h⟩
set_option maxHeartbeats 4000000 in
theorem S_X5_takes {D : DD} {l : Launch} {M : MM} {a0 : Nat} {a1 : Nat} {Post : MM → Prop} (k_a0 : mkd M a0 = 5) (k_a1 : mkd M a1 = 5) (h : wp_X5_takes M a0 a1 Post) : mMet D l yX5_takes cX5_takes 2 (none) { frames := 0, cells := 0, slots := 0, locals := 0 } M [.ref a0, .ref a1] (pV_ Post) := by
  refine m_of2 [(0, .ref a0), (1, .ref a1)] (by decide +kernel) (Nat.le_of_ble_eq_true rfl) rfl (fun E hED hEl C hE => ?_)
  subst hED
  subst hEl
  unfold wp_X5_takes at h
  refine r_aload_n C dX5_takes_0 (pc' := 1) rfl (j := 0) rfl ?_
  refine r_aload_n C dX5_takes_1 (pc' := 2) rfl (j := 1) rfl ?_
  refine r_getf C (Cn := RX5) (T := TX5) 0 k_a1 (by decide) vc_X5 in_X5 (by decide) q261 dX5_takes_2 (pc' := 5) rfl (v := .int (mgI M a1 0)) rfl ?_
  obtain ⟨M_1, e_2, h⟩ := bn_ h
  refine r_putI C (Cn := RX5) (T := TX5) tyX5 0 k_a0 (by decide) vc_X5 in_X5 tyX5_ok nmX5 (by decide) q261 rfl rfl dX5_takes_5 (pc' := 8) rfl rfl rfl M_1 e_2 ?_
  refine r_aload_n C dX5_takes_8 (pc' := 9) rfl (j := 0) rfl ?_
  refine r_aload_n C dX5_takes_9 (pc' := 10) rfl (j := 1) rfl ?_
  refine r_getf C (Cn := RX5) (T := TX5) 1 (mMo.kd (mo_I e_2) k_a1 (by decide)) (by decide) vc_X5 in_X5 (by decide) q264 dX5_takes_10 (pc' := 13) rfl (v := .int (mgI M_1 a1 1)) rfl ?_
  obtain ⟨M_3, e_4, h⟩ := bn_ h
  refine r_putI C (Cn := RX5) (T := TX5) tyX5 1 (mMo.kd (mo_I e_2) k_a0 (by decide)) (by decide) vc_X5 in_X5 tyX5_ok nmX5 (by decide) q264 rfl rfl dX5_takes_13 (pc' := 16) rfl rfl rfl M_3 e_4 ?_
  refine r_aload_n C dX5_takes_16 (pc' := 17) rfl (j := 0) rfl ?_
  refine r_aload_n C dX5_takes_17 (pc' := 18) rfl (j := 1) rfl ?_
  refine r_getf C (Cn := RX5) (T := TX5) 2 (mMo.kd (mo_I e_4) (mMo.kd (mo_I e_2) k_a1 (by decide)) (by decide)) (by decide) vc_X5 in_X5 (by decide) q267 dX5_takes_18 (pc' := 21) rfl (v := .int (mgI M_3 a1 2)) rfl ?_
  obtain ⟨M_5, e_6, h⟩ := bn_ h
  refine r_putI C (Cn := RX5) (T := TX5) tyX5 2 (mMo.kd (mo_I e_4) (mMo.kd (mo_I e_2) k_a0 (by decide)) (by decide)) (by decide) vc_X5 in_X5 tyX5_ok nmX5 (by decide) q267 rfl rfl dX5_takes_21 (pc' := 24) rfl rfl rfl M_5 e_6 ?_
  refine r_aload_n C dX5_takes_24 (pc' := 25) rfl (j := 0) rfl ?_
  refine r_aload_n C dX5_takes_25 (pc' := 26) rfl (j := 1) rfl ?_
  refine r_getf C (Cn := RX5) (T := TX5) 3 (mMo.kd (mo_I e_6) (mMo.kd (mo_I e_4) (mMo.kd (mo_I e_2) k_a1 (by decide)) (by decide)) (by decide)) (by decide) vc_X5 in_X5 (by decide) q270 dX5_takes_26 (pc' := 29) rfl (v := .int (mgI M_5 a1 3)) rfl ?_
  obtain ⟨c_7, h⟩ := h
  obtain ⟨M_8, e_9, h⟩ := bn_ h
  refine r_putI C (Cn := RX5) (T := TX5) tyX5 3 (mMo.kd (mo_I e_6) (mMo.kd (mo_I e_4) (mMo.kd (mo_I e_2) k_a0 (by decide)) (by decide)) (by decide)) (by decide) vc_X5 in_X5 tyX5_ok nmX5 (by decide) q270 rfl rfl dX5_takes_29 (pc' := 32) rfl (nB_ c_7) (fB_ c_7) M_8 e_9 ?_
  exact r_vret C hE (Nat.le_of_ble_eq_true rfl) (Nat.le_of_ble_eq_true rfl) dX5_takes_32 ⟨rfl, h⟩
theorem hd_X0_held : mHd yX0_held 2 := ⟨by decide, by decide, by decide +kernel⟩
theorem hd_X0_in : mHd yX0_in 2 := ⟨by decide, by decide, by decide +kernel⟩
theorem hd_X0_within : mHd yX0_within 3 := ⟨by decide, by decide, by decide +kernel⟩
theorem hd_X0_has : mHd yX0_has 2 := ⟨by decide, by decide, by decide +kernel⟩
theorem hd_X0_divisor : mHd yX0_divisor 2 := ⟨by decide, by decide, by decide +kernel⟩
theorem hd_X0_powerOf : mHd yX0_powerOf 2 := ⟨by decide, by decide, by decide +kernel⟩
theorem hd_X0_dryOf : mHd yX0_dryOf 1 := ⟨by decide, by decide, by decide +kernel⟩
theorem hd_X0_drownedOf : mHd yX0_drownedOf 1 := ⟨by decide, by decide, by decide +kernel⟩
set_option maxHeartbeats 4000000 in
theorem S_X0_held {D : DD} {l : Launch} {M : MM} {x0 : Int32} {x1 : Int32} {Post : Int32 → MM → Prop} (h : wp_X0_held M x0 x1 Post) : mMet D l yX0_held cX0_held 2 ((some .int)) { frames := 1, cells := 0, slots := 0, locals := 14 } M [.int x0, .int x1] (pI_ Post) := by
  refine m_of2 [(0, .int x0), (1, .int x1)] (by decide +kernel) (Nat.le_of_ble_eq_true rfl) rfl (fun E hED hEl C hE => ?_)
  subst hED
  subst hEl
  unfold wp_X0_held at h
  refine r_iconst C dX0_held_0 (pc' := 1) rfl (v := 0) rfl ?_
  refine r_iload_n C dX0_held_1 (pc' := 2) rfl (j := 1) rfl ?_
  refine r_iload_n C dX0_held_2 (pc' := 3) rfl (j := 0) rfl ?_
  refine r_mmin C q885 q585 q113 q586 (Nat.le_of_ble_eq_true rfl) (Nat.le_of_ble_eq_true rfl) (Nat.le_of_ble_eq_true rfl) (Nat.le_of_ble_eq_true rfl) dX0_held_3 (pc' := 6) rfl ?_
  refine r_mmax C q886 q490 q113 q491 (Nat.le_of_ble_eq_true rfl) (Nat.le_of_ble_eq_true rfl) (Nat.le_of_ble_eq_true rfl) (Nat.le_of_ble_eq_true rfl) dX0_held_6 (pc' := 9) rfl ?_
  exact r_iret C hE (Nat.le_of_ble_eq_true rfl) (Nat.le_of_ble_eq_true rfl) dX0_held_9 ⟨_, rfl, h⟩
set_option maxHeartbeats 4000000 in
theorem S_X0_in {D : DD} {l : Launch} {M : MM} {x0 : Int32} {x1 : Int32} {Post : Int32 → MM → Prop} (h : wp_X0_in M x0 x1 Post) : mMet D l yX0_in cX0_in 2 ((some .boolean)) { frames := 0, cells := 0, slots := 0, locals := 0 } M [.int x0, .int x1] (pI_ Post) := by
  refine m_of2 [(0, .int x0), (1, .int x1)] (by decide +kernel) (Nat.le_of_ble_eq_true rfl) rfl (fun E hED hEl C hE => ?_)
  subst hED
  subst hEl
  unfold wp_X0_in at h
  refine r_iload_n C dX0_in_0 (pc' := 1) rfl (j := 0) rfl ?_
  refine r_if_lt C dX0_in_1 (pc' := 4) rfl (tgt := 13) (by decide) (fun c_1 => ?_) (fun c_1 => ?_)
  · have h := it_t h c_1
    refine r_iconst C dX0_in_13 (pc' := 14) rfl (v := 0) rfl ?_
    exact r_zret C hE (Or.inl rfl) (Nat.le_of_ble_eq_true rfl) (Nat.le_of_ble_eq_true rfl) dX0_in_14 ⟨_, rfl, h⟩
  · have h := it_f h c_1
    refine r_iload_n C dX0_in_4 (pc' := 5) rfl (j := 0) rfl ?_
    refine r_iload_n C dX0_in_5 (pc' := 6) rfl (j := 1) rfl ?_
    refine r_icmp_ge C dX0_in_6 (pc' := 9) rfl (tgt := 13) (by decide) (fun c_2 => ?_) (fun c_2 => ?_)
    · have h := it_t h c_2
      refine r_iconst C dX0_in_13 (pc' := 14) rfl (v := 0) rfl ?_
      exact r_zret C hE (Or.inl rfl) (Nat.le_of_ble_eq_true rfl) (Nat.le_of_ble_eq_true rfl) dX0_in_14 ⟨_, rfl, h⟩
    · have h := it_f h c_2
      refine r_iconst C dX0_in_9 (pc' := 10) rfl (v := 1) rfl ?_
      refine r_goto C dX0_in_10 (tgt := 14) (by decide) ?_
      exact r_zret C hE (Or.inr rfl) (Nat.le_of_ble_eq_true rfl) (Nat.le_of_ble_eq_true rfl) dX0_in_14 ⟨_, rfl, h⟩
set_option maxHeartbeats 4000000 in
theorem S_X0_within {D : DD} {l : Launch} {M : MM} {x0 : Int32} {x1 : Int32} {x2 : Int32} {Post : Int32 → MM → Prop} (h : wp_X0_within M x0 x1 x2 Post) : mMet D l yX0_within cX0_within 3 ((some .boolean)) { frames := 0, cells := 0, slots := 0, locals := 0 } M [.int x0, .int x1, .int x2] (pI_ Post) := by
  refine m_of2 [(0, .int x0), (1, .int x1), (2, .int x2)] (by decide +kernel) (Nat.le_of_ble_eq_true rfl) rfl (fun E hED hEl C hE => ?_)
  subst hED
  subst hEl
  unfold wp_X0_within at h
  refine r_iload_n C dX0_within_0 (pc' := 1) rfl (j := 0) rfl ?_
  refine r_iload_n C dX0_within_1 (pc' := 2) rfl (j := 1) rfl ?_
  refine r_icmp_lt C dX0_within_2 (pc' := 5) rfl (tgt := 14) (by decide) (fun c_1 => ?_) (fun c_1 => ?_)
  · have h := it_t h c_1
    refine r_iconst C dX0_within_14 (pc' := 15) rfl (v := 0) rfl ?_
    exact r_zret C hE (Or.inl rfl) (Nat.le_of_ble_eq_true rfl) (Nat.le_of_ble_eq_true rfl) dX0_within_15 ⟨_, rfl, h⟩
  · have h := it_f h c_1
    refine r_iload_n C dX0_within_5 (pc' := 6) rfl (j := 0) rfl ?_
    refine r_iload_n C dX0_within_6 (pc' := 7) rfl (j := 2) rfl ?_
    refine r_icmp_gt C dX0_within_7 (pc' := 10) rfl (tgt := 14) (by decide) (fun c_2 => ?_) (fun c_2 => ?_)
    · have h := it_t h c_2
      refine r_iconst C dX0_within_14 (pc' := 15) rfl (v := 0) rfl ?_
      exact r_zret C hE (Or.inl rfl) (Nat.le_of_ble_eq_true rfl) (Nat.le_of_ble_eq_true rfl) dX0_within_15 ⟨_, rfl, h⟩
    · have h := it_f h c_2
      refine r_iconst C dX0_within_10 (pc' := 11) rfl (v := 1) rfl ?_
      refine r_goto C dX0_within_11 (tgt := 15) (by decide) ?_
      exact r_zret C hE (Or.inr rfl) (Nat.le_of_ble_eq_true rfl) (Nat.le_of_ble_eq_true rfl) dX0_within_15 ⟨_, rfl, h⟩
set_option maxHeartbeats 4000000 in
theorem S_X0_has {D : DD} {l : Launch} {M : MM} {x0 : Int32} {x1 : Int32} {Post : Int32 → MM → Prop} (h : wp_X0_has M x0 x1 Post) : mMet D l yX0_has cX0_has 2 ((some .boolean)) { frames := 0, cells := 0, slots := 0, locals := 0 } M [.int x0, .int x1] (pI_ Post) := by
  refine m_of2 [(0, .int x0), (1, .int x1)] (by decide +kernel) (Nat.le_of_ble_eq_true rfl) rfl (fun E hED hEl C hE => ?_)
  subst hED
  subst hEl
  unfold wp_X0_has at h
  refine r_iload_n C dX0_has_0 (pc' := 1) rfl (j := 0) rfl ?_
  refine r_iload_n C dX0_has_1 (pc' := 2) rfl (j := 1) rfl ?_
  refine r_ishr C dX0_has_2 (pc' := 3) rfl ?_
  refine r_iconst C dX0_has_3 (pc' := 4) rfl (v := 1) rfl ?_
  refine r_iand C dX0_has_4 (pc' := 5) rfl ?_
  refine r_iconst C dX0_has_5 (pc' := 6) rfl (v := 1) rfl ?_
  refine r_icmp_ne C dX0_has_6 (pc' := 9) rfl (tgt := 13) (by decide) (fun c_1 => ?_) (fun c_1 => ?_)
  · have h := it_f h c_1
    refine r_iconst C dX0_has_13 (pc' := 14) rfl (v := 0) rfl ?_
    exact r_zret C hE (Or.inl rfl) (Nat.le_of_ble_eq_true rfl) (Nat.le_of_ble_eq_true rfl) dX0_has_14 ⟨_, rfl, h⟩
  · have h := it_t h c_1
    refine r_iconst C dX0_has_9 (pc' := 10) rfl (v := 1) rfl ?_
    refine r_goto C dX0_has_10 (tgt := 14) (by decide) ?_
    exact r_zret C hE (Or.inr rfl) (Nat.le_of_ble_eq_true rfl) (Nat.le_of_ble_eq_true rfl) dX0_has_14 ⟨_, rfl, h⟩
set_option maxHeartbeats 4000000 in
theorem B_X0_divisor_6 {E : mE} {X31 : MM → Int64 → Prop} {Post : Int64 → MM → Prop} (C : mC E yX0_divisor cX0_divisor 10 ((some .long)) { frames := 0, cells := 0, slots := 0, locals := 0 }) (hE : mEnd E { frames := 0, cells := 0, slots := 0, locals := 0 } (pL_ Post)) : ∀ (n_ : Nat) (M : MM) (x4 : Int64) (x6 : Int64), wl_X0_divisor_6 X31 n_ M x4 x6 → (∀ (M' : MM) (x4' : Int64), mMo M M' → X31 M' x4' → mV E M' 0 0 31 [(4, .long x4')] []) → mV E M 0 0 6 [(4, .long x4), (6, .long x6)] [] := by
  intro n_
  induction n_ with
  | zero =>
    intro M x4 x6 h hX31
    exact absurd h (by rw [wl_X0_divisor_6]; exact fun q => q)
  | succ n_ ih =>
    intro M x4 x6 h hX31
    rw [wl_X0_divisor_6] at h
    refine r_lload C dX0_divisor_6 (pc' := 8) rfl (j := 1) rfl ?_
    refine r_lconst C dX0_divisor_8 (pc' := 9) rfl (v := 0) rfl ?_
    refine r_lc_eq C dX0_divisor_9 (pc1 := 10) (pc' := 13) rfl dX0_divisor_10 rfl (tgt := 31) (by decide) (fun c_1 => ?_) (fun c_1 => ?_)
    · have h := it_t h c_1
      refine r_sub (lv' := [(4, .long x4)]) [0] rfl ?_
      exact hX31 M x4 mMo.rf h
    · have h := it_f h c_1
      refine r_lload C dX0_divisor_13 (pc' := 15) rfl (j := 0) rfl ?_
      refine r_lload C dX0_divisor_15 (pc' := 17) rfl (j := 1) rfl ?_
      obtain ⟨c_2, h⟩ := h
      refine r_lrem C dX0_divisor_17 (pc' := 18) rfl c_2 ?_
      obtain ⟨x8_3, e_4, h⟩ := bn_ h
      refine r_lstore C (lv' := [(8, .long x8_3), (4, .long x4), (6, .long x6)]) dX0_divisor_18 (pc' := 20) rfl x8_3 e_4 (Nat.le_of_ble_eq_true rfl) rfl ?_
      refine r_lload C dX0_divisor_20 (pc' := 22) rfl (j := 2) rfl ?_
      refine r_lstore C (lv' := [(4, .long x6), (8, .long x8_3), (6, .long x6)]) dX0_divisor_22 (pc' := 24) rfl x6 rfl (Nat.le_of_ble_eq_true rfl) rfl ?_
      refine r_lload C dX0_divisor_24 (pc' := 26) rfl (j := 1) rfl ?_
      refine r_lstore C (lv' := [(6, .long x8_3), (4, .long x6), (8, .long x8_3)]) dX0_divisor_26 (pc' := 28) rfl x8_3 rfl (Nat.le_of_ble_eq_true rfl) rfl ?_
      refine r_goto C dX0_divisor_28 (tgt := 6) (by decide) ?_
      refine r_sub (lv' := [(4, .long x6), (6, .long x8_3)]) [1, 0] rfl ?_
      exact ih M x6 x8_3 h (fun M9 w0 hm9 h9 => hX31 M9 w0 hm9 h9)
set_option maxHeartbeats 4000000 in
theorem S_X0_divisor {D : DD} {l : Launch} {M : MM} {x0 : Int64} {x2 : Int64} {Post : Int64 → MM → Prop} (h : wp_X0_divisor M x0 x2 Post) : mMet D l yX0_divisor cX0_divisor 10 ((some .long)) { frames := 0, cells := 0, slots := 0, locals := 0 } M [.long x0, .long x2] (pL_ Post) := by
  refine m_of2 [(0, .long x0), (2, .long x2)] (by decide +kernel) (Nat.le_of_ble_eq_true rfl) rfl (fun E hED hEl C hE => ?_)
  subst hED
  subst hEl
  unfold wp_X0_divisor at h
  refine r_lload_n C dX0_divisor_0 (pc' := 1) rfl (j := 0) rfl ?_
  refine r_lstore C (lv' := [(4, .long x0), (0, .long x0), (2, .long x2)]) dX0_divisor_1 (pc' := 3) rfl x0 rfl (Nat.le_of_ble_eq_true rfl) rfl ?_
  refine r_lload_n C dX0_divisor_3 (pc' := 4) rfl (j := 2) rfl ?_
  refine r_lstore C (lv' := [(6, .long x2), (4, .long x0), (0, .long x0), (2, .long x2)]) dX0_divisor_4 (pc' := 6) rfl x2 rfl (Nat.le_of_ble_eq_true rfl) rfl ?_
  obtain ⟨n_5, h⟩ := h
  refine r_sub (lv' := [(4, .long x0), (6, .long x2)]) [1, 0] rfl ?_
  refine B_X0_divisor_6 C hE n_5 M x0 x2 h (fun M_6 x4_8 m_7 h => ?_)
  refine r_lload C dX0_divisor_31 (pc' := 33) rfl (j := 0) rfl ?_
  exact r_lret C hE (Nat.le_of_ble_eq_true rfl) (Nat.le_of_ble_eq_true rfl) dX0_divisor_33 ⟨_, rfl, h⟩
set_option maxHeartbeats 4000000 in
theorem B_X0_powerOf_5 {E : mE} {x0 : Int32} {x1 : Int32} {X22 : MM → Int64 → Prop} {Post : Int64 → MM → Prop} (C : mC E yX0_powerOf cX0_powerOf 5 ((some .long)) { frames := 0, cells := 0, slots := 0, locals := 0 }) (hE : mEnd E { frames := 0, cells := 0, slots := 0, locals := 0 } (pL_ Post)) : ∀ (n_ : Nat) (M : MM) (x2 : Int64) (x4 : Int32), wl_X0_powerOf_5 x0 x1 X22 n_ M x2 x4 → (∀ (M' : MM) (x2' : Int64), mMo M M' → X22 M' x2' → mV E M' 0 0 22 [(2, .long x2')] []) → mV E M 0 0 5 [(0, .int x0), (1, .int x1), (2, .long x2), (4, .int x4)] [] := by
  intro n_
  induction n_ with
  | zero =>
    intro M x2 x4 h hX22
    exact absurd h (by rw [wl_X0_powerOf_5]; exact fun q => q)
  | succ n_ ih =>
    intro M x2 x4 h hX22
    rw [wl_X0_powerOf_5] at h
    refine r_iload C dX0_powerOf_5 (pc' := 7) rfl (j := 3) rfl ?_
    refine r_iload_n C dX0_powerOf_7 (pc' := 8) rfl (j := 1) rfl ?_
    refine r_icmp_ge C dX0_powerOf_8 (pc' := 11) rfl (tgt := 22) (by decide) (fun c_1 => ?_) (fun c_1 => ?_)
    · have h := it_t h c_1
      refine r_sub (lv' := [(2, .long x2)]) [2] rfl ?_
      exact hX22 M x2 mMo.rf h
    · have h := it_f h c_1
      refine r_lload_n C dX0_powerOf_11 (pc' := 12) rfl (j := 2) rfl ?_
      refine r_iload_n C dX0_powerOf_12 (pc' := 13) rfl (j := 0) rfl ?_
      refine r_i2l C dX0_powerOf_13 (pc' := 14) rfl ?_
      refine r_lmul C dX0_powerOf_14 (pc' := 15) rfl ?_
      obtain ⟨x2_2, e_3, h⟩ := bn_ h
      refine r_lstore_n C (lv' := [(2, .long x2_2), (0, .int x0), (1, .int x1), (4, .int x4)]) dX0_powerOf_15 (pc' := 16) rfl rfl x2_2 e_3 (Nat.le_of_ble_eq_true rfl) rfl ?_
      obtain ⟨x4_4, e_5, h⟩ := bn_ h
      refine r_iinc C (lv' := [(4, .int x4_4), (2, .long x2_2), (0, .int x0), (1, .int x1)]) dX0_powerOf_16 (pc' := 19) rfl (j := 3) rfl x4_4 (by rw [e_5]; rfl) (Nat.le_of_ble_eq_true rfl) rfl ?_
      refine r_goto C dX0_powerOf_19 (tgt := 5) (by decide) ?_
      refine r_sub (lv' := [(0, .int x0), (1, .int x1), (2, .long x2_2), (4, .int x4_4)]) [2, 3, 1, 0] rfl ?_
      exact ih M x2_2 x4_4 h (fun M9 w0 hm9 h9 => hX22 M9 w0 hm9 h9)
set_option maxHeartbeats 4000000 in
theorem S_X0_powerOf {D : DD} {l : Launch} {M : MM} {x0 : Int32} {x1 : Int32} {Post : Int64 → MM → Prop} (h : wp_X0_powerOf M x0 x1 Post) : mMet D l yX0_powerOf cX0_powerOf 5 ((some .long)) { frames := 0, cells := 0, slots := 0, locals := 0 } M [.int x0, .int x1] (pL_ Post) := by
  refine m_of2 [(0, .int x0), (1, .int x1)] (by decide +kernel) (Nat.le_of_ble_eq_true rfl) rfl (fun E hED hEl C hE => ?_)
  subst hED
  subst hEl
  unfold wp_X0_powerOf at h
  refine r_lconst C dX0_powerOf_0 (pc' := 1) rfl (v := 1) rfl ?_
  refine r_lstore_n C (lv' := [(2, .long (1 : Int64)), (0, .int x0), (1, .int x1)]) dX0_powerOf_1 (pc' := 2) rfl rfl (1 : Int64) rfl (Nat.le_of_ble_eq_true rfl) rfl ?_
  refine r_iconst C dX0_powerOf_2 (pc' := 3) rfl (v := 0) rfl ?_
  refine r_istore C (lv' := [(4, .int (0 : Int32)), (2, .long (1 : Int64)), (0, .int x0), (1, .int x1)]) dX0_powerOf_3 (pc' := 5) rfl (0 : Int32) rfl (Nat.le_of_ble_eq_true rfl) rfl ?_
  obtain ⟨n_6, h⟩ := h
  refine r_sub (lv' := [(0, .int x0), (1, .int x1), (2, .long (1 : Int64)), (4, .int (0 : Int32))]) [2, 3, 1, 0] rfl ?_
  refine B_X0_powerOf_5 C hE n_6 M (1 : Int64) (0 : Int32) h (fun M_7 x2_9 m_8 h => ?_)
  refine r_lload_n C dX0_powerOf_22 (pc' := 23) rfl (j := 0) rfl ?_
  exact r_lret C hE (Nat.le_of_ble_eq_true rfl) (Nat.le_of_ble_eq_true rfl) dX0_powerOf_23 ⟨_, rfl, h⟩
set_option maxHeartbeats 4000000 in
theorem S_X0_dryOf {D : DD} {l : Launch} {M : MM} {x0 : Int32} {Post : Int32 → MM → Prop} (h : wp_X0_dryOf M x0 Post) : mMet D l yX0_dryOf cX0_dryOf 1 ((some .int)) { frames := 0, cells := 0, slots := 0, locals := 0 } M [.int x0] (pI_ Post) := by
  refine m_of2 [(0, .int x0)] (by decide +kernel) (Nat.le_of_ble_eq_true rfl) rfl (fun E hED hEl C hE => ?_)
  subst hED
  subst hEl
  unfold wp_X0_dryOf at h
  refine r_iload_n C dX0_dryOf_0 (pc' := 1) rfl (j := 0) rfl ?_
  refine r_bipush C dX0_dryOf_1 (pc' := 3) rfl (v := 9) rfl ?_
  refine r_icmp_gt C dX0_dryOf_3 (pc' := 6) rfl (tgt := 10) (by decide) (fun c_1 => ?_) (fun c_1 => ?_)
  · have h := it_t h c_1
    refine r_iconst C dX0_dryOf_10 (pc' := 11) rfl (v := 0) rfl ?_
    exact r_iret C hE (Nat.le_of_ble_eq_true rfl) (Nat.le_of_ble_eq_true rfl) dX0_dryOf_11 ⟨_, rfl, h⟩
  · have h := it_f h c_1
    refine r_iload_n C dX0_dryOf_6 (pc' := 7) rfl (j := 0) rfl ?_
    refine r_goto C dX0_dryOf_7 (tgt := 11) (by decide) ?_
    exact r_iret C hE (Nat.le_of_ble_eq_true rfl) (Nat.le_of_ble_eq_true rfl) dX0_dryOf_11 ⟨_, rfl, h⟩
set_option maxHeartbeats 4000000 in
theorem S_X0_drownedOf {D : DD} {l : Launch} {M : MM} {x0 : Int32} {Post : Int32 → MM → Prop} (h : wp_X0_drownedOf M x0 Post) : mMet D l yX0_drownedOf cX0_drownedOf 1 ((some .int)) { frames := 0, cells := 0, slots := 0, locals := 0 } M [.int x0] (pI_ Post) := by
  refine m_of2 [(0, .int x0)] (by decide +kernel) (Nat.le_of_ble_eq_true rfl) rfl (fun E hED hEl C hE => ?_)
  subst hED
  subst hEl
  unfold wp_X0_drownedOf at h
  refine r_iload_n C dX0_drownedOf_0 (pc' := 1) rfl (j := 0) rfl ?_
  refine r_bipush C dX0_drownedOf_1 (pc' := 3) rfl (v := 9) rfl ?_
  refine r_icmp_gt C dX0_drownedOf_3 (pc' := 6) rfl (tgt := 10) (by decide) (fun c_1 => ?_) (fun c_1 => ?_)
  · have h := it_t h c_1
    refine r_iload_n C dX0_drownedOf_10 (pc' := 11) rfl (j := 0) rfl ?_
    refine r_bipush C dX0_drownedOf_11 (pc' := 13) rfl (v := 9) rfl ?_
    refine r_isub C dX0_drownedOf_13 (pc' := 14) rfl ?_
    refine r_iconst C dX0_drownedOf_14 (pc' := 15) rfl (v := 1) rfl ?_
    refine r_isub C dX0_drownedOf_15 (pc' := 16) rfl ?_
    exact r_iret C hE (Nat.le_of_ble_eq_true rfl) (Nat.le_of_ble_eq_true rfl) dX0_drownedOf_16 ⟨_, rfl, h⟩
  · have h := it_f h c_1
    refine r_iconst C dX0_drownedOf_6 (pc' := 7) rfl (v := 0) rfl ?_
    refine r_goto C dX0_drownedOf_7 (tgt := 16) (by decide) ?_
    exact r_iret C hE (Nat.le_of_ble_eq_true rfl) (Nat.le_of_ble_eq_true rfl) dX0_drownedOf_16 ⟨_, rfl, h⟩
def SndW (D : DD) (l : Launch) (Rc : WT) (fd ld : Nat) : Prop := 20 ≤ fd ∧ 300 ≤ ld ∧ ∀ {M : MM} {b q : Nat} {P : Int32 → MM → Prop}, mkd M q = 2 → Rc M b q P → (mkd M b = 9 ∧ mMet D l yX10_worth cX10_worth 4 (some .int) { frames := fd, cells := 0, slots := 0, locals := ld } M [.ref b, .ref q] (pI_ P)) ∨ (mkd M b = 10 ∧ mMet D l yX11_worth cX11_worth 2 (some .int) { frames := fd, cells := 0, slots := 0, locals := ld } M [.ref b, .ref q] (pI_ P)) ∨ (mkd M b = 11 ∧ mMet D l yX12_worth cX12_worth 2 (some .int) { frames := fd, cells := 0, slots := 0, locals := ld } M [.ref b, .ref q] (pI_ P))
def SndH (D : DD) (l : Launch) (Rc : WT) (fd ld : Nat) : Prop := 120 ≤ fd ∧ 3000 ≤ ld ∧ ∀ {M : MM} {b q : Nat} {P : Int32 → MM → Prop}, mkd M q = 2 → Rc M b q P → (mkd M b = 12 ∧ mMet D l yX14_holds cX14_holds 4 (some .int) { frames := fd, cells := 0, slots := 0, locals := ld } M [.ref b, .ref q] (pI_ P)) ∨ (mkd M b = 13 ∧ mMet D l yX15_holds cX15_holds 3 (some .int) { frames := fd, cells := 0, slots := 0, locals := ld } M [.ref b, .ref q] (pI_ P)) ∨ (mkd M b = 14 ∧ mMet D l yX16_holds cX16_holds 5 (some .int) { frames := fd, cells := 0, slots := 0, locals := ld } M [.ref b, .ref q] (pI_ P))
def SndT (D : DD) (l : Launch) (Rc : WT) (fd ld : Nat) : Prop := ∀ {M : MM} {b q : Nat} {P : Int32 → MM → Prop}, mkd M q = 2 → Rc M b q P → (mkd M b = 9 ∨ mkd M b = 10 ∨ mkd M b = 11) ∧ mMet D l yX9_told cX9_told 3 (some .int) { frames := fd, cells := 0, slots := 0, locals := ld } M [.ref b, .ref q] (pI_ P)

theorem r_cW {E : mE} {y : MethodName} {cc : ByteArray} {nL : Nat} {ret : Option FieldType} {rm : Room} {M : MM} {k n pc : Nat} {lv : List (Nat × Value)} {rest : List Value} {idx fd ld : Nat} {Rc : WT} {b q : Nat} {P : Int32 → MM → Prop} (C : mC E y cc nL ret rm) (hS : SndW E.2.1 E.1.2.1 Rc fd ld) (hq : mkd M q = 2) (h : Rc M b q P) (hlink : Cond.methodLink y.cls idx ⟨"LandingTree$Sum", "worth", "(LLandingTree$Asked;)I"⟩ ∈ lw_all) (hcat : (rest.map fun v => v.category).sum ≤ 8) (hfr : fd + 1 ≤ rm.frames) (hlo : 8 + (7 + 11) + ld ≤ rm.locals) (hk1 : k ≤ rm.cells) (hn1 : n ≤ rm.slots) (hd : decode cc pc = .ok (.invokevirtual idx, 3)) {pc' : Nat} (hp : pc + 3 = pc') (K : ∀ (x : Int32) (M' : MM), P x M' → mMo M M' → mV E M' k n pc' lv (.int x :: rest)) : mV E M k n pc lv (.ref q :: .ref b :: rest) := by
  rcases hS.2.2 hq h with ⟨hk, hM⟩ | ⟨hk, hM⟩ | ⟨hk, hM⟩
  · exact r_callAi (n2 := 1) (As := [.ref q]) (rest := rest) (x2 := ⟨"LandingTree$Sum", "worth", "(LLandingTree$Asked;)I"⟩) (Cn := RX10) (T := TX10) C hk (by decide) vc_X10 hM (lw_U hlink q846 q859 q860 q121 q861) (List.mem_of_getElem? (i := 2) rfl) ⟨by decide, by decide, by decide +kernel⟩ rfl rfl hcat hfr (by show 8 + (4 + 11) + ld ≤ _; omega) rfl rfl hk1 hn1 hd hp K
  · exact r_callAi (n2 := 1) (As := [.ref q]) (rest := rest) (x2 := ⟨"LandingTree$Sum", "worth", "(LLandingTree$Asked;)I"⟩) (Cn := RX11) (T := TX11) C hk (by decide) vc_X11 hM (lw_U hlink q846 q856 q857 q122 q858) (List.mem_of_getElem? (i := 2) rfl) ⟨by decide, by decide, by decide +kernel⟩ rfl rfl hcat hfr (by show 8 + (2 + 11) + ld ≤ _; omega) rfl rfl hk1 hn1 hd hp K
  · exact r_callAi (n2 := 1) (As := [.ref q]) (rest := rest) (x2 := ⟨"LandingTree$Sum", "worth", "(LLandingTree$Asked;)I"⟩) (Cn := RX12) (T := TX12) C hk (by decide) vc_X12 hM (lw_U hlink q846 q847 q848 q123 q849) (List.mem_of_getElem? (i := 2) rfl) ⟨by decide, by decide, by decide +kernel⟩ rfl rfl hcat hfr (by show 8 + (2 + 11) + ld ≤ _; omega) rfl rfl hk1 hn1 hd hp K

theorem hd_X10_worth : mHd yX10_worth 1 := ⟨by decide, by decide, by decide +kernel⟩
theorem hd_X11_worth : mHd yX11_worth 1 := ⟨by decide, by decide, by decide +kernel⟩
theorem hd_X12_worth : mHd yX12_worth 1 := ⟨by decide, by decide, by decide +kernel⟩
set_option maxHeartbeats 4000000 in
theorem B_X10_worth_14 {E : mE} {Rc : WT} {fd ld : Nat} {a1 : Nat} {X44 : MM → Int32 → Prop} {Post : Int32 → MM → Prop} (hRc : SndW E.2.1 E.1.2.1 Rc fd ld) (C : mC E yX10_worth cX10_worth 4 ((some .int)) { frames := fd + 2, cells := 0, slots := 0, locals := ld + 60 }) (hE : mEnd E { frames := fd + 2, cells := 0, slots := 0, locals := ld + 60 } (pI_ Post)) : ∀ (n_ : Nat) (M : MM) (x2 : Int32) (o3 : Option Nat), mkd M a1 = 2 → wl_X10_worth_14 Rc a1 X44 n_ M x2 o3 → (∀ (M' : MM) (x2' : Int32), mMo M M' → X44 M' x2' → mV E M' 0 0 44 [(2, .int x2')] []) → mV E M 0 0 14 [(1, .ref a1), (2, .int x2), (3, va_rf o3)] [] := by
  intro n_
  induction n_ with
  | zero =>
    intro M x2 o3 k_a1 h hX44
    exact absurd h (by rw [wl_X10_worth_14]; exact fun q => q)
  | succ n_ ih =>
    intro M x2 o3 k_a1 h hX44
    rw [wl_X10_worth_14] at h
    have hb1 := hRc.1
    have hb2 := hRc.2.1
    refine r_aload_nq C dX10_worth_14 (pc' := 15) rfl (j := 2) rfl ?_
    refine r_ifnull C dX10_worth_15 (pc' := 18) rfl (tgt := 44) (by decide) (fun c_6 => ?_) (fun c_6 => ?_)
    · have h := it_t h c_6
      refine r_sub (lv' := [(2, .int x2)]) [1] rfl ?_
      exact hX44 M x2 mMo.rf h
    · have h := it_f h c_6
      refine r_aload_nq C dX10_worth_18 (pc' := 19) rfl (j := 2) rfl ?_
      obtain ⟨b_7, e_8, k_9, h⟩ := h
      refine r_ref [] e_8 ?_
      refine r_getf C (Cn := RX10) (T := TX10) 0 k_9 (by decide) vc_X10 in_X10 (by decide) q701 dX10_worth_19 (pc' := 22) rfl (v := .int (mgI M b_7 0)) rfl ?_
      refine r_iload_n C dX10_worth_22 (pc' := 23) rfl (j := 1) rfl ?_
      refine r_aload_nq C dX10_worth_23 (pc' := 24) rfl (j := 2) rfl ?_
      obtain ⟨b_10, e_11, k_12, h⟩ := h
      refine r_ref [] e_11 ?_
      refine r_getf C (Cn := RX10) (T := TX10) 1 k_12 (by decide) vc_X10 in_X10 (by decide) q702 dX10_worth_24 (pc' := 27) rfl (v := va_rf (mgR M b_10 1)) rfl ?_
      refine r_aload_n C dX10_worth_27 (pc' := 28) rfl (j := 0) rfl ?_
      obtain ⟨b_13, e_14, h⟩ := h
      refine r_ref [.ref a1] e_14 ?_
      refine r_cW (rest := [.int x2, .int (mgI M b_7 0)]) C hRc k_a1 h q862 (Nat.le_of_ble_eq_true rfl) (by dsimp only; omega) (by dsimp only; omega) (Nat.le_of_ble_eq_true rfl) (Nat.le_of_ble_eq_true rfl) dX10_worth_28 (pc' := 31) rfl (fun r_16 M_15 h m_17 => ?_)
      refine r_aload_n C dX10_worth_31 (pc' := 32) rfl (j := 0) rfl ?_
      refine r_callSi (As := [.int (mgI M b_7 0), .int x2, .int r_16, .ref a1]) (rest := []) C (S_X10_worked (mMo.kd m_17 k_a1 (by decide)) h) (lw_S q863 q864 q121 q865) hd_X10_worked rfl rfl (Nat.le_of_ble_eq_true rfl) (by dsimp only; omega) (by dsimp only; omega) rfl rfl (Nat.le_of_ble_eq_true rfl) (Nat.le_of_ble_eq_true rfl) dX10_worth_32 (pc' := 35) rfl (fun r_19 M_18 h m_20 => ?_)
      refine r_istore_n C (lv' := [(2, .int r_19), (1, .ref a1), (3, va_rf o3)]) dX10_worth_35 (pc' := 36) rfl rfl r_19 rfl (Nat.le_of_ble_eq_true rfl) rfl ?_
      refine r_aload_nq C dX10_worth_36 (pc' := 37) rfl (j := 2) rfl ?_
      obtain ⟨b_21, e_22, k_23, h⟩ := h
      refine r_ref [] e_22 ?_
      refine r_getf C (Cn := RX10) (T := TX10) 2 k_23 (by decide) vc_X10 in_X10 (by decide) q703 dX10_worth_37 (pc' := 40) rfl (v := va_rf (mgR M_18 b_21 2)) rfl ?_
      refine r_astore_nq C (lv' := [(3, va_rf (mgR M_18 b_21 2)), (2, .int r_19), (1, .ref a1)]) dX10_worth_40 (pc' := 41) rfl rfl (Nat.le_of_ble_eq_true rfl) rfl ?_
      refine r_goto C dX10_worth_41 (tgt := 14) (by decide) ?_
      refine r_sub (lv' := [(1, .ref a1), (2, .int r_19), (3, va_rf (mgR M_18 b_21 2))]) [2, 1, 0] rfl ?_
      exact ih M_18 r_19 (mgR M_18 b_21 2) (mMo.kd m_20 (mMo.kd m_17 k_a1 (by decide)) (by decide)) h (fun M9 w0 hm9 h9 => hX44 M9 w0 (mMo.tr (mMo.tr m_17 m_20) hm9) h9)
set_option maxHeartbeats 4000000 in
theorem S_X10_worth {D : DD} {l : Launch} {Rc : WT} {fd ld : Nat} (hRc : SndW D l Rc fd ld) {M : MM} {a0 : Nat} {a1 : Nat} {Post : Int32 → MM → Prop} (k_a0 : mkd M a0 = 9) (k_a1 : mkd M a1 = 2) (h : wp_X10_worth Rc M a0 a1 Post) : mMet D l yX10_worth cX10_worth 4 ((some .int)) { frames := fd + 2, cells := 0, slots := 0, locals := ld + 60 } M [.ref a0, .ref a1] (pI_ Post) := by
  refine m_of2 [(0, .ref a0), (1, .ref a1)] (by decide +kernel) (Nat.le_of_ble_eq_true rfl) rfl (fun E hED hEl C hE => ?_)
  subst hED
  subst hEl
  unfold wp_X10_worth at h
  have hb1 := hRc.1
  have hb2 := hRc.2.1
  refine r_aload_n C dX10_worth_0 (pc' := 1) rfl (j := 0) rfl ?_
  refine r_getf C (Cn := RX10) (T := TX10) 1 k_a0 (by decide) vc_X10 in_X10 (by decide) q702 dX10_worth_1 (pc' := 4) rfl (v := va_rf (mgR M a0 1)) rfl ?_
  refine r_aload_n C dX10_worth_4 (pc' := 5) rfl (j := 1) rfl ?_
  obtain ⟨b_1, e_2, h⟩ := h
  refine r_ref [.ref a1] e_2 ?_
  refine r_cW (rest := []) C hRc k_a1 h q862 (Nat.le_of_ble_eq_true rfl) (by dsimp only; omega) (by dsimp only; omega) (Nat.le_of_ble_eq_true rfl) (Nat.le_of_ble_eq_true rfl) dX10_worth_5 (pc' := 8) rfl (fun r_4 M_3 h m_5 => ?_)
  refine r_istore_n C (lv' := [(2, .int r_4), (0, .ref a0), (1, .ref a1)]) dX10_worth_8 (pc' := 9) rfl rfl r_4 rfl (Nat.le_of_ble_eq_true rfl) rfl ?_
  refine r_aload_n C dX10_worth_9 (pc' := 10) rfl (j := 1) rfl ?_
  refine r_getf C (Cn := RX10) (T := TX10) 2 (mMo.kd m_5 k_a0 (by decide)) (by decide) vc_X10 in_X10 (by decide) q703 dX10_worth_10 (pc' := 13) rfl (v := va_rf (mgR M_3 a0 2)) rfl ?_
  refine r_astore_nq C (lv' := [(3, va_rf (mgR M_3 a0 2)), (2, .int r_4), (0, .ref a0), (1, .ref a1)]) dX10_worth_13 (pc' := 14) rfl rfl (Nat.le_of_ble_eq_true rfl) rfl ?_
  obtain ⟨n_24, h⟩ := h
  refine r_sub (lv' := [(1, .ref a1), (2, .int r_4), (3, va_rf (mgR M_3 a0 2))]) [3, 1, 0] rfl ?_
  refine B_X10_worth_14 hRc C hE n_24 M_3 r_4 (mgR M_3 a0 2) (mMo.kd m_5 k_a1 (by decide)) h (fun M_25 x2_27 m_26 h => ?_)
  refine r_iload_n C dX10_worth_44 (pc' := 45) rfl (j := 0) rfl ?_
  exact r_iret C hE (Nat.le_of_ble_eq_true rfl) (Nat.le_of_ble_eq_true rfl) dX10_worth_45 ⟨_, rfl, h⟩
set_option maxHeartbeats 4000000 in
theorem S_X11_worth {D : DD} {l : Launch} {Rc : WT} {fd ld : Nat} (hRc : SndW D l Rc fd ld) {M : MM} {a0 : Nat} {a1 : Nat} {Post : Int32 → MM → Prop} (k_a0 : mkd M a0 = 10) (k_a1 : mkd M a1 = 2) (h : wp_X11_worth Rc M a0 a1 Post) : mMet D l yX11_worth cX11_worth 2 ((some .int)) { frames := fd + 2, cells := 0, slots := 0, locals := ld + 60 } M [.ref a0, .ref a1] (pI_ Post) := by
  refine m_of2 [(0, .ref a0), (1, .ref a1)] (by decide +kernel) (Nat.le_of_ble_eq_true rfl) rfl (fun E hED hEl C hE => ?_)
  subst hED
  subst hEl
  unfold wp_X11_worth at h
  have hb1 := hRc.1
  have hb2 := hRc.2.1
  refine r_aload_n C dX11_worth_0 (pc' := 1) rfl (j := 0) rfl ?_
  refine r_getf C (Cn := RX11) (T := TX11) 0 k_a0 (by decide) vc_X11 in_X11 (by decide) q682 dX11_worth_1 (pc' := 4) rfl (v := .int (mgI M a0 0)) rfl ?_
  exact r_iret C hE (Nat.le_of_ble_eq_true rfl) (Nat.le_of_ble_eq_true rfl) dX11_worth_4 ⟨_, rfl, h⟩
set_option maxHeartbeats 4000000 in
theorem S_X12_worth {D : DD} {l : Launch} {Rc : WT} {fd ld : Nat} (hRc : SndW D l Rc fd ld) {M : MM} {a0 : Nat} {a1 : Nat} {Post : Int32 → MM → Prop} (k_a0 : mkd M a0 = 11) (k_a1 : mkd M a1 = 2) (h : wp_X12_worth Rc M a0 a1 Post) : mMet D l yX12_worth cX12_worth 2 ((some .int)) { frames := fd + 2, cells := 0, slots := 0, locals := ld + 60 } M [.ref a0, .ref a1] (pI_ Post) := by
  refine m_of2 [(0, .ref a0), (1, .ref a1)] (by decide +kernel) (Nat.le_of_ble_eq_true rfl) rfl (fun E hED hEl C hE => ?_)
  subst hED
  subst hEl
  unfold wp_X12_worth at h
  have hb1 := hRc.1
  have hb2 := hRc.2.1
  refine r_aload_n C dX12_worth_0 (pc' := 1) rfl (j := 1) rfl ?_
  refine r_aload_n C dX12_worth_1 (pc' := 2) rfl (j := 0) rfl ?_
  refine r_getf C (Cn := RX12) (T := TX12) 0 k_a0 (by decide) vc_X12 in_X12 (by decide) q693 dX12_worth_2 (pc' := 5) rfl (v := .int (mgI M a0 0)) rfl ?_
  refine r_callAi (n2 := 1) (As := [.int (mgI M a0 0)]) (rest := []) (x2 := ⟨"LandingTree$Asked","value","(I)I"⟩) (Cn := RX2) (T := TX2) C k_a1 (by decide) vc_X2 (S_X2_value k_a1 h) (lw_U q850 q852 q853 q854 q107 q855) (List.mem_of_getElem? (i := 0) rfl) ⟨by decide, by decide, by decide +kernel⟩ rfl rfl (Nat.le_of_ble_eq_true rfl) (by dsimp only; omega) (by dsimp only; omega) rfl rfl (Nat.le_of_ble_eq_true rfl) (Nat.le_of_ble_eq_true rfl) dX12_worth_5 (pc' := 8) rfl (fun r_2 M_1 h m_3 => ?_)
  exact r_iret C hE (Nat.le_of_ble_eq_true rfl) (Nat.le_of_ble_eq_true rfl) dX12_worth_8 ⟨_, rfl, h⟩
theorem sndW {D : DD} {l : Launch} : ∀ d, SndW D l (wpW d) (20 + 2 * d) (300 + 60 * d) := by
  intro d
  induction d with
  | zero => exact ⟨by omega, by omega, fun _ h => absurd h (fun q => q)⟩
  | succ d ih =>
    refine ⟨by omega, by omega, fun {M b q P} hq h => ?_⟩
    rcases h with ⟨hk, h⟩ | ⟨hk, h⟩ | ⟨hk, h⟩
    · exact Or.inl ⟨hk, S_X10_worth ih hk hq h⟩
    · exact Or.inr (Or.inl ⟨hk, S_X11_worth ih hk hq h⟩)
    · exact Or.inr (Or.inr ⟨hk, S_X12_worth ih hk hq h⟩)

theorem r_cH {E : mE} {y : MethodName} {cc : ByteArray} {nL : Nat} {ret : Option FieldType} {rm : Room} {M : MM} {k n pc : Nat} {lv : List (Nat × Value)} {rest : List Value} {idx fd ld : Nat} {Rc : WT} {b q : Nat} {P : Int32 → MM → Prop} (C : mC E y cc nL ret rm) (hS : SndH E.2.1 E.1.2.1 Rc fd ld) (hq : mkd M q = 2) (h : Rc M b q P) (hlink : Cond.methodLink y.cls idx ⟨"LandingTree$Condition", "holds", "(LLandingTree$Asked;)I"⟩ ∈ lw_all) (hcat : (rest.map fun v => v.category).sum ≤ 8) (hfr : fd + 1 ≤ rm.frames) (hlo : 8 + (7 + 11) + ld ≤ rm.locals) (hk1 : k ≤ rm.cells) (hn1 : n ≤ rm.slots) (hd : decode cc pc = .ok (.invokevirtual idx, 3)) {pc' : Nat} (hp : pc + 3 = pc') (K : ∀ (x : Int32) (M' : MM), P x M' → mMo M M' → mV E M' k n pc' lv (.int x :: rest)) : mV E M k n pc lv (.ref q :: .ref b :: rest) := by
  rcases hS.2.2 hq h with ⟨hk, hM⟩ | ⟨hk, hM⟩ | ⟨hk, hM⟩
  · exact r_callAi (n2 := 1) (As := [.ref q]) (rest := rest) (x2 := ⟨"LandingTree$Condition", "holds", "(LLandingTree$Asked;)I"⟩) (Cn := RX14) (T := TX14) C hk (by decide) vc_X14 hM (lw_U hlink q840 q873 q870 q125 q871) (List.mem_of_getElem? (i := 1) rfl) ⟨by decide, by decide, by decide +kernel⟩ rfl rfl hcat hfr (by show 8 + (4 + 11) + ld ≤ _; omega) rfl rfl hk1 hn1 hd hp K
  · exact r_callAi (n2 := 1) (As := [.ref q]) (rest := rest) (x2 := ⟨"LandingTree$Condition", "holds", "(LLandingTree$Asked;)I"⟩) (Cn := RX15) (T := TX15) C hk (by decide) vc_X15 hM (lw_U hlink q840 q866 q867 q126 q868) (List.mem_of_getElem? (i := 1) rfl) ⟨by decide, by decide, by decide +kernel⟩ rfl rfl hcat hfr (by show 8 + (3 + 11) + ld ≤ _; omega) rfl rfl hk1 hn1 hd hp K
  · exact r_callAi (n2 := 1) (As := [.ref q]) (rest := rest) (x2 := ⟨"LandingTree$Condition", "holds", "(LLandingTree$Asked;)I"⟩) (Cn := RX16) (T := TX16) C hk (by decide) vc_X16 hM (lw_U hlink q840 q841 q842 q127 q843) (List.mem_of_getElem? (i := 1) rfl) ⟨by decide, by decide, by decide +kernel⟩ rfl rfl hcat hfr (by show 8 + (5 + 11) + ld ≤ _; omega) rfl rfl hk1 hn1 hd hp K

theorem hd_X14_holds : mHd yX14_holds 1 := ⟨by decide, by decide, by decide +kernel⟩
theorem hd_X15_holds : mHd yX15_holds 1 := ⟨by decide, by decide, by decide +kernel⟩
theorem hd_X16_holds : mHd yX16_holds 1 := ⟨by decide, by decide, by decide +kernel⟩
set_option maxHeartbeats 4000000 in
theorem B_X14_holds_2 {E : mE} {Rc : WT} {fd ld : Nat} {a0 : Nat} {a1 : Nat} {X28 : MM → Int32 → Prop} {X38 : MM → Prop} {Post : Int32 → MM → Prop} (hRc : SndH E.2.1 E.1.2.1 Rc fd ld) (C : mC E yX14_holds cX14_holds 4 ((some .int)) { frames := fd + 2, cells := 0, slots := 0, locals := ld + 60 }) (hE : mEnd E { frames := fd + 2, cells := 0, slots := 0, locals := ld + 60 } (pI_ Post)) : ∀ (n_ : Nat) (M : MM) (o2 : Option Nat), mkd M a0 = 12 → mkd M a1 = 2 → wl_X14_holds_2 Rc a0 a1 X28 X38 n_ M o2 → (∀ (M' : MM) (x3' : Int32), mMo M M' → X28 M' x3' → mV E M' 0 0 28 [(3, .int x3')] []) → (∀ (M' : MM), mMo M M' → X38 M' → mV E M' 0 0 38 [(0, .ref a0)] []) → mV E M 0 0 2 [(0, .ref a0), (1, .ref a1), (2, va_rf o2)] [] := by
  intro n_
  induction n_ with
  | zero =>
    intro M o2 k_a0 k_a1 h hX28 hX38
    exact absurd h (by rw [wl_X14_holds_2]; exact fun q => q)
  | succ n_ ih =>
    intro M o2 k_a0 k_a1 h hX28 hX38
    rw [wl_X14_holds_2] at h
    have hb1 := hRc.1
    have hb2 := hRc.2.1
    refine r_aload_nq C dX14_holds_2 (pc' := 3) rfl (j := 2) rfl ?_
    refine r_ifnull C dX14_holds_3 (pc' := 6) rfl (tgt := 38) (by decide) (fun c_1 => ?_) (fun c_1 => ?_)
    · have h := it_t h c_1
      refine r_sub (lv' := [(0, .ref a0)]) [0] rfl ?_
      exact hX38 M mMo.rf h
    · have h := it_f h c_1
      refine r_aload_nq C dX14_holds_6 (pc' := 7) rfl (j := 2) rfl ?_
      obtain ⟨b_2, e_3, k_4, h⟩ := h
      refine r_ref [] e_3 ?_
      refine r_getf C (Cn := RX14) (T := TX14) 0 k_4 (by decide) vc_X14 in_X14 (by decide) q759 dX14_holds_7 (pc' := 10) rfl (v := va_rf (mgR M b_2 0)) rfl ?_
      refine r_aload_n C dX14_holds_10 (pc' := 11) rfl (j := 1) rfl ?_
      obtain ⟨b_5, e_6, h⟩ := h
      refine r_ref [.ref a1] e_6 ?_
      refine r_cH (rest := []) C hRc k_a1 h q872 (Nat.le_of_ble_eq_true rfl) (by dsimp only; omega) (by dsimp only; omega) (Nat.le_of_ble_eq_true rfl) (Nat.le_of_ble_eq_true rfl) dX14_holds_11 (pc' := 14) rfl (fun r_8 M_7 h m_9 => ?_)
      refine r_istore_n C (lv' := [(3, .int r_8), (0, .ref a0), (1, .ref a1), (2, va_rf o2)]) dX14_holds_14 (pc' := 15) rfl rfl r_8 rfl (Nat.le_of_ble_eq_true rfl) (by cases o2 <;> rfl) ?_
      refine r_iload_n C dX14_holds_15 (pc' := 16) rfl (j := 0) rfl ?_
      refine r_iconst C dX14_holds_16 (pc' := 17) rfl (v := 2) rfl ?_
      refine r_icmp_eq C dX14_holds_17 (pc' := 20) rfl (tgt := 28) (by decide) (fun c_10 => ?_) (fun c_10 => ?_)
      · have h := it_t h c_10
        refine r_sub (lv' := [(3, .int r_8)]) [0] rfl ?_
        exact hX28 M_7 r_8 m_9 h
      · have h := it_f h c_10
        refine r_iload_n C dX14_holds_20 (pc' := 21) rfl (j := 0) rfl ?_
        refine r_aload_n C dX14_holds_21 (pc' := 22) rfl (j := 1) rfl ?_
        refine r_getf C (Cn := RX14) (T := TX14) 1 (mMo.kd m_9 k_a0 (by decide)) (by decide) vc_X14 in_X14 (by decide) q760 dX14_holds_22 (pc' := 25) rfl (v := .int (mgI M_7 a0 1)) rfl ?_
        refine r_icmp_ne C dX14_holds_25 (pc' := 28) rfl (tgt := 30) (by decide) (fun c_11 => ?_) (fun c_11 => ?_)
        · have h := it_f h c_11
          refine r_aload_nq C dX14_holds_30 (pc' := 31) rfl (j := 3) rfl ?_
          obtain ⟨b_12, e_13, k_14, h⟩ := h
          refine r_ref [] e_13 ?_
          refine r_getf C (Cn := RX14) (T := TX14) 2 k_14 (by decide) vc_X14 in_X14 (by decide) q761 dX14_holds_31 (pc' := 34) rfl (v := va_rf (mgR M_7 b_12 2)) rfl ?_
          refine r_astore_nq C (lv' := [(2, va_rf (mgR M_7 b_12 2)), (3, .int r_8), (0, .ref a0), (1, .ref a1)]) dX14_holds_34 (pc' := 35) rfl rfl (Nat.le_of_ble_eq_true rfl) rfl ?_
          refine r_goto C dX14_holds_35 (tgt := 2) (by decide) ?_
          refine r_sub (lv' := [(0, .ref a0), (1, .ref a1), (2, va_rf (mgR M_7 b_12 2))]) [2, 3, 0] rfl ?_
          exact ih M_7 (mgR M_7 b_12 2) (mMo.kd m_9 k_a0 (by decide)) (mMo.kd m_9 k_a1 (by decide)) h (fun M9 w0 hm9 h9 => hX28 M9 w0 (mMo.tr m_9 hm9) h9) (fun M9 hm9 h9 => hX38 M9 (mMo.tr m_9 hm9) h9)
        · have h := it_t h c_11
          refine r_sub (lv' := [(3, .int r_8)]) [0] rfl ?_
          exact hX28 M_7 r_8 m_9 h
set_option maxHeartbeats 4000000 in
theorem S_X14_holds {D : DD} {l : Launch} {Rc : WT} {fd ld : Nat} (hRc : SndH D l Rc fd ld) {M : MM} {a0 : Nat} {a1 : Nat} {Post : Int32 → MM → Prop} (k_a0 : mkd M a0 = 12) (k_a1 : mkd M a1 = 2) (h : wp_X14_holds Rc M a0 a1 Post) : mMet D l yX14_holds cX14_holds 4 ((some .int)) { frames := fd + 2, cells := 0, slots := 0, locals := ld + 60 } M [.ref a0, .ref a1] (pI_ Post) := by
  refine m_of2 [(0, .ref a0), (1, .ref a1)] (by decide +kernel) (Nat.le_of_ble_eq_true rfl) rfl (fun E hED hEl C hE => ?_)
  subst hED
  subst hEl
  unfold wp_X14_holds at h
  have hb1 := hRc.1
  have hb2 := hRc.2.1
  refine r_aload_n C dX14_holds_0 (pc' := 1) rfl (j := 0) rfl ?_
  refine r_astore_n C (lv' := [(2, .ref a0), (0, .ref a0), (1, .ref a1)]) dX14_holds_1 (pc' := 2) rfl rfl a0 rfl (Nat.le_of_ble_eq_true rfl) rfl ?_
  obtain ⟨n_15, h⟩ := h
  refine r_sub (lv' := [(0, .ref a0), (1, .ref a1), (2, va_rf (some a0))]) [1, 2, 0] rfl ?_
  refine B_X14_holds_2 hRc C hE n_15 M (some a0) k_a0 k_a1 h (fun M_16 x3_18 m_17 h => ?_) (fun M_19 m_20 h => ?_)
  · refine r_iload_n C dX14_holds_28 (pc' := 29) rfl (j := 0) rfl ?_
    exact r_iret C hE (Nat.le_of_ble_eq_true rfl) (Nat.le_of_ble_eq_true rfl) dX14_holds_29 ⟨_, rfl, h⟩
  · refine r_iconst C dX14_holds_38 (pc' := 39) rfl (v := 1) rfl ?_
    refine r_aload_n C dX14_holds_39 (pc' := 40) rfl (j := 0) rfl ?_
    refine r_getf C (Cn := RX14) (T := TX14) 1 (mMo.kd m_20 k_a0 (by decide)) (by decide) vc_X14 in_X14 (by decide) q760 dX14_holds_40 (pc' := 43) rfl (v := .int (mgI M_19 a0 1)) rfl ?_
    refine r_isub C dX14_holds_43 (pc' := 44) rfl ?_
    exact r_iret C hE (Nat.le_of_ble_eq_true rfl) (Nat.le_of_ble_eq_true rfl) dX14_holds_44 ⟨_, rfl, h⟩
set_option maxHeartbeats 4000000 in
theorem S_X15_holds {D : DD} {l : Launch} {Rc : WT} {fd ld : Nat} (hRc : SndH D l Rc fd ld) {M : MM} {a0 : Nat} {a1 : Nat} {Post : Int32 → MM → Prop} (k_a0 : mkd M a0 = 13) (k_a1 : mkd M a1 = 2) (h : wp_X15_holds Rc M a0 a1 Post) : mMet D l yX15_holds cX15_holds 3 ((some .int)) { frames := fd + 2, cells := 0, slots := 0, locals := ld + 60 } M [.ref a0, .ref a1] (pI_ Post) := by
  refine m_of2 [(0, .ref a0), (1, .ref a1)] (by decide +kernel) (Nat.le_of_ble_eq_true rfl) rfl (fun E hED hEl C hE => ?_)
  subst hED
  subst hEl
  unfold wp_X15_holds at h
  have hb1 := hRc.1
  have hb2 := hRc.2.1
  refine r_aload_n C dX15_holds_0 (pc' := 1) rfl (j := 0) rfl ?_
  refine r_getf C (Cn := RX15) (T := TX15) 0 k_a0 (by decide) vc_X15 in_X15 (by decide) q735 dX15_holds_1 (pc' := 4) rfl (v := va_rf (mgR M a0 0)) rfl ?_
  refine r_aload_n C dX15_holds_4 (pc' := 5) rfl (j := 1) rfl ?_
  obtain ⟨b_1, e_2, h⟩ := h
  refine r_ref [.ref a1] e_2 ?_
  refine r_cH (rest := []) C hRc k_a1 h q869 (Nat.le_of_ble_eq_true rfl) (by dsimp only; omega) (by dsimp only; omega) (Nat.le_of_ble_eq_true rfl) (Nat.le_of_ble_eq_true rfl) dX15_holds_5 (pc' := 8) rfl (fun r_4 M_3 h m_5 => ?_)
  refine r_istore_n C (lv' := [(2, .int r_4), (0, .ref a0), (1, .ref a1)]) dX15_holds_8 (pc' := 9) rfl rfl r_4 rfl (Nat.le_of_ble_eq_true rfl) rfl ?_
  refine r_iload_n C dX15_holds_9 (pc' := 10) rfl (j := 0) rfl ?_
  refine r_iconst C dX15_holds_10 (pc' := 11) rfl (v := 2) rfl ?_
  refine r_icmp_ne C dX15_holds_11 (pc' := 14) rfl (tgt := 18) (by decide) (fun c_6 => ?_) (fun c_6 => ?_)
  · have h := it_f h c_6
    refine r_iconst C dX15_holds_18 (pc' := 19) rfl (v := 1) rfl ?_
    refine r_iload_n C dX15_holds_19 (pc' := 20) rfl (j := 0) rfl ?_
    refine r_isub C dX15_holds_20 (pc' := 21) rfl ?_
    exact r_iret C hE (Nat.le_of_ble_eq_true rfl) (Nat.le_of_ble_eq_true rfl) dX15_holds_21 ⟨_, rfl, h⟩
  · have h := it_t h c_6
    refine r_iconst C dX15_holds_14 (pc' := 15) rfl (v := 2) rfl ?_
    refine r_goto C dX15_holds_15 (tgt := 21) (by decide) ?_
    exact r_iret C hE (Nat.le_of_ble_eq_true rfl) (Nat.le_of_ble_eq_true rfl) dX15_holds_21 ⟨_, rfl, h⟩
set_option maxHeartbeats 4000000 in
theorem B_X16_holds_77 {E : mE} {Rc : WT} {fd ld : Nat} {M : MM} {a1 : Nat} {xs0 : Int32} {Post : Int32 → MM → Prop} (hRc : SndH E.2.1 E.1.2.1 Rc fd ld) (C : mC E yX16_holds cX16_holds 5 ((some .int)) { frames := fd + 2, cells := 0, slots := 0, locals := ld + 60 }) (hE : mEnd E { frames := fd + 2, cells := 0, slots := 0, locals := ld + 60 } (pI_ Post)) (k_a1 : mkd M a1 = 2) (h : wb_X16_holds_77 Rc M a1 xs0 Post) : mV E M 0 0 77 [(1, .ref a1)] [.int xs0] := by
  unfold wb_X16_holds_77 at h
  have hb1 := hRc.1
  have hb2 := hRc.2.1
  refine r_istore C (lv' := [(4, .int xs0), (1, .ref a1)]) dX16_holds_77 (pc' := 79) rfl xs0 rfl (Nat.le_of_ble_eq_true rfl) rfl ?_
  refine r_aload_n C dX16_holds_79 (pc' := 80) rfl (j := 1) rfl ?_
  refine r_getfN C (Cn := RX2) (T := TX2) 0 k_a1 (by decide) vc_X2 in_X2 (by decide) (List.mem_of_getElem? (i := 26) rfl) dX16_holds_80 (pc' := 83) rfl (v := .int (mgI M a1 0)) rfl ?_
  refine r_if_eq C dX16_holds_83 (pc' := 86) rfl (tgt := 90) (by decide) (fun c_16 => ?_) (fun c_16 => ?_)
  · have h := it_t h c_16
    refine r_iload C dX16_holds_90 (pc' := 92) rfl (j := 0) rfl ?_
    refine r_if_eq C dX16_holds_92 (pc' := 95) rfl (tgt := 99) (by decide) (fun c_17 => ?_) (fun c_17 => ?_)
    · have h := it_t h c_17
      refine r_iconst C dX16_holds_99 (pc' := 100) rfl (v := 0) rfl ?_
      exact r_iret C hE (Nat.le_of_ble_eq_true rfl) (Nat.le_of_ble_eq_true rfl) dX16_holds_100 ⟨_, rfl, h⟩
    · have h := it_f h c_17
      refine r_iconst C dX16_holds_95 (pc' := 96) rfl (v := 1) rfl ?_
      refine r_goto C dX16_holds_96 (tgt := 100) (by decide) ?_
      exact r_iret C hE (Nat.le_of_ble_eq_true rfl) (Nat.le_of_ble_eq_true rfl) dX16_holds_100 ⟨_, rfl, h⟩
  · have h := it_f h c_16
    refine r_iconst C dX16_holds_86 (pc' := 87) rfl (v := 2) rfl ?_
    refine r_goto C dX16_holds_87 (tgt := 100) (by decide) ?_
    exact r_iret C hE (Nat.le_of_ble_eq_true rfl) (Nat.le_of_ble_eq_true rfl) dX16_holds_100 ⟨_, rfl, h⟩
set_option maxHeartbeats 4000000 in
theorem S_X16_holds {D : DD} {l : Launch} {Rc : WT} {fd ld : Nat} (hRc : SndH D l Rc fd ld) {M : MM} {a0 : Nat} {a1 : Nat} {Post : Int32 → MM → Prop} (k_a0 : mkd M a0 = 14) (k_a1 : mkd M a1 = 2) (h : wp_X16_holds Rc M a0 a1 Post) : mMet D l yX16_holds cX16_holds 5 ((some .int)) { frames := fd + 2, cells := 0, slots := 0, locals := ld + 60 } M [.ref a0, .ref a1] (pI_ Post) := by
  refine m_of2 [(0, .ref a0), (1, .ref a1)] (by decide +kernel) (Nat.le_of_ble_eq_true rfl) rfl (fun E hED hEl C hE => ?_)
  subst hED
  subst hEl
  unfold wp_X16_holds at h
  have hb1 := hRc.1
  have hb2 := hRc.2.1
  refine r_aload_n C dX16_holds_0 (pc' := 1) rfl (j := 1) rfl ?_
  refine r_iconst C dX16_holds_1 (pc' := 2) rfl (v := 0) rfl ?_
  obtain ⟨M_1, e_2, h⟩ := bn_ h
  refine r_putIN C (Cn := RX2) (T := TX2) tyX2 0 k_a1 (by decide) vc_X2 in_X2 tyX2_ok nmX2 (by decide) (List.mem_of_getElem? (i := 26) rfl) rfl rfl dX16_holds_2 (pc' := 5) rfl rfl rfl M_1 e_2 ?_
  refine r_aload_n C dX16_holds_5 (pc' := 6) rfl (j := 0) rfl ?_
  refine r_getf C (Cn := RX16) (T := TX16) 0 (mMo.kd (mo_I e_2) k_a0 (by decide)) (by decide) vc_X16 in_X16 (by decide) q745 dX16_holds_6 (pc' := 9) rfl (v := va_rf (mgR M_1 a0 0)) rfl ?_
  refine r_aload_n C dX16_holds_9 (pc' := 10) rfl (j := 1) rfl ?_
  obtain ⟨b_3, e_4, h⟩ := h
  refine r_ref [.ref a1] e_4 ?_
  refine r_cW (rest := []) C (sndW 40) (mMo.kd (mo_I e_2) k_a1 (by decide)) h q844 (Nat.le_of_ble_eq_true rfl) (by dsimp only; omega) (by dsimp only; omega) (Nat.le_of_ble_eq_true rfl) (Nat.le_of_ble_eq_true rfl) dX16_holds_10 (pc' := 13) rfl (fun r_6 M_5 h m_7 => ?_)
  refine r_istore_n C (lv' := [(2, .int r_6), (0, .ref a0), (1, .ref a1)]) dX16_holds_13 (pc' := 14) rfl rfl r_6 rfl (Nat.le_of_ble_eq_true rfl) rfl ?_
  refine r_aload_n C dX16_holds_14 (pc' := 15) rfl (j := 1) rfl ?_
  refine r_getf C (Cn := RX16) (T := TX16) 1 (mMo.kd m_7 (mMo.kd (mo_I e_2) k_a0 (by decide)) (by decide)) (by decide) vc_X16 in_X16 (by decide) q746 dX16_holds_15 (pc' := 18) rfl (v := va_rf (mgR M_5 a0 1)) rfl ?_
  refine r_aload_n C dX16_holds_18 (pc' := 19) rfl (j := 2) rfl ?_
  obtain ⟨b_8, e_9, h⟩ := h
  refine r_ref [.ref a1] e_9 ?_
  refine r_cW (rest := []) C (sndW 40) (mMo.kd m_7 (mMo.kd (mo_I e_2) k_a1 (by decide)) (by decide)) h q844 (Nat.le_of_ble_eq_true rfl) (by dsimp only; omega) (by dsimp only; omega) (Nat.le_of_ble_eq_true rfl) (Nat.le_of_ble_eq_true rfl) dX16_holds_19 (pc' := 22) rfl (fun r_11 M_10 h m_12 => ?_)
  refine r_istore_n C (lv' := [(3, .int r_11), (2, .int r_6), (0, .ref a0), (1, .ref a1)]) dX16_holds_22 (pc' := 23) rfl rfl r_11 rfl (Nat.le_of_ble_eq_true rfl) rfl ?_
  refine r_aload_n C dX16_holds_23 (pc' := 24) rfl (j := 2) rfl ?_
  refine r_getf C (Cn := RX16) (T := TX16) 2 (mMo.kd m_12 (mMo.kd m_7 (mMo.kd (mo_I e_2) k_a0 (by decide)) (by decide)) (by decide)) (by decide) vc_X16 in_X16 (by decide) q747 dX16_holds_24 (pc' := 27) rfl (v := .int (mgI M_10 a0 2)) rfl ?_
  refine r_bipush C dX16_holds_27 (pc' := 29) rfl (v := 60) rfl ?_
  refine r_icmp_ne C dX16_holds_29 (pc' := 32) rfl (tgt := 45) (by decide) (fun c_13 => ?_) (fun c_13 => ?_)
  · have h := it_f h c_13
    refine r_aload_n C dX16_holds_45 (pc' := 46) rfl (j := 2) rfl ?_
    refine r_getf C (Cn := RX16) (T := TX16) 2 (mMo.kd m_12 (mMo.kd m_7 (mMo.kd (mo_I e_2) k_a0 (by decide)) (by decide)) (by decide)) (by decide) vc_X16 in_X16 (by decide) q747 dX16_holds_46 (pc' := 49) rfl (v := .int (mgI M_10 a0 2)) rfl ?_
    refine r_bipush C dX16_holds_49 (pc' := 51) rfl (v := 62) rfl ?_
    refine r_icmp_ne C dX16_holds_51 (pc' := 54) rfl (tgt := 67) (by decide) (fun c_14 => ?_) (fun c_14 => ?_)
    · have h := it_f h c_14
      refine r_iload_n C dX16_holds_67 (pc' := 68) rfl (j := 1) rfl ?_
      refine r_iload_n C dX16_holds_68 (pc' := 69) rfl (j := 0) rfl ?_
      refine r_icmp_ne C dX16_holds_69 (pc' := 72) rfl (tgt := 76) (by decide) (fun c_15 => ?_) (fun c_15 => ?_)
      · have h := it_f h c_15
        refine r_iconst C dX16_holds_76 (pc' := 77) rfl (v := 0) rfl ?_
        refine r_sub (lv' := [(1, .ref a1)]) [3] rfl ?_
        exact B_X16_holds_77 hRc C hE (mMo.kd m_12 (mMo.kd m_7 (mMo.kd (mo_I e_2) k_a1 (by decide)) (by decide)) (by decide)) h
      · have h := it_t h c_15
        refine r_iconst C dX16_holds_72 (pc' := 73) rfl (v := 1) rfl ?_
        refine r_goto C dX16_holds_73 (tgt := 77) (by decide) ?_
        refine r_sub (lv' := [(1, .ref a1)]) [3] rfl ?_
        exact B_X16_holds_77 hRc C hE (mMo.kd m_12 (mMo.kd m_7 (mMo.kd (mo_I e_2) k_a1 (by decide)) (by decide)) (by decide)) h
    · have h := it_t h c_14
      refine r_iload_n C dX16_holds_54 (pc' := 55) rfl (j := 1) rfl ?_
      refine r_iload_n C dX16_holds_55 (pc' := 56) rfl (j := 0) rfl ?_
      refine r_icmp_le C dX16_holds_56 (pc' := 59) rfl (tgt := 63) (by decide) (fun c_18 => ?_) (fun c_18 => ?_)
      · have h := it_t h c_18
        refine r_iconst C dX16_holds_63 (pc' := 64) rfl (v := 0) rfl ?_
        refine r_goto C dX16_holds_64 (tgt := 77) (by decide) ?_
        refine r_sub (lv' := [(1, .ref a1)]) [3] rfl ?_
        exact B_X16_holds_77 hRc C hE (mMo.kd m_12 (mMo.kd m_7 (mMo.kd (mo_I e_2) k_a1 (by decide)) (by decide)) (by decide)) h
      · have h := it_f h c_18
        refine r_iconst C dX16_holds_59 (pc' := 60) rfl (v := 1) rfl ?_
        refine r_goto C dX16_holds_60 (tgt := 77) (by decide) ?_
        refine r_sub (lv' := [(1, .ref a1)]) [3] rfl ?_
        exact B_X16_holds_77 hRc C hE (mMo.kd m_12 (mMo.kd m_7 (mMo.kd (mo_I e_2) k_a1 (by decide)) (by decide)) (by decide)) h
  · have h := it_t h c_13
    refine r_iload_n C dX16_holds_32 (pc' := 33) rfl (j := 1) rfl ?_
    refine r_iload_n C dX16_holds_33 (pc' := 34) rfl (j := 0) rfl ?_
    refine r_icmp_ge C dX16_holds_34 (pc' := 37) rfl (tgt := 41) (by decide) (fun c_19 => ?_) (fun c_19 => ?_)
    · have h := it_t h c_19
      refine r_iconst C dX16_holds_41 (pc' := 42) rfl (v := 0) rfl ?_
      refine r_goto C dX16_holds_42 (tgt := 77) (by decide) ?_
      refine r_sub (lv' := [(1, .ref a1)]) [3] rfl ?_
      exact B_X16_holds_77 hRc C hE (mMo.kd m_12 (mMo.kd m_7 (mMo.kd (mo_I e_2) k_a1 (by decide)) (by decide)) (by decide)) h
    · have h := it_f h c_19
      refine r_iconst C dX16_holds_37 (pc' := 38) rfl (v := 1) rfl ?_
      refine r_goto C dX16_holds_38 (tgt := 77) (by decide) ?_
      refine r_sub (lv' := [(1, .ref a1)]) [3] rfl ?_
      exact B_X16_holds_77 hRc C hE (mMo.kd m_12 (mMo.kd m_7 (mMo.kd (mo_I e_2) k_a1 (by decide)) (by decide)) (by decide)) h
theorem sndH {D : DD} {l : Launch} : ∀ d, SndH D l (wpH d) (120 + 2 * d) (3000 + 60 * d) := by
  intro d
  induction d with
  | zero => exact ⟨by omega, by omega, fun _ h => absurd h (fun q => q)⟩
  | succ d ih =>
    refine ⟨by omega, by omega, fun {M b q P} hq h => ?_⟩
    rcases h with ⟨hk, h⟩ | ⟨hk, h⟩ | ⟨hk, h⟩
    · exact Or.inl ⟨hk, S_X14_holds ih hk hq h⟩
    · exact Or.inr (Or.inl ⟨hk, S_X15_holds ih hk hq h⟩)
    · exact Or.inr (Or.inr ⟨hk, S_X16_holds ih hk hq h⟩)

theorem hd_X9_told : mHd yX9_told 1 := ⟨by decide, by decide, by decide +kernel⟩
set_option maxHeartbeats 4000000 in
theorem S_X9_told {D : DD} {l : Launch} {M : MM} {a0 : Nat} {a1 : Nat} {Post : Int32 → MM → Prop} (k_a1 : mkd M a1 = 2) (h : wp_X9_told M a0 a1 Post) : mMet D l yX9_told cX9_told 3 ((some .int)) { frames := 101, cells := 0, slots := 0, locals := 2731 } M [.ref a0, .ref a1] (pI_ Post) := by
  refine m_of2 [(0, .ref a0), (1, .ref a1)] (by decide +kernel) (Nat.le_of_ble_eq_true rfl) rfl (fun E hED hEl C hE => ?_)
  subst hED
  subst hEl
  unfold wp_X9_told at h
  refine r_aload_n C dX9_told_0 (pc' := 1) rfl (j := 1) rfl ?_
  refine r_iconst C dX9_told_1 (pc' := 2) rfl (v := 0) rfl ?_
  obtain ⟨M_1, e_2, h⟩ := bn_ h
  refine r_putIN C (Cn := RX2) (T := TX2) tyX2 0 k_a1 (by decide) vc_X2 in_X2 tyX2_ok nmX2 (by decide) (List.mem_of_getElem? (i := 49) rfl) rfl rfl dX9_told_2 (pc' := 5) rfl rfl rfl M_1 e_2 ?_
  refine r_aload_n C dX9_told_5 (pc' := 6) rfl (j := 0) rfl ?_
  refine r_aload_n C dX9_told_6 (pc' := 7) rfl (j := 1) rfl ?_
  refine r_cW (rest := []) C (sndW 40) (mMo.kd (mo_I e_2) k_a1 (by decide)) h q881 (Nat.le_of_ble_eq_true rfl) (Nat.le_of_ble_eq_true rfl) (Nat.le_of_ble_eq_true rfl) (Nat.le_of_ble_eq_true rfl) (Nat.le_of_ble_eq_true rfl) dX9_told_7 (pc' := 10) rfl (fun r_6 M_5 h m_7 => ?_)
  refine r_istore_n C (lv' := [(2, .int r_6), (0, .ref a0), (1, .ref a1)]) dX9_told_10 (pc' := 11) rfl rfl r_6 rfl (Nat.le_of_ble_eq_true rfl) rfl ?_
  refine r_aload_n C dX9_told_11 (pc' := 12) rfl (j := 2) rfl ?_
  refine r_getfN C (Cn := RX2) (T := TX2) 0 (mMo.kd m_7 (mMo.kd (mo_I e_2) k_a1 (by decide)) (by decide)) (by decide) vc_X2 in_X2 (by decide) (List.mem_of_getElem? (i := 49) rfl) dX9_told_12 (pc' := 15) rfl (v := .int (mgI M_5 a1 0)) rfl ?_
  refine r_if_eq C dX9_told_15 (pc' := 18) rfl (tgt := 22) (by decide) (fun c_8 => ?_) (fun c_8 => ?_)
  · have h := it_t h c_8
    refine r_iload_n C dX9_told_22 (pc' := 23) rfl (j := 0) rfl ?_
    exact r_iret C hE (Nat.le_of_ble_eq_true rfl) (Nat.le_of_ble_eq_true rfl) dX9_told_23 ⟨_, rfl, h⟩
  · have h := it_f h c_8
    refine r_iconst C dX9_told_18 (pc' := 19) rfl (v := 0) rfl ?_
    refine r_goto C dX9_told_19 (tgt := 23) (by decide) ?_
    exact r_iret C hE (Nat.le_of_ble_eq_true rfl) (Nat.le_of_ble_eq_true rfl) dX9_told_23 ⟨_, rfl, h⟩
theorem sndT {D : DD} {l : Launch} : SndT D l wpT 101 2731 := fun hq h => ⟨h.1, S_X9_told hq h.2⟩

theorem r_cT {E : mE} {y : MethodName} {cc : ByteArray} {nL : Nat} {ret : Option FieldType} {rm : Room} {M : MM} {k n pc : Nat} {lv : List (Nat × Value)} {rest : List Value} {idx fd ld : Nat} {Rc : WT} {b q : Nat} {P : Int32 → MM → Prop} (C : mC E y cc nL ret rm) (hS : SndT E.2.1 E.1.2.1 Rc fd ld) (hq : mkd M q = 2) (h : Rc M b q P) (hlink : Cond.methodLink y.cls idx ⟨"LandingTree$Sum", "told", "(LLandingTree$Asked;)I"⟩ ∈ lw_all) (hcat : (rest.map fun v => v.category).sum ≤ 8) (hfr : fd + 1 ≤ rm.frames) (hlo : 8 + (7 + 11) + ld ≤ rm.locals) (hk1 : k ≤ rm.cells) (hn1 : n ≤ rm.slots) (hd : decode cc pc = .ok (.invokevirtual idx, 3)) {pc' : Nat} (hp : pc + 3 = pc') (K : ∀ (x : Int32) (M' : MM), P x M' → mMo M M' → mV E M' k n pc' lv (.int x :: rest)) : mV E M k n pc lv (.ref q :: .ref b :: rest) := by
  obtain ⟨hk, hM⟩ := hS hq h
  rcases hk with hk | hk | hk
  · exact r_callHi (n2 := 1) (As := [.ref q]) (rest := rest) (Cn := RX10) (T := TX10) C hk (by decide) vc_X10 hM (lw_U hlink q876 q879 q875 q120 q880) ⟨by decide, by decide, by decide +kernel⟩ rfl rfl hcat hfr (by show 8 + (3 + 11) + ld ≤ _; omega) rfl rfl hk1 hn1 hd hp K
  · exact r_callHi (n2 := 1) (As := [.ref q]) (rest := rest) (Cn := RX11) (T := TX11) C hk (by decide) vc_X11 hM (lw_U hlink q876 q878 q875 q120 q880) ⟨by decide, by decide, by decide +kernel⟩ rfl rfl hcat hfr (by show 8 + (3 + 11) + ld ≤ _; omega) rfl rfl hk1 hn1 hd hp K
  · exact r_callHi (n2 := 1) (As := [.ref q]) (rest := rest) (Cn := RX12) (T := TX12) C hk (by decide) vc_X12 hM (lw_U hlink q876 q877 q875 q120 q880) ⟨by decide, by decide, by decide +kernel⟩ rfl rfl hcat hfr (by show 8 + (3 + 11) + ld ≤ _; omega) rfl rfl hk1 hn1 hd hp K

theorem hd_X6_tells : mHd yX6_tells 2 := ⟨by decide, by decide, by decide +kernel⟩
set_option maxHeartbeats 4000000 in
theorem B_X6_tells_2 {E : mE} {a0 : Nat} {x1 : Int32} {a2 : Nat} {X34 : MM → Int32 → Prop} {X51 : MM → Prop} {Post : Int32 → MM → Prop} (C : mC E yX6_tells cX6_tells 4 ((some .int)) { frames := 201, cells := 0, slots := 0, locals := 5431 }) (hE : mEnd E { frames := 201, cells := 0, slots := 0, locals := 5431 } (pI_ Post)) : ∀ (n_ : Nat) (M : MM) (x3 : Int32), mkd M a0 = 6 → mkd M a2 = 2 → wl_X6_tells_2 a0 x1 a2 X34 X51 n_ M x3 → (∀ (M' : MM) (x3' : Int32), mMo M M' → X34 M' x3' → mV E M' 0 0 34 [(0, .ref a0), (2, .ref a2), (3, .int x3')] []) → (∀ (M' : MM), mMo M M' → X51 M' → mV E M' 0 0 51 [] []) → mV E M 0 0 2 [(0, .ref a0), (1, .int x1), (2, .ref a2), (3, .int x3)] [] := by
  intro n_
  induction n_ with
  | zero =>
    intro M x3 k_a0 k_a2 h hX34 hX51
    exact absurd h (by rw [wl_X6_tells_2]; exact fun q => q)
  | succ n_ ih =>
    intro M x3 k_a0 k_a2 h hX34 hX51
    rw [wl_X6_tells_2] at h
    refine r_iload_n C dX6_tells_2 (pc' := 3) rfl (j := 3) rfl ?_
    refine r_aload_n C dX6_tells_3 (pc' := 4) rfl (j := 0) rfl ?_
    refine r_getf C (Cn := RX6) (T := TX6) 3 k_a0 (by decide) vc_X6 in_X6 (by decide) q331 dX6_tells_4 (pc' := 7) rfl (v := .int (mgI M a0 3)) rfl ?_
    refine r_icmp_ge C dX6_tells_7 (pc' := 10) rfl (tgt := 51) (by decide) (fun c_1 => ?_) (fun c_1 => ?_)
    · have h := it_t h c_1
      refine r_sub (lv' := []) [] rfl ?_
      exact hX51 M mMo.rf h
    · have h := it_f h c_1
      refine r_aload_n C dX6_tells_10 (pc' := 11) rfl (j := 0) rfl ?_
      refine r_getf C (Cn := RX6) (T := TX6) 0 k_a0 (by decide) vc_X6 in_X6 (by decide) q325 dX6_tells_11 (pc' := 14) rfl (v := va_rf (mgR M a0 0)) rfl ?_
      obtain ⟨b_2, e_3, k_4, h⟩ := h
      refine r_ref [] e_3 ?_
      refine r_iload_n C dX6_tells_14 (pc' := 15) rfl (j := 3) rfl ?_
      obtain ⟨c_5, h⟩ := h
      refine r_iald C (j := (ix_ x3)) k_4 c_5 rfl dX6_tells_15 (pc' := 16) rfl ?_
      refine r_iload_n C dX6_tells_16 (pc' := 17) rfl (j := 1) rfl ?_
      refine r_icmp_ne C dX6_tells_17 (pc' := 20) rfl (tgt := 45) (by decide) (fun c_6 => ?_) (fun c_6 => ?_)
      · have h := it_f h c_6
        obtain ⟨x3_7, e_8, h⟩ := bn_ h
        refine r_iinc C (lv' := [(3, .int x3_7), (0, .ref a0), (1, .int x1), (2, .ref a2)]) dX6_tells_45 (pc' := 48) rfl (j := 3) rfl x3_7 (by rw [e_8]; rfl) (Nat.le_of_ble_eq_true rfl) rfl ?_
        refine r_goto C dX6_tells_48 (tgt := 2) (by decide) ?_
        refine r_sub (lv' := [(0, .ref a0), (1, .int x1), (2, .ref a2), (3, .int x3_7)]) [1, 2, 3, 0] rfl ?_
        exact ih M x3_7 k_a0 k_a2 h (fun M9 w0 hm9 h9 => hX34 M9 w0 hm9 h9) (fun M9 hm9 h9 => hX51 M9 hm9 h9)
      · have h := it_t h c_6
        refine r_aload_n C dX6_tells_20 (pc' := 21) rfl (j := 0) rfl ?_
        refine r_getf C (Cn := RX6) (T := TX6) 2 k_a0 (by decide) vc_X6 in_X6 (by decide) q329 dX6_tells_21 (pc' := 24) rfl (v := va_rf (mgR M a0 2)) rfl ?_
        obtain ⟨b_9, e_10, k_11, h⟩ := h
        refine r_ref [] e_10 ?_
        refine r_iload_n C dX6_tells_24 (pc' := 25) rfl (j := 3) rfl ?_
        obtain ⟨c_12, h⟩ := h
        refine r_aald C (t := 7) (j := (ix_ x3)) k_11 (by decide) rfl rfl c_12 rfl dX6_tells_25 (pc' := 26) rfl ?_
        refine r_aload_n C dX6_tells_26 (pc' := 27) rfl (j := 2) rfl ?_
        obtain ⟨b_13, e_14, h⟩ := h
        refine r_ref [.ref a2] e_14 ?_
        refine r_cH (rest := []) C (sndH 40) k_a2 h q838 (Nat.le_of_ble_eq_true rfl) (Nat.le_of_ble_eq_true rfl) (Nat.le_of_ble_eq_true rfl) (Nat.le_of_ble_eq_true rfl) (Nat.le_of_ble_eq_true rfl) dX6_tells_27 (pc' := 30) rfl (fun r_16 M_15 h m_17 => ?_)
        refine r_iconst C dX6_tells_30 (pc' := 31) rfl (v := 1) rfl ?_
        refine r_icmp_ne C dX6_tells_31 (pc' := 34) rfl (tgt := 45) (by decide) (fun c_18 => ?_) (fun c_18 => ?_)
        · have h := it_f h c_18
          obtain ⟨x3_19, e_20, h⟩ := bn_ h
          refine r_iinc C (lv' := [(3, .int x3_19), (0, .ref a0), (1, .int x1), (2, .ref a2)]) dX6_tells_45 (pc' := 48) rfl (j := 3) rfl x3_19 (by rw [e_20]; rfl) (Nat.le_of_ble_eq_true rfl) rfl ?_
          refine r_goto C dX6_tells_48 (tgt := 2) (by decide) ?_
          refine r_sub (lv' := [(0, .ref a0), (1, .int x1), (2, .ref a2), (3, .int x3_19)]) [1, 2, 3, 0] rfl ?_
          exact ih M_15 x3_19 (mMo.kd m_17 k_a0 (by decide)) (mMo.kd m_17 k_a2 (by decide)) h (fun M9 w0 hm9 h9 => hX34 M9 w0 (mMo.tr m_17 hm9) h9) (fun M9 hm9 h9 => hX51 M9 (mMo.tr m_17 hm9) h9)
        · have h := it_t h c_18
          refine r_sub (lv' := [(0, .ref a0), (2, .ref a2), (3, .int x3)]) [0, 2, 3] rfl ?_
          exact hX34 M_15 x3 m_17 h
set_option maxHeartbeats 4000000 in
theorem S_X6_tells {D : DD} {l : Launch} {M : MM} {a0 : Nat} {x1 : Int32} {a2 : Nat} {Post : Int32 → MM → Prop} (k_a0 : mkd M a0 = 6) (k_a2 : mkd M a2 = 2) (h : wp_X6_tells M a0 x1 a2 Post) : mMet D l yX6_tells cX6_tells 4 ((some .int)) { frames := 201, cells := 0, slots := 0, locals := 5431 } M [.ref a0, .int x1, .ref a2] (pI_ Post) := by
  refine m_of2 [(0, .ref a0), (1, .int x1), (2, .ref a2)] (by decide +kernel) (Nat.le_of_ble_eq_true rfl) rfl (fun E hED hEl C hE => ?_)
  subst hED
  subst hEl
  unfold wp_X6_tells at h
  refine r_iconst C dX6_tells_0 (pc' := 1) rfl (v := 0) rfl ?_
  refine r_istore_n C (lv' := [(3, .int (0 : Int32)), (0, .ref a0), (1, .int x1), (2, .ref a2)]) dX6_tells_1 (pc' := 2) rfl rfl (0 : Int32) rfl (Nat.le_of_ble_eq_true rfl) rfl ?_
  obtain ⟨n_21, h⟩ := h
  refine r_sub (lv' := [(0, .ref a0), (1, .int x1), (2, .ref a2), (3, .int (0 : Int32))]) [1, 2, 3, 0] rfl ?_
  refine B_X6_tells_2 C hE n_21 M (0 : Int32) k_a0 k_a2 h (fun M_22 x3_24 m_23 h => ?_) (fun M_34 m_35 h => ?_)
  · refine r_aload_n C dX6_tells_34 (pc' := 35) rfl (j := 0) rfl ?_
    refine r_getf C (Cn := RX6) (T := TX6) 1 (mMo.kd m_23 k_a0 (by decide)) (by decide) vc_X6 in_X6 (by decide) q327 dX6_tells_35 (pc' := 38) rfl (v := va_rf (mgR M_22 a0 1)) rfl ?_
    obtain ⟨b_25, e_26, k_27, h⟩ := h
    refine r_ref [] e_26 ?_
    refine r_iload_n C dX6_tells_38 (pc' := 39) rfl (j := 2) rfl ?_
    obtain ⟨c_28, h⟩ := h
    refine r_aald C (t := 6) (j := (ix_ x3_24)) k_27 (by decide) rfl rfl c_28 rfl dX6_tells_39 (pc' := 40) rfl ?_
    refine r_aload_n C dX6_tells_40 (pc' := 41) rfl (j := 1) rfl ?_
    obtain ⟨b_29, e_30, h⟩ := h
    refine r_ref [.ref a2] e_30 ?_
    refine r_cT (rest := []) C sndT (mMo.kd m_23 k_a2 (by decide)) h q874 (Nat.le_of_ble_eq_true rfl) (Nat.le_of_ble_eq_true rfl) (Nat.le_of_ble_eq_true rfl) (Nat.le_of_ble_eq_true rfl) (Nat.le_of_ble_eq_true rfl) dX6_tells_41 (pc' := 44) rfl (fun r_32 M_31 h m_33 => ?_)
    exact r_iret C hE (Nat.le_of_ble_eq_true rfl) (Nat.le_of_ble_eq_true rfl) dX6_tells_44 ⟨_, rfl, h⟩
  · refine r_iconst C dX6_tells_51 (pc' := 52) rfl (v := 0) rfl ?_
    exact r_iret C hE (Nat.le_of_ble_eq_true rfl) (Nat.le_of_ble_eq_true rfl) dX6_tells_52 ⟨_, rfl, h⟩
theorem hd_X2_tells : mHd yX2_tells 2 := ⟨by decide, by decide, by decide +kernel⟩
theorem hd_X2_givesBy : mHd yX2_givesBy 1 := ⟨by decide, by decide, by decide +kernel⟩
set_option maxHeartbeats 4000000 in
theorem S_X2_tells {D : DD} {l : Launch} {M : MM} {a0 : Nat} {x1 : Int32} {x2 : Int32} {Post : Int32 → MM → Prop} (k_a0 : mkd M a0 = 2) (h : wp_X2_tells M a0 x1 x2 Post) : mMet D l yX2_tells cX2_tells 3 ((some .int)) { frames := 202, cells := 0, slots := 0, locals := 5454 } M [.ref a0, .int x1, .int x2] (pI_ Post) := by
  refine m_of2 [(0, .ref a0), (1, .int x1), (2, .int x2)] (by decide +kernel) (Nat.le_of_ble_eq_true rfl) rfl (fun E hED hEl C hE => ?_)
  subst hED
  subst hEl
  unfold wp_X2_tells at h
  refine r_aload_n C dX2_tells_0 (pc' := 1) rfl (j := 0) rfl ?_
  refine r_getf C (Cn := RX2) (T := TX2) 13 k_a0 (by decide) vc_X2 in_X2 (by decide) q159 dX2_tells_1 (pc' := 4) rfl (v := va_rf (mgR M a0 13)) rfl ?_
  obtain ⟨b_1, e_2, k_3, h⟩ := h
  refine r_ref [] e_2 ?_
  refine r_getfN C (Cn := RX0) (T := TX0) 6 k_3 (by decide) vc_X0 in_X0 (by decide) (List.mem_of_getElem? (i := 39) rfl) dX2_tells_4 (pc' := 7) rfl (v := va_rf (mgR M b_1 6)) rfl ?_
  obtain ⟨b_4, e_5, k_6, h⟩ := h
  refine r_ref [] e_5 ?_
  refine r_iload_n C dX2_tells_7 (pc' := 8) rfl (j := 1) rfl ?_
  refine r_aload_n C dX2_tells_8 (pc' := 9) rfl (j := 0) rfl ?_
  refine r_callVi (As := [.int x1, .ref a0]) (rest := []) (Cn := RX6) (T := TX6) C k_6 (by decide) vc_X6 (S_X6_tells k_6 k_a0 h) (lw_V q834 q835 q836 q111 q837) rfl hd_X6_tells rfl rfl (Nat.le_of_ble_eq_true rfl) (Nat.le_of_ble_eq_true rfl) (Nat.le_of_ble_eq_true rfl) rfl rfl (Nat.le_of_ble_eq_true rfl) (Nat.le_of_ble_eq_true rfl) dX2_tells_9 (pc' := 12) rfl (fun r_8 M_7 h m_9 => ?_)
  refine r_iload_n C dX2_tells_12 (pc' := 13) rfl (j := 2) rfl ?_
  refine r_callSNi (As := [.int r_8, .int x2]) (rest := []) C (S_X0_held h) q884 q105 (List.mem_of_getElem? (i := 8) rfl) q883 hd_X0_held rfl rfl (Nat.le_of_ble_eq_true rfl) (Nat.le_of_ble_eq_true rfl) (Nat.le_of_ble_eq_true rfl) rfl rfl (Nat.le_of_ble_eq_true rfl) (Nat.le_of_ble_eq_true rfl) dX2_tells_13 (pc' := 16) rfl (fun r_11 M_10 h m_12 => ?_)
  exact r_iret C hE (Nat.le_of_ble_eq_true rfl) (Nat.le_of_ble_eq_true rfl) dX2_tells_16 ⟨_, rfl, h⟩
set_option maxHeartbeats 4000000 in
theorem S_X2_givesBy {D : DD} {l : Launch} {M : MM} {a0 : Nat} {x1 : Int32} {Post : Int32 → MM → Prop} (k_a0 : mkd M a0 = 2) (h : wp_X2_givesBy M a0 x1 Post) : mMet D l yX2_givesBy cX2_givesBy 2 ((some .int)) { frames := 202, cells := 0, slots := 0, locals := 5454 } M [.ref a0, .int x1] (pI_ Post) := by
  refine m_of2 [(0, .ref a0), (1, .int x1)] (by decide +kernel) (Nat.le_of_ble_eq_true rfl) rfl (fun E hED hEl C hE => ?_)
  subst hED
  subst hEl
  unfold wp_X2_givesBy at h
  refine r_aload_n C dX2_givesBy_0 (pc' := 1) rfl (j := 0) rfl ?_
  refine r_getf C (Cn := RX2) (T := TX2) 13 k_a0 (by decide) vc_X2 in_X2 (by decide) q159 dX2_givesBy_1 (pc' := 4) rfl (v := va_rf (mgR M a0 13)) rfl ?_
  obtain ⟨b_1, e_2, k_3, h⟩ := h
  refine r_ref [] e_2 ?_
  refine r_getfN C (Cn := RX0) (T := TX0) 5 k_3 (by decide) vc_X0 in_X0 (by decide) (List.mem_of_getElem? (i := 40) rfl) dX2_givesBy_4 (pc' := 7) rfl (v := va_rf (mgR M b_1 5)) rfl ?_
  obtain ⟨b_4, e_5, k_6, h⟩ := h
  refine r_ref [] e_5 ?_
  refine r_iload_n C dX2_givesBy_7 (pc' := 8) rfl (j := 1) rfl ?_
  obtain ⟨c_7, h⟩ := h
  refine r_aald C (t := 5) (j := (ix_ x1)) k_6 (by decide) rfl rfl c_7 rfl dX2_givesBy_8 (pc' := 9) rfl ?_
  refine r_ifnonnull C dX2_givesBy_9 (pc' := 12) rfl (tgt := 16) (by decide) (fun c_8 => ?_) (fun c_8 => ?_)
  · have h := it_f h c_8
    refine r_aload_n C dX2_givesBy_16 (pc' := 17) rfl (j := 0) rfl ?_
    refine r_getf C (Cn := RX2) (T := TX2) 13 k_a0 (by decide) vc_X2 in_X2 (by decide) q159 dX2_givesBy_17 (pc' := 20) rfl (v := va_rf (mgR M a0 13)) rfl ?_
    obtain ⟨b_9, e_10, k_11, h⟩ := h
    refine r_ref [] e_10 ?_
    refine r_getfN C (Cn := RX0) (T := TX0) 5 k_11 (by decide) vc_X0 in_X0 (by decide) (List.mem_of_getElem? (i := 40) rfl) dX2_givesBy_20 (pc' := 23) rfl (v := va_rf (mgR M b_9 5)) rfl ?_
    obtain ⟨b_12, e_13, k_14, h⟩ := h
    refine r_ref [] e_13 ?_
    refine r_iload_n C dX2_givesBy_23 (pc' := 24) rfl (j := 1) rfl ?_
    obtain ⟨c_15, h⟩ := h
    refine r_aald C (t := 5) (j := (ix_ x1)) k_14 (by decide) rfl rfl c_15 rfl dX2_givesBy_24 (pc' := 25) rfl ?_
    refine r_bipush C dX2_givesBy_25 (pc' := 27) rfl (v := 103) rfl ?_
    refine r_aload_n C dX2_givesBy_27 (pc' := 28) rfl (j := 0) rfl ?_
    obtain ⟨b_16, e_17, k_18, h⟩ := h
    refine r_ref [.ref a0, .int (103 : Int32)] e_17 ?_
    refine r_callVi (As := [.int (103 : Int32), .ref a0]) (rest := []) (Cn := RX6) (T := TX6) C k_18 (by decide) vc_X6 (S_X6_tells k_18 k_a0 h) (lw_V q834 q835 q836 q111 q837) rfl hd_X6_tells rfl rfl (Nat.le_of_ble_eq_true rfl) (Nat.le_of_ble_eq_true rfl) (Nat.le_of_ble_eq_true rfl) rfl rfl (Nat.le_of_ble_eq_true rfl) (Nat.le_of_ble_eq_true rfl) dX2_givesBy_28 (pc' := 31) rfl (fun r_20 M_19 h m_21 => ?_)
    refine r_bipush C dX2_givesBy_31 (pc' := 33) rfl (v := 9) rfl ?_
    refine r_callSNi (As := [.int r_20, .int (9 : Int32)]) (rest := []) C (S_X0_held h) q884 q105 (List.mem_of_getElem? (i := 8) rfl) q883 hd_X0_held rfl rfl (Nat.le_of_ble_eq_true rfl) (Nat.le_of_ble_eq_true rfl) (Nat.le_of_ble_eq_true rfl) rfl rfl (Nat.le_of_ble_eq_true rfl) (Nat.le_of_ble_eq_true rfl) dX2_givesBy_33 (pc' := 36) rfl (fun r_23 M_22 h m_24 => ?_)
    exact r_iret C hE (Nat.le_of_ble_eq_true rfl) (Nat.le_of_ble_eq_true rfl) dX2_givesBy_36 ⟨_, rfl, h⟩
  · have h := it_t h c_8
    refine r_iconst C dX2_givesBy_12 (pc' := 13) rfl (v := 0) rfl ?_
    refine r_goto C dX2_givesBy_13 (tgt := 36) (by decide) ?_
    exact r_iret C hE (Nat.le_of_ble_eq_true rfl) (Nat.le_of_ble_eq_true rfl) dX2_givesBy_36 ⟨_, rfl, h⟩
theorem hd_X3_init : mHd yX3_init 1 := ⟨by decide, by decide, by decide +kernel⟩
theorem hd_X3_toldPeople : mHd yX3_toldPeople 0 := ⟨by decide, by decide, by decide +kernel⟩
theorem hd_X3_at : mHd yX3_at 1 := ⟨by decide, by decide, by decide +kernel⟩
theorem hd_X3_draw : mHd yX3_draw 0 := ⟨by decide, by decide, by decide +kernel⟩
theorem hd_X3_dayEnds : mHd yX3_dayEnds 1 := ⟨by decide, by decide, by decide +kernel⟩
theorem hd_X3_givesTo : mHd yX3_givesTo 2 := ⟨by decide, by decide, by decide +kernel⟩
theorem hd_X3_waters : mHd yX3_waters 2 := ⟨by decide, by decide, by decide +kernel⟩
theorem hd_X3_dayGoes : mHd yX3_dayGoes 0 := ⟨by decide, by decide, by decide +kernel⟩
theorem hd_X3_goes : mHd yX3_goes 1 := ⟨by decide, by decide, by decide +kernel⟩
theorem hd_X3_takes : mHd yX3_takes 1 := ⟨by decide, by decide, by decide +kernel⟩
theorem hd_X3_dead : mHd yX3_dead 0 := ⟨by decide, by decide, by decide +kernel⟩
set_option maxHeartbeats 4000000 in
theorem S_X3_init {D : DD} {l : Launch} {M : MM} {a0 : Nat} {a1 : Nat} {Post : MM → Prop} (k_a0 : mkd M a0 = 3) (k_a1 : mkd M a1 = 1) (h : wp_X3_init M a0 a1 Post) : mMet D l yX3_init cX3_init 3 (none) { frames := 2, cells := 18, slots := 112, locals := 32 } M [.ref a0, .ref a1] (pV_ Post) := by
  refine m_of2 [(0, .ref a0), (1, .ref a1)] (by decide +kernel) (Nat.le_of_ble_eq_true rfl) rfl (fun E hED hEl C hE => ?_)
  subst hED
  subst hEl
  unfold wp_X3_init at h
  refine r_aload_n C dX3_init_0 (pc' := 1) rfl (j := 0) rfl ?_
  refine r_aload_n C dX3_init_1 (pc' := 2) rfl (j := 1) rfl ?_
  obtain ⟨M_1, e_2, h⟩ := bn_ h
  refine r_putRF C (Cn := RX3) (T := TX3) (x := (some a1)) tyX3 7 k_a0 (by decide) vc_X3 in_X3 tyX3_ok nmX3 (by decide) q296 rfl rfl rfl rfl dX3_init_2 (pc' := 5) rfl (nO_ _) (fO_ _) M_1 e_2 ?_
  refine r_aload_n C dX3_init_5 (pc' := 6) rfl (j := 0) rfl ?_
  refine r_objInit C (a := a0) q197 q136 q137 (Nat.le_of_ble_eq_true rfl) (Nat.le_of_ble_eq_true rfl) dX3_init_6 (pc' := 9) rfl ?_
  refine r_aload_n C dX3_init_9 (pc' := 10) rfl (j := 0) rfl ?_
  refine r_iconst C dX3_init_10 (pc' := 11) rfl (v := 4) rfl ?_
  obtain ⟨b_5, e_6, h⟩ := bn_ h
  obtain ⟨M_7, e_8, h⟩ := bn_ h
  refine r_newQ C (t := 3) 4 (by decide) (by decide) (by decide) (by decide) q198 (List.mem_of_getElem? (i := 0) rfl) (Nat.le_of_ble_eq_true rfl) (Nat.le_of_ble_eq_true rfl) dX3_init_11 (pc' := 14) rfl b_5 e_6 M_7 e_8 (fun m_3 k_4 => ?_)
  obtain ⟨M_9, e_10, h⟩ := bn_ h
  refine r_putRF C (Cn := RX3) (T := TX3) (x := (some b_5)) tyX3 0 (mMo.kd m_3 (mMo.kd (mo_R e_2) k_a0 (by decide)) (by decide)) (by decide) vc_X3 in_X3 tyX3_ok nmX3 (by decide) q282 rfl rfl rfl rfl dX3_init_14 (pc' := 17) rfl (nA_ _) (fA_ _) M_9 e_10 ?_
  refine r_aload_n C dX3_init_17 (pc' := 18) rfl (j := 0) rfl ?_
  refine r_bipush C dX3_init_18 (pc' := 20) rfl (v := 8) rfl ?_
  obtain ⟨b_13, e_14, h⟩ := bn_ h
  obtain ⟨M_15, e_16, h⟩ := bn_ h
  refine r_newQ C (t := 4) 8 (by decide) (by decide) (by decide) (by decide) q200 (List.mem_of_getElem? (i := 1) rfl) (Nat.le_of_ble_eq_true rfl) (Nat.le_of_ble_eq_true rfl) dX3_init_20 (pc' := 23) rfl b_13 e_14 M_15 e_16 (fun m_11 k_12 => ?_)
  obtain ⟨M_17, e_18, h⟩ := bn_ h
  refine r_putRF C (Cn := RX3) (T := TX3) (x := (some b_13)) tyX3 1 (mMo.kd m_11 (mMo.kd (mo_R e_10) (mMo.kd m_3 (mMo.kd (mo_R e_2) k_a0 (by decide)) (by decide)) (by decide)) (by decide)) (by decide) vc_X3 in_X3 tyX3_ok nmX3 (by decide) q284 rfl rfl rfl rfl dX3_init_23 (pc' := 26) rfl (nA_ _) (fA_ _) M_17 e_18 ?_
  refine r_iconst C dX3_init_26 (pc' := 27) rfl (v := 0) rfl ?_
  refine r_istore_n C (lv' := [(2, .int (0 : Int32)), (0, .ref a0), (1, .ref a1)]) dX3_init_27 (pc' := 28) rfl rfl (0 : Int32) rfl (Nat.le_of_ble_eq_true rfl) rfl ?_
  refine r_iload_n C dX3_init_28 (pc' := 29) rfl (j := 0) rfl ?_
  refine r_iconst C dX3_init_29 (pc' := 30) rfl (v := 4) rfl ?_
  refine r_icmp_ge C dX3_init_30 (pc' := 33) rfl (tgt := 52) (by decide) (fun c_19 => absurd (show (4 : Int32) ≤ (0 : Int32) from c_19) (by decide)) (fun _ => ?_)
  refine r_aload_n C dX3_init_33 (pc' := 34) rfl (j := 1) rfl ?_
  refine r_getf C (Cn := RX3) (T := TX3) 0 (mMo.kd (mo_R e_18) (mMo.kd m_11 (mMo.kd (mo_R e_10) (mMo.kd m_3 (mMo.kd (mo_R e_2) k_a0 (by decide)) (by decide)) (by decide)) (by decide)) (by decide)) (by decide) vc_X3 in_X3 (by decide) q282 dX3_init_34 (pc' := 37) rfl (v := va_rf (mgR M_17 a0 0)) rfl ?_
  obtain ⟨b_20, e_21, k_22, h⟩ := h
  refine r_ref [] e_21 ?_
  refine r_iload_n C dX3_init_37 (pc' := 38) rfl (j := 0) rfl ?_
  obtain ⟨b_25, e_26, h⟩ := bn_ h
  obtain ⟨M_27, e_28, h⟩ := bn_ h
  refine r_new C (Cn := RX4) (T := TX4) tyX4 (by decide) vc_X4 in_X4 tyX4_ok df_X4 q198 q202 q109 (Nat.le_of_ble_eq_true rfl) (Nat.le_of_ble_eq_true rfl) dX3_init_38 (pc' := 41) rfl b_25 e_26 M_27 e_28 (fun m_23 k_24 => ?_)
  refine r_dup C dX3_init_41 (pc' := 42) rfl rfl ?_
  refine r_callINv (As := []) (rest := [.ref b_25, .int (0 : Int32), .ref b_20]) C (S_X4_init k_24 h) q205 q109 (List.mem_of_getElem? (i := 5) rfl) q204 rfl rfl hd_X4_init rfl rfl (Nat.le_of_ble_eq_true rfl) (Nat.le_of_ble_eq_true rfl) (Nat.le_of_ble_eq_true rfl) rfl rfl (Nat.le_of_ble_eq_true rfl) (Nat.le_of_ble_eq_true rfl) dX3_init_42 (pc' := 45) rfl (fun M_29 h m_31 => ?_)
  obtain ⟨c_32, h⟩ := h
  obtain ⟨M_33, e_34, h⟩ := bn_ h
  refine r_aast C (o := (some b_25)) (t := 3) (j := 0) (mMo.kd m_31 (mMo.kd m_23 k_22 (by decide)) (by decide)) (by decide) (vp_l (by decide) (by decide) c_32) (by decide) (fun v hv => by cases hv; rw [(mMo.kd m_31 k_24 (by decide))]; exact ⟨rfl, by decide⟩) dX3_init_45 (pc' := 46) rfl M_33 e_34 ?_
  refine r_iinc C (lv' := [(2, .int (1 : Int32)), (0, .ref a0), (1, .ref a1)]) dX3_init_46 (pc' := 49) rfl (j := 0) rfl (1 : Int32) (by decide) (Nat.le_of_ble_eq_true rfl) rfl ?_
  refine r_goto C dX3_init_49 (tgt := 28) (by decide) ?_
  refine r_iload_n C dX3_init_28 (pc' := 29) rfl (j := 0) rfl ?_
  refine r_iconst C dX3_init_29 (pc' := 30) rfl (v := 4) rfl ?_
  refine r_icmp_ge C dX3_init_30 (pc' := 33) rfl (tgt := 52) (by decide) (fun c_35 => absurd (show (4 : Int32) ≤ (1 : Int32) from c_35) (by decide)) (fun _ => ?_)
  refine r_aload_n C dX3_init_33 (pc' := 34) rfl (j := 1) rfl ?_
  refine r_getf C (Cn := RX3) (T := TX3) 0 (mMo.kd (mo_R e_34) (mMo.kd m_31 (mMo.kd m_23 (mMo.kd (mo_R e_18) (mMo.kd m_11 (mMo.kd (mo_R e_10) (mMo.kd m_3 (mMo.kd (mo_R e_2) k_a0 (by decide)) (by decide)) (by decide)) (by decide)) (by decide)) (by decide)) (by decide)) (by decide)) (by decide) vc_X3 in_X3 (by decide) q282 dX3_init_34 (pc' := 37) rfl (v := va_rf (mgR M_33 a0 0)) rfl ?_
  obtain ⟨b_36, e_37, k_38, h⟩ := h
  refine r_ref [] e_37 ?_
  refine r_iload_n C dX3_init_37 (pc' := 38) rfl (j := 0) rfl ?_
  obtain ⟨b_41, e_42, h⟩ := bn_ h
  obtain ⟨M_43, e_44, h⟩ := bn_ h
  refine r_new C (Cn := RX4) (T := TX4) tyX4 (by decide) vc_X4 in_X4 tyX4_ok df_X4 q198 q202 q109 (Nat.le_of_ble_eq_true rfl) (Nat.le_of_ble_eq_true rfl) dX3_init_38 (pc' := 41) rfl b_41 e_42 M_43 e_44 (fun m_39 k_40 => ?_)
  refine r_dup C dX3_init_41 (pc' := 42) rfl rfl ?_
  refine r_callINv (As := []) (rest := [.ref b_41, .int (1 : Int32), .ref b_36]) C (S_X4_init k_40 h) q205 q109 (List.mem_of_getElem? (i := 5) rfl) q204 rfl rfl hd_X4_init rfl rfl (Nat.le_of_ble_eq_true rfl) (Nat.le_of_ble_eq_true rfl) (Nat.le_of_ble_eq_true rfl) rfl rfl (Nat.le_of_ble_eq_true rfl) (Nat.le_of_ble_eq_true rfl) dX3_init_42 (pc' := 45) rfl (fun M_45 h m_47 => ?_)
  obtain ⟨c_48, h⟩ := h
  obtain ⟨M_49, e_50, h⟩ := bn_ h
  refine r_aast C (o := (some b_41)) (t := 3) (j := 1) (mMo.kd m_47 (mMo.kd m_39 k_38 (by decide)) (by decide)) (by decide) (vp_l (by decide) (by decide) c_48) (by decide) (fun v hv => by cases hv; rw [(mMo.kd m_47 k_40 (by decide))]; exact ⟨rfl, by decide⟩) dX3_init_45 (pc' := 46) rfl M_49 e_50 ?_
  refine r_iinc C (lv' := [(2, .int (2 : Int32)), (0, .ref a0), (1, .ref a1)]) dX3_init_46 (pc' := 49) rfl (j := 0) rfl (2 : Int32) (by decide) (Nat.le_of_ble_eq_true rfl) rfl ?_
  refine r_goto C dX3_init_49 (tgt := 28) (by decide) ?_
  refine r_iload_n C dX3_init_28 (pc' := 29) rfl (j := 0) rfl ?_
  refine r_iconst C dX3_init_29 (pc' := 30) rfl (v := 4) rfl ?_
  refine r_icmp_ge C dX3_init_30 (pc' := 33) rfl (tgt := 52) (by decide) (fun c_51 => absurd (show (4 : Int32) ≤ (2 : Int32) from c_51) (by decide)) (fun _ => ?_)
  refine r_aload_n C dX3_init_33 (pc' := 34) rfl (j := 1) rfl ?_
  refine r_getf C (Cn := RX3) (T := TX3) 0 (mMo.kd (mo_R e_50) (mMo.kd m_47 (mMo.kd m_39 (mMo.kd (mo_R e_34) (mMo.kd m_31 (mMo.kd m_23 (mMo.kd (mo_R e_18) (mMo.kd m_11 (mMo.kd (mo_R e_10) (mMo.kd m_3 (mMo.kd (mo_R e_2) k_a0 (by decide)) (by decide)) (by decide)) (by decide)) (by decide)) (by decide)) (by decide)) (by decide)) (by decide)) (by decide)) (by decide)) (by decide) vc_X3 in_X3 (by decide) q282 dX3_init_34 (pc' := 37) rfl (v := va_rf (mgR M_49 a0 0)) rfl ?_
  obtain ⟨b_52, e_53, k_54, h⟩ := h
  refine r_ref [] e_53 ?_
  refine r_iload_n C dX3_init_37 (pc' := 38) rfl (j := 0) rfl ?_
  obtain ⟨b_57, e_58, h⟩ := bn_ h
  obtain ⟨M_59, e_60, h⟩ := bn_ h
  refine r_new C (Cn := RX4) (T := TX4) tyX4 (by decide) vc_X4 in_X4 tyX4_ok df_X4 q198 q202 q109 (Nat.le_of_ble_eq_true rfl) (Nat.le_of_ble_eq_true rfl) dX3_init_38 (pc' := 41) rfl b_57 e_58 M_59 e_60 (fun m_55 k_56 => ?_)
  refine r_dup C dX3_init_41 (pc' := 42) rfl rfl ?_
  refine r_callINv (As := []) (rest := [.ref b_57, .int (2 : Int32), .ref b_52]) C (S_X4_init k_56 h) q205 q109 (List.mem_of_getElem? (i := 5) rfl) q204 rfl rfl hd_X4_init rfl rfl (Nat.le_of_ble_eq_true rfl) (Nat.le_of_ble_eq_true rfl) (Nat.le_of_ble_eq_true rfl) rfl rfl (Nat.le_of_ble_eq_true rfl) (Nat.le_of_ble_eq_true rfl) dX3_init_42 (pc' := 45) rfl (fun M_61 h m_63 => ?_)
  obtain ⟨c_64, h⟩ := h
  obtain ⟨M_65, e_66, h⟩ := bn_ h
  refine r_aast C (o := (some b_57)) (t := 3) (j := 2) (mMo.kd m_63 (mMo.kd m_55 k_54 (by decide)) (by decide)) (by decide) (vp_l (by decide) (by decide) c_64) (by decide) (fun v hv => by cases hv; rw [(mMo.kd m_63 k_56 (by decide))]; exact ⟨rfl, by decide⟩) dX3_init_45 (pc' := 46) rfl M_65 e_66 ?_
  refine r_iinc C (lv' := [(2, .int (3 : Int32)), (0, .ref a0), (1, .ref a1)]) dX3_init_46 (pc' := 49) rfl (j := 0) rfl (3 : Int32) (by decide) (Nat.le_of_ble_eq_true rfl) rfl ?_
  refine r_goto C dX3_init_49 (tgt := 28) (by decide) ?_
  refine r_iload_n C dX3_init_28 (pc' := 29) rfl (j := 0) rfl ?_
  refine r_iconst C dX3_init_29 (pc' := 30) rfl (v := 4) rfl ?_
  refine r_icmp_ge C dX3_init_30 (pc' := 33) rfl (tgt := 52) (by decide) (fun c_67 => absurd (show (4 : Int32) ≤ (3 : Int32) from c_67) (by decide)) (fun _ => ?_)
  refine r_aload_n C dX3_init_33 (pc' := 34) rfl (j := 1) rfl ?_
  refine r_getf C (Cn := RX3) (T := TX3) 0 (mMo.kd (mo_R e_66) (mMo.kd m_63 (mMo.kd m_55 (mMo.kd (mo_R e_50) (mMo.kd m_47 (mMo.kd m_39 (mMo.kd (mo_R e_34) (mMo.kd m_31 (mMo.kd m_23 (mMo.kd (mo_R e_18) (mMo.kd m_11 (mMo.kd (mo_R e_10) (mMo.kd m_3 (mMo.kd (mo_R e_2) k_a0 (by decide)) (by decide)) (by decide)) (by decide)) (by decide)) (by decide)) (by decide)) (by decide)) (by decide)) (by decide)) (by decide)) (by decide)) (by decide)) (by decide)) (by decide) vc_X3 in_X3 (by decide) q282 dX3_init_34 (pc' := 37) rfl (v := va_rf (mgR M_65 a0 0)) rfl ?_
  obtain ⟨b_68, e_69, k_70, h⟩ := h
  refine r_ref [] e_69 ?_
  refine r_iload_n C dX3_init_37 (pc' := 38) rfl (j := 0) rfl ?_
  obtain ⟨b_73, e_74, h⟩ := bn_ h
  obtain ⟨M_75, e_76, h⟩ := bn_ h
  refine r_new C (Cn := RX4) (T := TX4) tyX4 (by decide) vc_X4 in_X4 tyX4_ok df_X4 q198 q202 q109 (Nat.le_of_ble_eq_true rfl) (Nat.le_of_ble_eq_true rfl) dX3_init_38 (pc' := 41) rfl b_73 e_74 M_75 e_76 (fun m_71 k_72 => ?_)
  refine r_dup C dX3_init_41 (pc' := 42) rfl rfl ?_
  refine r_callINv (As := []) (rest := [.ref b_73, .int (3 : Int32), .ref b_68]) C (S_X4_init k_72 h) q205 q109 (List.mem_of_getElem? (i := 5) rfl) q204 rfl rfl hd_X4_init rfl rfl (Nat.le_of_ble_eq_true rfl) (Nat.le_of_ble_eq_true rfl) (Nat.le_of_ble_eq_true rfl) rfl rfl (Nat.le_of_ble_eq_true rfl) (Nat.le_of_ble_eq_true rfl) dX3_init_42 (pc' := 45) rfl (fun M_77 h m_79 => ?_)
  obtain ⟨c_80, h⟩ := h
  obtain ⟨M_81, e_82, h⟩ := bn_ h
  refine r_aast C (o := (some b_73)) (t := 3) (j := 3) (mMo.kd m_79 (mMo.kd m_71 k_70 (by decide)) (by decide)) (by decide) (vp_l (by decide) (by decide) c_80) (by decide) (fun v hv => by cases hv; rw [(mMo.kd m_79 k_72 (by decide))]; exact ⟨rfl, by decide⟩) dX3_init_45 (pc' := 46) rfl M_81 e_82 ?_
  refine r_iinc C (lv' := [(2, .int (4 : Int32)), (0, .ref a0), (1, .ref a1)]) dX3_init_46 (pc' := 49) rfl (j := 0) rfl (4 : Int32) (by decide) (Nat.le_of_ble_eq_true rfl) rfl ?_
  refine r_goto C dX3_init_49 (tgt := 28) (by decide) ?_
  refine r_iload_n C dX3_init_28 (pc' := 29) rfl (j := 0) rfl ?_
  refine r_iconst C dX3_init_29 (pc' := 30) rfl (v := 4) rfl ?_
  refine r_icmp_ge C dX3_init_30 (pc' := 33) rfl (tgt := 52) (by decide) (fun _ => ?_) (fun c_83 => absurd (show ¬ ((4 : Int32) ≤ (4 : Int32)) from c_83) (by decide))
  refine r_iconst C dX3_init_52 (pc' := 53) rfl (v := 0) rfl ?_
  refine r_istore_n C (lv' := [(2, .int (0 : Int32)), (0, .ref a0), (1, .ref a1)]) dX3_init_53 (pc' := 54) rfl rfl (0 : Int32) rfl (Nat.le_of_ble_eq_true rfl) rfl ?_
  refine r_iload_n C dX3_init_54 (pc' := 55) rfl (j := 0) rfl ?_
  refine r_bipush C dX3_init_55 (pc' := 57) rfl (v := 8) rfl ?_
  refine r_icmp_ge C dX3_init_57 (pc' := 60) rfl (tgt := 79) (by decide) (fun c_84 => absurd (show (8 : Int32) ≤ (0 : Int32) from c_84) (by decide)) (fun _ => ?_)
  refine r_aload_n C dX3_init_60 (pc' := 61) rfl (j := 1) rfl ?_
  refine r_getf C (Cn := RX3) (T := TX3) 1 (mMo.kd (mo_R e_82) (mMo.kd m_79 (mMo.kd m_71 (mMo.kd (mo_R e_66) (mMo.kd m_63 (mMo.kd m_55 (mMo.kd (mo_R e_50) (mMo.kd m_47 (mMo.kd m_39 (mMo.kd (mo_R e_34) (mMo.kd m_31 (mMo.kd m_23 (mMo.kd (mo_R e_18) (mMo.kd m_11 (mMo.kd (mo_R e_10) (mMo.kd m_3 (mMo.kd (mo_R e_2) k_a0 (by decide)) (by decide)) (by decide)) (by decide)) (by decide)) (by decide)) (by decide)) (by decide)) (by decide)) (by decide)) (by decide)) (by decide)) (by decide)) (by decide)) (by decide)) (by decide)) (by decide)) (by decide) vc_X3 in_X3 (by decide) q284 dX3_init_61 (pc' := 64) rfl (v := va_rf (mgR M_81 a0 1)) rfl ?_
  obtain ⟨b_85, e_86, k_87, h⟩ := h
  refine r_ref [] e_86 ?_
  refine r_iload_n C dX3_init_64 (pc' := 65) rfl (j := 0) rfl ?_
  obtain ⟨b_90, e_91, h⟩ := bn_ h
  obtain ⟨M_92, e_93, h⟩ := bn_ h
  refine r_new C (Cn := RX5) (T := TX5) tyX5 (by decide) vc_X5 in_X5 tyX5_ok df_X5 q200 q256 q110 (Nat.le_of_ble_eq_true rfl) (Nat.le_of_ble_eq_true rfl) dX3_init_65 (pc' := 68) rfl b_90 e_91 M_92 e_93 (fun m_88 k_89 => ?_)
  refine r_dup C dX3_init_68 (pc' := 69) rfl rfl ?_
  refine r_callINv (As := []) (rest := [.ref b_90, .int (0 : Int32), .ref b_85]) C (S_X5_init k_89 h) q259 q110 (List.mem_of_getElem? (i := 6) rfl) q258 rfl rfl hd_X5_init rfl rfl (Nat.le_of_ble_eq_true rfl) (Nat.le_of_ble_eq_true rfl) (Nat.le_of_ble_eq_true rfl) rfl rfl (Nat.le_of_ble_eq_true rfl) (Nat.le_of_ble_eq_true rfl) dX3_init_69 (pc' := 72) rfl (fun M_94 h m_96 => ?_)
  obtain ⟨c_97, h⟩ := h
  obtain ⟨M_98, e_99, h⟩ := bn_ h
  refine r_aast C (o := (some b_90)) (t := 4) (j := 0) (mMo.kd m_96 (mMo.kd m_88 k_87 (by decide)) (by decide)) (by decide) (vp_l (by decide) (by decide) c_97) (by decide) (fun v hv => by cases hv; rw [(mMo.kd m_96 k_89 (by decide))]; exact ⟨rfl, by decide⟩) dX3_init_72 (pc' := 73) rfl M_98 e_99 ?_
  refine r_iinc C (lv' := [(2, .int (1 : Int32)), (0, .ref a0), (1, .ref a1)]) dX3_init_73 (pc' := 76) rfl (j := 0) rfl (1 : Int32) (by decide) (Nat.le_of_ble_eq_true rfl) rfl ?_
  refine r_goto C dX3_init_76 (tgt := 54) (by decide) ?_
  refine r_iload_n C dX3_init_54 (pc' := 55) rfl (j := 0) rfl ?_
  refine r_bipush C dX3_init_55 (pc' := 57) rfl (v := 8) rfl ?_
  refine r_icmp_ge C dX3_init_57 (pc' := 60) rfl (tgt := 79) (by decide) (fun c_100 => absurd (show (8 : Int32) ≤ (1 : Int32) from c_100) (by decide)) (fun _ => ?_)
  refine r_aload_n C dX3_init_60 (pc' := 61) rfl (j := 1) rfl ?_
  refine r_getf C (Cn := RX3) (T := TX3) 1 (mMo.kd (mo_R e_99) (mMo.kd m_96 (mMo.kd m_88 (mMo.kd (mo_R e_82) (mMo.kd m_79 (mMo.kd m_71 (mMo.kd (mo_R e_66) (mMo.kd m_63 (mMo.kd m_55 (mMo.kd (mo_R e_50) (mMo.kd m_47 (mMo.kd m_39 (mMo.kd (mo_R e_34) (mMo.kd m_31 (mMo.kd m_23 (mMo.kd (mo_R e_18) (mMo.kd m_11 (mMo.kd (mo_R e_10) (mMo.kd m_3 (mMo.kd (mo_R e_2) k_a0 (by decide)) (by decide)) (by decide)) (by decide)) (by decide)) (by decide)) (by decide)) (by decide)) (by decide)) (by decide)) (by decide)) (by decide)) (by decide)) (by decide)) (by decide)) (by decide)) (by decide)) (by decide)) (by decide)) (by decide)) (by decide) vc_X3 in_X3 (by decide) q284 dX3_init_61 (pc' := 64) rfl (v := va_rf (mgR M_98 a0 1)) rfl ?_
  obtain ⟨b_101, e_102, k_103, h⟩ := h
  refine r_ref [] e_102 ?_
  refine r_iload_n C dX3_init_64 (pc' := 65) rfl (j := 0) rfl ?_
  obtain ⟨b_106, e_107, h⟩ := bn_ h
  obtain ⟨M_108, e_109, h⟩ := bn_ h
  refine r_new C (Cn := RX5) (T := TX5) tyX5 (by decide) vc_X5 in_X5 tyX5_ok df_X5 q200 q256 q110 (Nat.le_of_ble_eq_true rfl) (Nat.le_of_ble_eq_true rfl) dX3_init_65 (pc' := 68) rfl b_106 e_107 M_108 e_109 (fun m_104 k_105 => ?_)
  refine r_dup C dX3_init_68 (pc' := 69) rfl rfl ?_
  refine r_callINv (As := []) (rest := [.ref b_106, .int (1 : Int32), .ref b_101]) C (S_X5_init k_105 h) q259 q110 (List.mem_of_getElem? (i := 6) rfl) q258 rfl rfl hd_X5_init rfl rfl (Nat.le_of_ble_eq_true rfl) (Nat.le_of_ble_eq_true rfl) (Nat.le_of_ble_eq_true rfl) rfl rfl (Nat.le_of_ble_eq_true rfl) (Nat.le_of_ble_eq_true rfl) dX3_init_69 (pc' := 72) rfl (fun M_110 h m_112 => ?_)
  obtain ⟨c_113, h⟩ := h
  obtain ⟨M_114, e_115, h⟩ := bn_ h
  refine r_aast C (o := (some b_106)) (t := 4) (j := 1) (mMo.kd m_112 (mMo.kd m_104 k_103 (by decide)) (by decide)) (by decide) (vp_l (by decide) (by decide) c_113) (by decide) (fun v hv => by cases hv; rw [(mMo.kd m_112 k_105 (by decide))]; exact ⟨rfl, by decide⟩) dX3_init_72 (pc' := 73) rfl M_114 e_115 ?_
  refine r_iinc C (lv' := [(2, .int (2 : Int32)), (0, .ref a0), (1, .ref a1)]) dX3_init_73 (pc' := 76) rfl (j := 0) rfl (2 : Int32) (by decide) (Nat.le_of_ble_eq_true rfl) rfl ?_
  refine r_goto C dX3_init_76 (tgt := 54) (by decide) ?_
  refine r_iload_n C dX3_init_54 (pc' := 55) rfl (j := 0) rfl ?_
  refine r_bipush C dX3_init_55 (pc' := 57) rfl (v := 8) rfl ?_
  refine r_icmp_ge C dX3_init_57 (pc' := 60) rfl (tgt := 79) (by decide) (fun c_116 => absurd (show (8 : Int32) ≤ (2 : Int32) from c_116) (by decide)) (fun _ => ?_)
  refine r_aload_n C dX3_init_60 (pc' := 61) rfl (j := 1) rfl ?_
  refine r_getf C (Cn := RX3) (T := TX3) 1 (mMo.kd (mo_R e_115) (mMo.kd m_112 (mMo.kd m_104 (mMo.kd (mo_R e_99) (mMo.kd m_96 (mMo.kd m_88 (mMo.kd (mo_R e_82) (mMo.kd m_79 (mMo.kd m_71 (mMo.kd (mo_R e_66) (mMo.kd m_63 (mMo.kd m_55 (mMo.kd (mo_R e_50) (mMo.kd m_47 (mMo.kd m_39 (mMo.kd (mo_R e_34) (mMo.kd m_31 (mMo.kd m_23 (mMo.kd (mo_R e_18) (mMo.kd m_11 (mMo.kd (mo_R e_10) (mMo.kd m_3 (mMo.kd (mo_R e_2) k_a0 (by decide)) (by decide)) (by decide)) (by decide)) (by decide)) (by decide)) (by decide)) (by decide)) (by decide)) (by decide)) (by decide)) (by decide)) (by decide)) (by decide)) (by decide)) (by decide)) (by decide)) (by decide)) (by decide)) (by decide)) (by decide)) (by decide)) (by decide)) (by decide) vc_X3 in_X3 (by decide) q284 dX3_init_61 (pc' := 64) rfl (v := va_rf (mgR M_114 a0 1)) rfl ?_
  obtain ⟨b_117, e_118, k_119, h⟩ := h
  refine r_ref [] e_118 ?_
  refine r_iload_n C dX3_init_64 (pc' := 65) rfl (j := 0) rfl ?_
  obtain ⟨b_122, e_123, h⟩ := bn_ h
  obtain ⟨M_124, e_125, h⟩ := bn_ h
  refine r_new C (Cn := RX5) (T := TX5) tyX5 (by decide) vc_X5 in_X5 tyX5_ok df_X5 q200 q256 q110 (Nat.le_of_ble_eq_true rfl) (Nat.le_of_ble_eq_true rfl) dX3_init_65 (pc' := 68) rfl b_122 e_123 M_124 e_125 (fun m_120 k_121 => ?_)
  refine r_dup C dX3_init_68 (pc' := 69) rfl rfl ?_
  refine r_callINv (As := []) (rest := [.ref b_122, .int (2 : Int32), .ref b_117]) C (S_X5_init k_121 h) q259 q110 (List.mem_of_getElem? (i := 6) rfl) q258 rfl rfl hd_X5_init rfl rfl (Nat.le_of_ble_eq_true rfl) (Nat.le_of_ble_eq_true rfl) (Nat.le_of_ble_eq_true rfl) rfl rfl (Nat.le_of_ble_eq_true rfl) (Nat.le_of_ble_eq_true rfl) dX3_init_69 (pc' := 72) rfl (fun M_126 h m_128 => ?_)
  obtain ⟨c_129, h⟩ := h
  obtain ⟨M_130, e_131, h⟩ := bn_ h
  refine r_aast C (o := (some b_122)) (t := 4) (j := 2) (mMo.kd m_128 (mMo.kd m_120 k_119 (by decide)) (by decide)) (by decide) (vp_l (by decide) (by decide) c_129) (by decide) (fun v hv => by cases hv; rw [(mMo.kd m_128 k_121 (by decide))]; exact ⟨rfl, by decide⟩) dX3_init_72 (pc' := 73) rfl M_130 e_131 ?_
  refine r_iinc C (lv' := [(2, .int (3 : Int32)), (0, .ref a0), (1, .ref a1)]) dX3_init_73 (pc' := 76) rfl (j := 0) rfl (3 : Int32) (by decide) (Nat.le_of_ble_eq_true rfl) rfl ?_
  refine r_goto C dX3_init_76 (tgt := 54) (by decide) ?_
  refine r_iload_n C dX3_init_54 (pc' := 55) rfl (j := 0) rfl ?_
  refine r_bipush C dX3_init_55 (pc' := 57) rfl (v := 8) rfl ?_
  refine r_icmp_ge C dX3_init_57 (pc' := 60) rfl (tgt := 79) (by decide) (fun c_132 => absurd (show (8 : Int32) ≤ (3 : Int32) from c_132) (by decide)) (fun _ => ?_)
  refine r_aload_n C dX3_init_60 (pc' := 61) rfl (j := 1) rfl ?_
  refine r_getf C (Cn := RX3) (T := TX3) 1 (mMo.kd (mo_R e_131) (mMo.kd m_128 (mMo.kd m_120 (mMo.kd (mo_R e_115) (mMo.kd m_112 (mMo.kd m_104 (mMo.kd (mo_R e_99) (mMo.kd m_96 (mMo.kd m_88 (mMo.kd (mo_R e_82) (mMo.kd m_79 (mMo.kd m_71 (mMo.kd (mo_R e_66) (mMo.kd m_63 (mMo.kd m_55 (mMo.kd (mo_R e_50) (mMo.kd m_47 (mMo.kd m_39 (mMo.kd (mo_R e_34) (mMo.kd m_31 (mMo.kd m_23 (mMo.kd (mo_R e_18) (mMo.kd m_11 (mMo.kd (mo_R e_10) (mMo.kd m_3 (mMo.kd (mo_R e_2) k_a0 (by decide)) (by decide)) (by decide)) (by decide)) (by decide)) (by decide)) (by decide)) (by decide)) (by decide)) (by decide)) (by decide)) (by decide)) (by decide)) (by decide)) (by decide)) (by decide)) (by decide)) (by decide)) (by decide)) (by decide)) (by decide)) (by decide)) (by decide)) (by decide)) (by decide)) (by decide)) (by decide) vc_X3 in_X3 (by decide) q284 dX3_init_61 (pc' := 64) rfl (v := va_rf (mgR M_130 a0 1)) rfl ?_
  obtain ⟨b_133, e_134, k_135, h⟩ := h
  refine r_ref [] e_134 ?_
  refine r_iload_n C dX3_init_64 (pc' := 65) rfl (j := 0) rfl ?_
  obtain ⟨b_138, e_139, h⟩ := bn_ h
  obtain ⟨M_140, e_141, h⟩ := bn_ h
  refine r_new C (Cn := RX5) (T := TX5) tyX5 (by decide) vc_X5 in_X5 tyX5_ok df_X5 q200 q256 q110 (Nat.le_of_ble_eq_true rfl) (Nat.le_of_ble_eq_true rfl) dX3_init_65 (pc' := 68) rfl b_138 e_139 M_140 e_141 (fun m_136 k_137 => ?_)
  refine r_dup C dX3_init_68 (pc' := 69) rfl rfl ?_
  refine r_callINv (As := []) (rest := [.ref b_138, .int (3 : Int32), .ref b_133]) C (S_X5_init k_137 h) q259 q110 (List.mem_of_getElem? (i := 6) rfl) q258 rfl rfl hd_X5_init rfl rfl (Nat.le_of_ble_eq_true rfl) (Nat.le_of_ble_eq_true rfl) (Nat.le_of_ble_eq_true rfl) rfl rfl (Nat.le_of_ble_eq_true rfl) (Nat.le_of_ble_eq_true rfl) dX3_init_69 (pc' := 72) rfl (fun M_142 h m_144 => ?_)
  obtain ⟨c_145, h⟩ := h
  obtain ⟨M_146, e_147, h⟩ := bn_ h
  refine r_aast C (o := (some b_138)) (t := 4) (j := 3) (mMo.kd m_144 (mMo.kd m_136 k_135 (by decide)) (by decide)) (by decide) (vp_l (by decide) (by decide) c_145) (by decide) (fun v hv => by cases hv; rw [(mMo.kd m_144 k_137 (by decide))]; exact ⟨rfl, by decide⟩) dX3_init_72 (pc' := 73) rfl M_146 e_147 ?_
  refine r_iinc C (lv' := [(2, .int (4 : Int32)), (0, .ref a0), (1, .ref a1)]) dX3_init_73 (pc' := 76) rfl (j := 0) rfl (4 : Int32) (by decide) (Nat.le_of_ble_eq_true rfl) rfl ?_
  refine r_goto C dX3_init_76 (tgt := 54) (by decide) ?_
  refine r_iload_n C dX3_init_54 (pc' := 55) rfl (j := 0) rfl ?_
  refine r_bipush C dX3_init_55 (pc' := 57) rfl (v := 8) rfl ?_
  refine r_icmp_ge C dX3_init_57 (pc' := 60) rfl (tgt := 79) (by decide) (fun c_148 => absurd (show (8 : Int32) ≤ (4 : Int32) from c_148) (by decide)) (fun _ => ?_)
  refine r_aload_n C dX3_init_60 (pc' := 61) rfl (j := 1) rfl ?_
  refine r_getf C (Cn := RX3) (T := TX3) 1 (mMo.kd (mo_R e_147) (mMo.kd m_144 (mMo.kd m_136 (mMo.kd (mo_R e_131) (mMo.kd m_128 (mMo.kd m_120 (mMo.kd (mo_R e_115) (mMo.kd m_112 (mMo.kd m_104 (mMo.kd (mo_R e_99) (mMo.kd m_96 (mMo.kd m_88 (mMo.kd (mo_R e_82) (mMo.kd m_79 (mMo.kd m_71 (mMo.kd (mo_R e_66) (mMo.kd m_63 (mMo.kd m_55 (mMo.kd (mo_R e_50) (mMo.kd m_47 (mMo.kd m_39 (mMo.kd (mo_R e_34) (mMo.kd m_31 (mMo.kd m_23 (mMo.kd (mo_R e_18) (mMo.kd m_11 (mMo.kd (mo_R e_10) (mMo.kd m_3 (mMo.kd (mo_R e_2) k_a0 (by decide)) (by decide)) (by decide)) (by decide)) (by decide)) (by decide)) (by decide)) (by decide)) (by decide)) (by decide)) (by decide)) (by decide)) (by decide)) (by decide)) (by decide)) (by decide)) (by decide)) (by decide)) (by decide)) (by decide)) (by decide)) (by decide)) (by decide)) (by decide)) (by decide)) (by decide)) (by decide)) (by decide)) (by decide)) (by decide) vc_X3 in_X3 (by decide) q284 dX3_init_61 (pc' := 64) rfl (v := va_rf (mgR M_146 a0 1)) rfl ?_
  obtain ⟨b_149, e_150, k_151, h⟩ := h
  refine r_ref [] e_150 ?_
  refine r_iload_n C dX3_init_64 (pc' := 65) rfl (j := 0) rfl ?_
  obtain ⟨b_154, e_155, h⟩ := bn_ h
  obtain ⟨M_156, e_157, h⟩ := bn_ h
  refine r_new C (Cn := RX5) (T := TX5) tyX5 (by decide) vc_X5 in_X5 tyX5_ok df_X5 q200 q256 q110 (Nat.le_of_ble_eq_true rfl) (Nat.le_of_ble_eq_true rfl) dX3_init_65 (pc' := 68) rfl b_154 e_155 M_156 e_157 (fun m_152 k_153 => ?_)
  refine r_dup C dX3_init_68 (pc' := 69) rfl rfl ?_
  refine r_callINv (As := []) (rest := [.ref b_154, .int (4 : Int32), .ref b_149]) C (S_X5_init k_153 h) q259 q110 (List.mem_of_getElem? (i := 6) rfl) q258 rfl rfl hd_X5_init rfl rfl (Nat.le_of_ble_eq_true rfl) (Nat.le_of_ble_eq_true rfl) (Nat.le_of_ble_eq_true rfl) rfl rfl (Nat.le_of_ble_eq_true rfl) (Nat.le_of_ble_eq_true rfl) dX3_init_69 (pc' := 72) rfl (fun M_158 h m_160 => ?_)
  obtain ⟨c_161, h⟩ := h
  obtain ⟨M_162, e_163, h⟩ := bn_ h
  refine r_aast C (o := (some b_154)) (t := 4) (j := 4) (mMo.kd m_160 (mMo.kd m_152 k_151 (by decide)) (by decide)) (by decide) (vp_l (by decide) (by decide) c_161) (by decide) (fun v hv => by cases hv; rw [(mMo.kd m_160 k_153 (by decide))]; exact ⟨rfl, by decide⟩) dX3_init_72 (pc' := 73) rfl M_162 e_163 ?_
  refine r_iinc C (lv' := [(2, .int (5 : Int32)), (0, .ref a0), (1, .ref a1)]) dX3_init_73 (pc' := 76) rfl (j := 0) rfl (5 : Int32) (by decide) (Nat.le_of_ble_eq_true rfl) rfl ?_
  refine r_goto C dX3_init_76 (tgt := 54) (by decide) ?_
  refine r_iload_n C dX3_init_54 (pc' := 55) rfl (j := 0) rfl ?_
  refine r_bipush C dX3_init_55 (pc' := 57) rfl (v := 8) rfl ?_
  refine r_icmp_ge C dX3_init_57 (pc' := 60) rfl (tgt := 79) (by decide) (fun c_164 => absurd (show (8 : Int32) ≤ (5 : Int32) from c_164) (by decide)) (fun _ => ?_)
  refine r_aload_n C dX3_init_60 (pc' := 61) rfl (j := 1) rfl ?_
  refine r_getf C (Cn := RX3) (T := TX3) 1 (mMo.kd (mo_R e_163) (mMo.kd m_160 (mMo.kd m_152 (mMo.kd (mo_R e_147) (mMo.kd m_144 (mMo.kd m_136 (mMo.kd (mo_R e_131) (mMo.kd m_128 (mMo.kd m_120 (mMo.kd (mo_R e_115) (mMo.kd m_112 (mMo.kd m_104 (mMo.kd (mo_R e_99) (mMo.kd m_96 (mMo.kd m_88 (mMo.kd (mo_R e_82) (mMo.kd m_79 (mMo.kd m_71 (mMo.kd (mo_R e_66) (mMo.kd m_63 (mMo.kd m_55 (mMo.kd (mo_R e_50) (mMo.kd m_47 (mMo.kd m_39 (mMo.kd (mo_R e_34) (mMo.kd m_31 (mMo.kd m_23 (mMo.kd (mo_R e_18) (mMo.kd m_11 (mMo.kd (mo_R e_10) (mMo.kd m_3 (mMo.kd (mo_R e_2) k_a0 (by decide)) (by decide)) (by decide)) (by decide)) (by decide)) (by decide)) (by decide)) (by decide)) (by decide)) (by decide)) (by decide)) (by decide)) (by decide)) (by decide)) (by decide)) (by decide)) (by decide)) (by decide)) (by decide)) (by decide)) (by decide)) (by decide)) (by decide)) (by decide)) (by decide)) (by decide)) (by decide)) (by decide)) (by decide)) (by decide)) (by decide)) (by decide)) (by decide) vc_X3 in_X3 (by decide) q284 dX3_init_61 (pc' := 64) rfl (v := va_rf (mgR M_162 a0 1)) rfl ?_
  obtain ⟨b_165, e_166, k_167, h⟩ := h
  refine r_ref [] e_166 ?_
  refine r_iload_n C dX3_init_64 (pc' := 65) rfl (j := 0) rfl ?_
  obtain ⟨b_170, e_171, h⟩ := bn_ h
  obtain ⟨M_172, e_173, h⟩ := bn_ h
  refine r_new C (Cn := RX5) (T := TX5) tyX5 (by decide) vc_X5 in_X5 tyX5_ok df_X5 q200 q256 q110 (Nat.le_of_ble_eq_true rfl) (Nat.le_of_ble_eq_true rfl) dX3_init_65 (pc' := 68) rfl b_170 e_171 M_172 e_173 (fun m_168 k_169 => ?_)
  refine r_dup C dX3_init_68 (pc' := 69) rfl rfl ?_
  refine r_callINv (As := []) (rest := [.ref b_170, .int (5 : Int32), .ref b_165]) C (S_X5_init k_169 h) q259 q110 (List.mem_of_getElem? (i := 6) rfl) q258 rfl rfl hd_X5_init rfl rfl (Nat.le_of_ble_eq_true rfl) (Nat.le_of_ble_eq_true rfl) (Nat.le_of_ble_eq_true rfl) rfl rfl (Nat.le_of_ble_eq_true rfl) (Nat.le_of_ble_eq_true rfl) dX3_init_69 (pc' := 72) rfl (fun M_174 h m_176 => ?_)
  obtain ⟨c_177, h⟩ := h
  obtain ⟨M_178, e_179, h⟩ := bn_ h
  refine r_aast C (o := (some b_170)) (t := 4) (j := 5) (mMo.kd m_176 (mMo.kd m_168 k_167 (by decide)) (by decide)) (by decide) (vp_l (by decide) (by decide) c_177) (by decide) (fun v hv => by cases hv; rw [(mMo.kd m_176 k_169 (by decide))]; exact ⟨rfl, by decide⟩) dX3_init_72 (pc' := 73) rfl M_178 e_179 ?_
  refine r_iinc C (lv' := [(2, .int (6 : Int32)), (0, .ref a0), (1, .ref a1)]) dX3_init_73 (pc' := 76) rfl (j := 0) rfl (6 : Int32) (by decide) (Nat.le_of_ble_eq_true rfl) rfl ?_
  refine r_goto C dX3_init_76 (tgt := 54) (by decide) ?_
  refine r_iload_n C dX3_init_54 (pc' := 55) rfl (j := 0) rfl ?_
  refine r_bipush C dX3_init_55 (pc' := 57) rfl (v := 8) rfl ?_
  refine r_icmp_ge C dX3_init_57 (pc' := 60) rfl (tgt := 79) (by decide) (fun c_180 => absurd (show (8 : Int32) ≤ (6 : Int32) from c_180) (by decide)) (fun _ => ?_)
  refine r_aload_n C dX3_init_60 (pc' := 61) rfl (j := 1) rfl ?_
  refine r_getf C (Cn := RX3) (T := TX3) 1 (mMo.kd (mo_R e_179) (mMo.kd m_176 (mMo.kd m_168 (mMo.kd (mo_R e_163) (mMo.kd m_160 (mMo.kd m_152 (mMo.kd (mo_R e_147) (mMo.kd m_144 (mMo.kd m_136 (mMo.kd (mo_R e_131) (mMo.kd m_128 (mMo.kd m_120 (mMo.kd (mo_R e_115) (mMo.kd m_112 (mMo.kd m_104 (mMo.kd (mo_R e_99) (mMo.kd m_96 (mMo.kd m_88 (mMo.kd (mo_R e_82) (mMo.kd m_79 (mMo.kd m_71 (mMo.kd (mo_R e_66) (mMo.kd m_63 (mMo.kd m_55 (mMo.kd (mo_R e_50) (mMo.kd m_47 (mMo.kd m_39 (mMo.kd (mo_R e_34) (mMo.kd m_31 (mMo.kd m_23 (mMo.kd (mo_R e_18) (mMo.kd m_11 (mMo.kd (mo_R e_10) (mMo.kd m_3 (mMo.kd (mo_R e_2) k_a0 (by decide)) (by decide)) (by decide)) (by decide)) (by decide)) (by decide)) (by decide)) (by decide)) (by decide)) (by decide)) (by decide)) (by decide)) (by decide)) (by decide)) (by decide)) (by decide)) (by decide)) (by decide)) (by decide)) (by decide)) (by decide)) (by decide)) (by decide)) (by decide)) (by decide)) (by decide)) (by decide)) (by decide)) (by decide)) (by decide)) (by decide)) (by decide)) (by decide)) (by decide)) (by decide)) (by decide) vc_X3 in_X3 (by decide) q284 dX3_init_61 (pc' := 64) rfl (v := va_rf (mgR M_178 a0 1)) rfl ?_
  obtain ⟨b_181, e_182, k_183, h⟩ := h
  refine r_ref [] e_182 ?_
  refine r_iload_n C dX3_init_64 (pc' := 65) rfl (j := 0) rfl ?_
  obtain ⟨b_186, e_187, h⟩ := bn_ h
  obtain ⟨M_188, e_189, h⟩ := bn_ h
  refine r_new C (Cn := RX5) (T := TX5) tyX5 (by decide) vc_X5 in_X5 tyX5_ok df_X5 q200 q256 q110 (Nat.le_of_ble_eq_true rfl) (Nat.le_of_ble_eq_true rfl) dX3_init_65 (pc' := 68) rfl b_186 e_187 M_188 e_189 (fun m_184 k_185 => ?_)
  refine r_dup C dX3_init_68 (pc' := 69) rfl rfl ?_
  refine r_callINv (As := []) (rest := [.ref b_186, .int (6 : Int32), .ref b_181]) C (S_X5_init k_185 h) q259 q110 (List.mem_of_getElem? (i := 6) rfl) q258 rfl rfl hd_X5_init rfl rfl (Nat.le_of_ble_eq_true rfl) (Nat.le_of_ble_eq_true rfl) (Nat.le_of_ble_eq_true rfl) rfl rfl (Nat.le_of_ble_eq_true rfl) (Nat.le_of_ble_eq_true rfl) dX3_init_69 (pc' := 72) rfl (fun M_190 h m_192 => ?_)
  obtain ⟨c_193, h⟩ := h
  obtain ⟨M_194, e_195, h⟩ := bn_ h
  refine r_aast C (o := (some b_186)) (t := 4) (j := 6) (mMo.kd m_192 (mMo.kd m_184 k_183 (by decide)) (by decide)) (by decide) (vp_l (by decide) (by decide) c_193) (by decide) (fun v hv => by cases hv; rw [(mMo.kd m_192 k_185 (by decide))]; exact ⟨rfl, by decide⟩) dX3_init_72 (pc' := 73) rfl M_194 e_195 ?_
  refine r_iinc C (lv' := [(2, .int (7 : Int32)), (0, .ref a0), (1, .ref a1)]) dX3_init_73 (pc' := 76) rfl (j := 0) rfl (7 : Int32) (by decide) (Nat.le_of_ble_eq_true rfl) rfl ?_
  refine r_goto C dX3_init_76 (tgt := 54) (by decide) ?_
  refine r_iload_n C dX3_init_54 (pc' := 55) rfl (j := 0) rfl ?_
  refine r_bipush C dX3_init_55 (pc' := 57) rfl (v := 8) rfl ?_
  refine r_icmp_ge C dX3_init_57 (pc' := 60) rfl (tgt := 79) (by decide) (fun c_196 => absurd (show (8 : Int32) ≤ (7 : Int32) from c_196) (by decide)) (fun _ => ?_)
  refine r_aload_n C dX3_init_60 (pc' := 61) rfl (j := 1) rfl ?_
  refine r_getf C (Cn := RX3) (T := TX3) 1 (mMo.kd (mo_R e_195) (mMo.kd m_192 (mMo.kd m_184 (mMo.kd (mo_R e_179) (mMo.kd m_176 (mMo.kd m_168 (mMo.kd (mo_R e_163) (mMo.kd m_160 (mMo.kd m_152 (mMo.kd (mo_R e_147) (mMo.kd m_144 (mMo.kd m_136 (mMo.kd (mo_R e_131) (mMo.kd m_128 (mMo.kd m_120 (mMo.kd (mo_R e_115) (mMo.kd m_112 (mMo.kd m_104 (mMo.kd (mo_R e_99) (mMo.kd m_96 (mMo.kd m_88 (mMo.kd (mo_R e_82) (mMo.kd m_79 (mMo.kd m_71 (mMo.kd (mo_R e_66) (mMo.kd m_63 (mMo.kd m_55 (mMo.kd (mo_R e_50) (mMo.kd m_47 (mMo.kd m_39 (mMo.kd (mo_R e_34) (mMo.kd m_31 (mMo.kd m_23 (mMo.kd (mo_R e_18) (mMo.kd m_11 (mMo.kd (mo_R e_10) (mMo.kd m_3 (mMo.kd (mo_R e_2) k_a0 (by decide)) (by decide)) (by decide)) (by decide)) (by decide)) (by decide)) (by decide)) (by decide)) (by decide)) (by decide)) (by decide)) (by decide)) (by decide)) (by decide)) (by decide)) (by decide)) (by decide)) (by decide)) (by decide)) (by decide)) (by decide)) (by decide)) (by decide)) (by decide)) (by decide)) (by decide)) (by decide)) (by decide)) (by decide)) (by decide)) (by decide)) (by decide)) (by decide)) (by decide)) (by decide)) (by decide)) (by decide)) (by decide)) (by decide) vc_X3 in_X3 (by decide) q284 dX3_init_61 (pc' := 64) rfl (v := va_rf (mgR M_194 a0 1)) rfl ?_
  obtain ⟨b_197, e_198, k_199, h⟩ := h
  refine r_ref [] e_198 ?_
  refine r_iload_n C dX3_init_64 (pc' := 65) rfl (j := 0) rfl ?_
  obtain ⟨b_202, e_203, h⟩ := bn_ h
  obtain ⟨M_204, e_205, h⟩ := bn_ h
  refine r_new C (Cn := RX5) (T := TX5) tyX5 (by decide) vc_X5 in_X5 tyX5_ok df_X5 q200 q256 q110 (Nat.le_of_ble_eq_true rfl) (Nat.le_of_ble_eq_true rfl) dX3_init_65 (pc' := 68) rfl b_202 e_203 M_204 e_205 (fun m_200 k_201 => ?_)
  refine r_dup C dX3_init_68 (pc' := 69) rfl rfl ?_
  refine r_callINv (As := []) (rest := [.ref b_202, .int (7 : Int32), .ref b_197]) C (S_X5_init k_201 h) q259 q110 (List.mem_of_getElem? (i := 6) rfl) q258 rfl rfl hd_X5_init rfl rfl (Nat.le_of_ble_eq_true rfl) (Nat.le_of_ble_eq_true rfl) (Nat.le_of_ble_eq_true rfl) rfl rfl (Nat.le_of_ble_eq_true rfl) (Nat.le_of_ble_eq_true rfl) dX3_init_69 (pc' := 72) rfl (fun M_206 h m_208 => ?_)
  obtain ⟨c_209, h⟩ := h
  obtain ⟨M_210, e_211, h⟩ := bn_ h
  refine r_aast C (o := (some b_202)) (t := 4) (j := 7) (mMo.kd m_208 (mMo.kd m_200 k_199 (by decide)) (by decide)) (by decide) (vp_l (by decide) (by decide) c_209) (by decide) (fun v hv => by cases hv; rw [(mMo.kd m_208 k_201 (by decide))]; exact ⟨rfl, by decide⟩) dX3_init_72 (pc' := 73) rfl M_210 e_211 ?_
  refine r_iinc C (lv' := [(2, .int (8 : Int32)), (0, .ref a0), (1, .ref a1)]) dX3_init_73 (pc' := 76) rfl (j := 0) rfl (8 : Int32) (by decide) (Nat.le_of_ble_eq_true rfl) rfl ?_
  refine r_goto C dX3_init_76 (tgt := 54) (by decide) ?_
  refine r_iload_n C dX3_init_54 (pc' := 55) rfl (j := 0) rfl ?_
  refine r_bipush C dX3_init_55 (pc' := 57) rfl (v := 8) rfl ?_
  refine r_icmp_ge C dX3_init_57 (pc' := 60) rfl (tgt := 79) (by decide) (fun _ => ?_) (fun c_212 => absurd (show ¬ ((8 : Int32) ≤ (8 : Int32)) from c_212) (by decide))
  exact r_vret C hE (Nat.le_of_ble_eq_true rfl) (Nat.le_of_ble_eq_true rfl) dX3_init_79 ⟨rfl, h⟩
set_option maxHeartbeats 4000000 in
theorem B_X3_toldPeople_13 {E : mE} {a2 : Nat} {x3 : Int32} {X47 : MM → Int32 → Prop} {Post : Int32 → MM → Prop} (C : mC E yX3_toldPeople cX3_toldPeople 6 ((some .int)) { frames := 0, cells := 0, slots := 0, locals := 0 }) (hE : mEnd E { frames := 0, cells := 0, slots := 0, locals := 0 } (pI_ Post)) : ∀ (n_ : Nat) (M : MM) (x1 : Int32) (x4 : Int32), mkd M a2 = 104 → wl_X3_toldPeople_13 a2 x3 X47 n_ M x1 x4 → (∀ (M' : MM) (x1' : Int32), mMo M M' → X47 M' x1' → mV E M' 0 0 47 [(1, .int x1')] []) → mV E M 0 0 13 [(1, .int x1), (2, .ref a2), (3, .int x3), (4, .int x4)] [] := by
  intro n_
  induction n_ with
  | zero =>
    intro M x1 x4 k_a2 h hX47
    exact absurd h (by rw [wl_X3_toldPeople_13]; exact fun q => q)
  | succ n_ ih =>
    intro M x1 x4 k_a2 h hX47
    rw [wl_X3_toldPeople_13] at h
    refine r_iload C dX3_toldPeople_13 (pc' := 15) rfl (j := 3) rfl ?_
    refine r_iload_n C dX3_toldPeople_15 (pc' := 16) rfl (j := 2) rfl ?_
    refine r_icmp_ge C dX3_toldPeople_16 (pc' := 19) rfl (tgt := 47) (by decide) (fun c_6 => ?_) (fun c_6 => ?_)
    · have h := it_t h c_6
      refine r_sub (lv' := [(1, .int x1)]) [0] rfl ?_
      exact hX47 M x1 mMo.rf h
    · have h := it_f h c_6
      refine r_aload_n C dX3_toldPeople_19 (pc' := 20) rfl (j := 1) rfl ?_
      refine r_iload C dX3_toldPeople_20 (pc' := 22) rfl (j := 3) rfl ?_
      obtain ⟨c_7, h⟩ := h
      refine r_aald C (t := 4) (j := (ix_ x4)) k_a2 (by decide) rfl rfl c_7 rfl dX3_toldPeople_22 (pc' := 23) rfl ?_
      obtain ⟨b_8, e_9, k_10, h⟩ := h
      refine r_ref [] e_9 ?_
      refine r_astore C (lv' := [(5, .ref b_8), (1, .int x1), (2, .ref a2), (3, .int x3), (4, .int x4)]) dX3_toldPeople_23 (pc' := 25) rfl b_8 rfl (Nat.le_of_ble_eq_true rfl) rfl ?_
      refine r_iload_n C dX3_toldPeople_25 (pc' := 26) rfl (j := 1) rfl ?_
      refine r_aload C dX3_toldPeople_26 (pc' := 28) rfl (j := 0) rfl ?_
      refine r_getfN C (Cn := RX5) (T := TX5) 3 k_10 (by decide) vc_X5 in_X5 (by decide) (List.mem_of_getElem? (i := 29) rfl) dX3_toldPeople_28 (pc' := 31) rfl (v := .int (mgI M b_8 3)) rfl ?_
      refine r_if_eq C dX3_toldPeople_31 (pc' := 34) rfl (tgt := 38) (by decide) (fun c_11 => ?_) (fun c_11 => ?_)
      · have h := it_t h c_11
        refine r_iconst C dX3_toldPeople_38 (pc' := 39) rfl (v := 0) rfl ?_
        refine r_iadd C dX3_toldPeople_39 (pc' := 40) rfl ?_
        obtain ⟨x1_12, e_13, h⟩ := bn_ h
        refine r_istore_n C (lv' := [(1, .int x1_12), (5, .ref b_8), (2, .ref a2), (3, .int x3), (4, .int x4)]) dX3_toldPeople_40 (pc' := 41) rfl rfl x1_12 e_13 (Nat.le_of_ble_eq_true rfl) rfl ?_
        obtain ⟨x4_14, e_15, h⟩ := bn_ h
        refine r_iinc C (lv' := [(4, .int x4_14), (1, .int x1_12), (5, .ref b_8), (2, .ref a2), (3, .int x3)]) dX3_toldPeople_41 (pc' := 44) rfl (j := 4) rfl x4_14 (by rw [e_15]; rfl) (Nat.le_of_ble_eq_true rfl) rfl ?_
        refine r_goto C dX3_toldPeople_44 (tgt := 13) (by decide) ?_
        refine r_sub (lv' := [(1, .int x1_12), (2, .ref a2), (3, .int x3), (4, .int x4_14)]) [1, 3, 4, 0] rfl ?_
        exact ih M x1_12 x4_14 k_a2 h (fun M9 w0 hm9 h9 => hX47 M9 w0 hm9 h9)
      · have h := it_f h c_11
        refine r_iconst C dX3_toldPeople_34 (pc' := 35) rfl (v := 1) rfl ?_
        refine r_goto C dX3_toldPeople_35 (tgt := 39) (by decide) ?_
        refine r_iadd C dX3_toldPeople_39 (pc' := 40) rfl ?_
        obtain ⟨x1_16, e_17, h⟩ := bn_ h
        refine r_istore_n C (lv' := [(1, .int x1_16), (5, .ref b_8), (2, .ref a2), (3, .int x3), (4, .int x4)]) dX3_toldPeople_40 (pc' := 41) rfl rfl x1_16 e_17 (Nat.le_of_ble_eq_true rfl) rfl ?_
        obtain ⟨x4_18, e_19, h⟩ := bn_ h
        refine r_iinc C (lv' := [(4, .int x4_18), (1, .int x1_16), (5, .ref b_8), (2, .ref a2), (3, .int x3)]) dX3_toldPeople_41 (pc' := 44) rfl (j := 4) rfl x4_18 (by rw [e_19]; rfl) (Nat.le_of_ble_eq_true rfl) rfl ?_
        refine r_goto C dX3_toldPeople_44 (tgt := 13) (by decide) ?_
        refine r_sub (lv' := [(1, .int x1_16), (2, .ref a2), (3, .int x3), (4, .int x4_18)]) [1, 3, 4, 0] rfl ?_
        exact ih M x1_16 x4_18 k_a2 h (fun M9 w0 hm9 h9 => hX47 M9 w0 hm9 h9)
set_option maxHeartbeats 4000000 in
theorem S_X3_toldPeople {D : DD} {l : Launch} {M : MM} {a0 : Nat} {Post : Int32 → MM → Prop} (k_a0 : mkd M a0 = 3) (h : wp_X3_toldPeople M a0 Post) : mMet D l yX3_toldPeople cX3_toldPeople 6 ((some .int)) { frames := 0, cells := 0, slots := 0, locals := 0 } M [.ref a0] (pI_ Post) := by
  refine m_of2 [(0, .ref a0)] (by decide +kernel) (Nat.le_of_ble_eq_true rfl) rfl (fun E hED hEl C hE => ?_)
  subst hED
  subst hEl
  unfold wp_X3_toldPeople at h
  refine r_iconst C dX3_toldPeople_0 (pc' := 1) rfl (v := 0) rfl ?_
  refine r_istore_n C (lv' := [(1, .int (0 : Int32)), (0, .ref a0)]) dX3_toldPeople_1 (pc' := 2) rfl rfl (0 : Int32) rfl (Nat.le_of_ble_eq_true rfl) rfl ?_
  refine r_aload_n C dX3_toldPeople_2 (pc' := 3) rfl (j := 1) rfl ?_
  refine r_getf C (Cn := RX3) (T := TX3) 1 k_a0 (by decide) vc_X3 in_X3 (by decide) q284 dX3_toldPeople_3 (pc' := 6) rfl (v := va_rf (mgR M a0 1)) rfl ?_
  obtain ⟨b_1, e_2, k_3, h⟩ := h
  refine r_ref [] e_2 ?_
  refine r_astore_n C (lv' := [(2, .ref b_1), (1, .int (0 : Int32)), (0, .ref a0)]) dX3_toldPeople_6 (pc' := 7) rfl rfl b_1 rfl (Nat.le_of_ble_eq_true rfl) rfl ?_
  refine r_aload_n C dX3_toldPeople_7 (pc' := 8) rfl (j := 0) rfl ?_
  refine r_alen C (t := 4) k_3 (by decide) dX3_toldPeople_8 (pc' := 9) rfl ?_
  obtain ⟨x3_4, e_5, h⟩ := bn_ h
  refine r_istore_n C (lv' := [(3, .int x3_4), (2, .ref b_1), (1, .int (0 : Int32)), (0, .ref a0)]) dX3_toldPeople_9 (pc' := 10) rfl rfl x3_4 e_5 (Nat.le_of_ble_eq_true rfl) rfl ?_
  refine r_iconst C dX3_toldPeople_10 (pc' := 11) rfl (v := 0) rfl ?_
  refine r_istore C (lv' := [(4, .int (0 : Int32)), (3, .int x3_4), (2, .ref b_1), (1, .int (0 : Int32)), (0, .ref a0)]) dX3_toldPeople_11 (pc' := 13) rfl (0 : Int32) rfl (Nat.le_of_ble_eq_true rfl) rfl ?_
  obtain ⟨n_20, h⟩ := h
  refine r_sub (lv' := [(1, .int (0 : Int32)), (2, .ref b_1), (3, .int x3_4), (4, .int (0 : Int32))]) [3, 2, 1, 0] rfl ?_
  refine B_X3_toldPeople_13 C hE n_20 M (0 : Int32) (0 : Int32) k_3 h (fun M_21 x1_23 m_22 h => ?_)
  refine r_iload_n C dX3_toldPeople_47 (pc' := 48) rfl (j := 0) rfl ?_
  exact r_iret C hE (Nat.le_of_ble_eq_true rfl) (Nat.le_of_ble_eq_true rfl) dX3_toldPeople_48 ⟨_, rfl, h⟩
set_option maxHeartbeats 4000000 in
theorem B_X3_at_36 {E : mE} {M : MM} {a0 : Nat} {x1 : Int32} {a2 : Nat} {xs0 : Int32} {Post : Option Nat → MM → Prop} (C : mC E yX3_at cX3_at 4 ((some (.object "LandingTree$Moment"))) { frames := 1, cells := 0, slots := 0, locals := 27 }) (hE : mEnd E { frames := 1, cells := 0, slots := 0, locals := 27 } (pR_ Post)) (k_a0 : mkd M a0 = 3) (k_a2 : mkd M a2 = 4) (h : wb_X3_at_36 M a0 x1 a2 xs0 Post) : mV E M 0 0 36 [(0, .ref a0), (1, .int x1), (2, .ref a2)] [.int xs0] := by
  unfold wb_X3_at_36 at h
  refine r_istore_n C (lv' := [(3, .int xs0), (0, .ref a0), (1, .int x1), (2, .ref a2)]) dX3_at_36 (pc' := 37) rfl rfl xs0 rfl (Nat.le_of_ble_eq_true rfl) rfl ?_
  refine r_aload_n C dX3_at_37 (pc' := 38) rfl (j := 1) rfl ?_
  refine r_getf C (Cn := RX3) (T := TX3) 7 k_a0 (by decide) vc_X3 in_X3 (by decide) q296 dX3_at_38 (pc' := 41) rfl (v := va_rf (mgR M a0 7)) rfl ?_
  obtain ⟨b_9, e_10, k_11, h⟩ := h
  refine r_ref [] e_10 ?_
  refine r_getfN C (Cn := RX0) (T := TX0) 0 k_11 (by decide) vc_X0 in_X0 (by decide) (List.mem_of_getElem? (i := 32) rfl) dX3_at_41 (pc' := 44) rfl (v := va_rf (mgR M b_9 0)) rfl ?_
  obtain ⟨b_12, e_13, k_14, h⟩ := h
  refine r_ref [] e_13 ?_
  refine r_aload_n C dX3_at_44 (pc' := 45) rfl (j := 1) rfl ?_
  refine r_getf C (Cn := RX3) (T := TX3) 2 k_a0 (by decide) vc_X3 in_X3 (by decide) q286 dX3_at_45 (pc' := 48) rfl (v := .int (mgI M a0 2)) rfl ?_
  refine r_aload_n C dX3_at_48 (pc' := 49) rfl (j := 1) rfl ?_
  refine r_callVi (As := []) (rest := [.int (mgI M a0 2), .ref b_12]) (Cn := RX3) (T := TX3) C k_a0 (by decide) vc_X3 (S_X3_toldPeople k_a0 h) (lw_V q810 q811 q812 q108 q813) rfl hd_X3_toldPeople rfl rfl (Nat.le_of_ble_eq_true rfl) (Nat.le_of_ble_eq_true rfl) (Nat.le_of_ble_eq_true rfl) rfl rfl (Nat.le_of_ble_eq_true rfl) (Nat.le_of_ble_eq_true rfl) dX3_at_49 (pc' := 52) rfl (fun r_16 M_15 h m_17 => ?_)
  refine r_callVq (As := [.int (mgI M a0 2), .int r_16]) (rest := []) (Cn := RX2) (T := TX2) C (mMo.kd m_17 k_14 (by decide)) (by decide) vc_X2 (S_X2_of (mMo.kd m_17 k_14 (by decide)) h) (lw_V q814 q815 q816 q107 q817) rfl hd_X2_of rfl rfl (Nat.le_of_ble_eq_true rfl) (Nat.le_of_ble_eq_true rfl) (Nat.le_of_ble_eq_true rfl) rfl rfl (Nat.le_of_ble_eq_true rfl) (Nat.le_of_ble_eq_true rfl) dX3_at_52 (pc' := 55) rfl (fun r_19 M_18 h m_20 => ?_)
  obtain ⟨b_21, e_22, k_23, h⟩ := h
  refine r_ref [] e_22 ?_
  refine r_iload_n C dX3_at_55 (pc' := 56) rfl (j := 2) rfl ?_
  refine r_aload_n C dX3_at_56 (pc' := 57) rfl (j := 3) rfl ?_
  refine r_getfN C (Cn := RX4) (T := TX4) 1 (mMo.kd m_20 (mMo.kd m_17 k_a2 (by decide)) (by decide)) (by decide) vc_X4 in_X4 (by decide) (List.mem_of_getElem? (i := 33) rfl) dX3_at_57 (pc' := 60) rfl (v := .int (mgI M_18 a2 1)) rfl ?_
  refine r_aload_n C dX3_at_60 (pc' := 61) rfl (j := 3) rfl ?_
  refine r_getfN C (Cn := RX4) (T := TX4) 2 (mMo.kd m_20 (mMo.kd m_17 k_a2 (by decide)) (by decide)) (by decide) vc_X4 in_X4 (by decide) (List.mem_of_getElem? (i := 34) rfl) dX3_at_61 (pc' := 64) rfl (v := .int (mgI M_18 a2 2)) rfl ?_
  refine r_aload_n C dX3_at_64 (pc' := 65) rfl (j := 3) rfl ?_
  refine r_bipush C dX3_at_65 (pc' := 67) rfl (v := 6) rfl ?_
  refine r_callVi (As := [.int (6 : Int32)]) (rest := [.int (mgI M_18 a2 2), .int (mgI M_18 a2 1), .int x1, .ref b_21]) (Cn := RX4) (T := TX4) C (mMo.kd m_20 (mMo.kd m_17 k_a2 (by decide)) (by decide)) (by decide) vc_X4 (S_X4_looked (mMo.kd m_20 (mMo.kd m_17 k_a2 (by decide)) (by decide)) h) (lw_V q818 q819 q820 q109 q821) rfl hd_X4_looked rfl rfl (Nat.le_of_ble_eq_true rfl) (Nat.le_of_ble_eq_true rfl) (Nat.le_of_ble_eq_true rfl) rfl rfl (Nat.le_of_ble_eq_true rfl) (Nat.le_of_ble_eq_true rfl) dX3_at_67 (pc' := 70) rfl (fun r_25 M_24 h m_26 => ?_)
  refine r_aload_n C dX3_at_70 (pc' := 71) rfl (j := 3) rfl ?_
  refine r_getfN C (Cn := RX4) (T := TX4) 4 (mMo.kd m_26 (mMo.kd m_20 (mMo.kd m_17 k_a2 (by decide)) (by decide)) (by decide)) (by decide) vc_X4 in_X4 (by decide) (List.mem_of_getElem? (i := 35) rfl) dX3_at_71 (pc' := 74) rfl (v := .int (mgI M_24 a2 4)) rfl ?_
  refine r_aload_n C dX3_at_74 (pc' := 75) rfl (j := 3) rfl ?_
  refine r_getfN C (Cn := RX4) (T := TX4) 5 (mMo.kd m_26 (mMo.kd m_20 (mMo.kd m_17 k_a2 (by decide)) (by decide)) (by decide)) (by decide) vc_X4 in_X4 (by decide) (List.mem_of_getElem? (i := 36) rfl) dX3_at_75 (pc' := 78) rfl (v := .int (mgI M_24 a2 5)) rfl ?_
  refine r_iload_n C dX3_at_78 (pc' := 79) rfl (j := 0) rfl ?_
  refine r_callVq (As := [.int x1, .int (mgI M_18 a2 1), .int (mgI M_18 a2 2), .int r_25, .int (mgI M_24 a2 4), .int (mgI M_24 a2 5), .int xs0]) (rest := []) (Cn := RX2) (T := TX2) C (mMo.kd m_26 k_23 (by decide)) (by decide) vc_X2 (S_X2_ofPlant (mMo.kd m_26 k_23 (by decide)) h) (lw_V q822 q823 q824 q107 q825) rfl hd_X2_ofPlant rfl rfl (Nat.le_of_ble_eq_true rfl) (Nat.le_of_ble_eq_true rfl) (Nat.le_of_ble_eq_true rfl) rfl rfl (Nat.le_of_ble_eq_true rfl) (Nat.le_of_ble_eq_true rfl) dX3_at_79 (pc' := 82) rfl (fun r_28 M_27 h m_29 => ?_)
  obtain ⟨b_30, e_31, k_32, h⟩ := h
  refine r_ref [] e_31 ?_
  exact r_aret (x := (some b_30)) C hE (Nat.le_of_ble_eq_true rfl) (Nat.le_of_ble_eq_true rfl) dX3_at_82 ⟨_, rfl, h⟩
set_option maxHeartbeats 4000000 in
theorem B_X3_at_22 {E : mE} {M : MM} {a0 : Nat} {x1 : Int32} {a2 : Nat} {Post : Option Nat → MM → Prop} (C : mC E yX3_at cX3_at 4 ((some (.object "LandingTree$Moment"))) { frames := 1, cells := 0, slots := 0, locals := 27 }) (hE : mEnd E { frames := 1, cells := 0, slots := 0, locals := 27 } (pR_ Post)) (k_a0 : mkd M a0 = 3) (k_a2 : mkd M a2 = 4) (h : wb_X3_at_22 M a0 x1 a2 Post) : mV E M 0 0 22 [(0, .ref a0), (1, .int x1), (2, .ref a2)] [] := by
  unfold wb_X3_at_22 at h
  refine r_bipush C dX3_at_22 (pc' := 24) rfl (v := 99) rfl ?_
  refine r_goto C dX3_at_24 (tgt := 36) (by decide) ?_
  refine r_sub (lv' := [(0, .ref a0), (1, .int x1), (2, .ref a2)]) [0, 1, 2] rfl ?_
  exact B_X3_at_36 C hE k_a0 k_a2 h
set_option maxHeartbeats 4000000 in
theorem S_X3_at {D : DD} {l : Launch} {M : MM} {a0 : Nat} {x1 : Int32} {Post : Option Nat → MM → Prop} (k_a0 : mkd M a0 = 3) (h : wp_X3_at M a0 x1 Post) : mMet D l yX3_at cX3_at 4 ((some (.object "LandingTree$Moment"))) { frames := 1, cells := 0, slots := 0, locals := 27 } M [.ref a0, .int x1] (pR_ Post) := by
  refine m_of2 [(0, .ref a0), (1, .int x1)] (by decide +kernel) (Nat.le_of_ble_eq_true rfl) rfl (fun E hED hEl C hE => ?_)
  subst hED
  subst hEl
  unfold wp_X3_at at h
  refine r_aload_n C dX3_at_0 (pc' := 1) rfl (j := 0) rfl ?_
  refine r_getf C (Cn := RX3) (T := TX3) 0 k_a0 (by decide) vc_X3 in_X3 (by decide) q282 dX3_at_1 (pc' := 4) rfl (v := va_rf (mgR M a0 0)) rfl ?_
  obtain ⟨b_1, e_2, k_3, h⟩ := h
  refine r_ref [] e_2 ?_
  refine r_iload_n C dX3_at_4 (pc' := 5) rfl (j := 1) rfl ?_
  obtain ⟨c_4, h⟩ := h
  refine r_aald C (t := 3) (j := (ix_ x1)) k_3 (by decide) rfl rfl c_4 rfl dX3_at_5 (pc' := 6) rfl ?_
  obtain ⟨b_5, e_6, k_7, h⟩ := h
  refine r_ref [] e_6 ?_
  refine r_astore_n C (lv' := [(2, .ref b_5), (0, .ref a0), (1, .int x1)]) dX3_at_6 (pc' := 7) rfl rfl b_5 rfl (Nat.le_of_ble_eq_true rfl) rfl ?_
  refine r_aload_n C dX3_at_7 (pc' := 8) rfl (j := 0) rfl ?_
  refine r_getfN C (Cn := RX4) (T := TX4) 9 k_7 (by decide) vc_X4 in_X4 (by decide) (List.mem_of_getElem? (i := 30) rfl) dX3_at_8 (pc' := 11) rfl (v := .int (mgI M b_5 9)) rfl ?_
  refine r_if_eq C dX3_at_11 (pc' := 14) rfl (tgt := 22) (by decide) (fun c_8 => ?_) (fun c_8 => ?_)
  · have h := it_t h c_8
    refine r_sub (lv' := [(0, .ref a0), (1, .int x1), (2, .ref b_5)]) [1, 2, 0] rfl ?_
    exact B_X3_at_22 C hE k_a0 k_7 h
  · have h := it_f h c_8
    refine r_aload_n C dX3_at_14 (pc' := 15) rfl (j := 0) rfl ?_
    refine r_getfN C (Cn := RX4) (T := TX4) 7 k_7 (by decide) vc_X4 in_X4 (by decide) (List.mem_of_getElem? (i := 31) rfl) dX3_at_15 (pc' := 18) rfl (v := .int (mgI M b_5 7)) rfl ?_
    refine r_iconst C dX3_at_18 (pc' := 19) rfl (v := -1) rfl ?_
    refine r_icmp_ne C dX3_at_19 (pc' := 22) rfl (tgt := 27) (by decide) (fun c_33 => ?_) (fun c_33 => ?_)
    · have h := it_f h c_33
      refine r_aload_n C dX3_at_27 (pc' := 28) rfl (j := 1) rfl ?_
      refine r_getf C (Cn := RX3) (T := TX3) 2 k_a0 (by decide) vc_X3 in_X3 (by decide) q286 dX3_at_28 (pc' := 31) rfl (v := .int (mgI M a0 2)) rfl ?_
      refine r_aload_n C dX3_at_31 (pc' := 32) rfl (j := 0) rfl ?_
      refine r_getfN C (Cn := RX4) (T := TX4) 7 k_7 (by decide) vc_X4 in_X4 (by decide) (List.mem_of_getElem? (i := 31) rfl) dX3_at_32 (pc' := 35) rfl (v := .int (mgI M b_5 7)) rfl ?_
      refine r_isub C dX3_at_35 (pc' := 36) rfl ?_
      refine r_sub (lv' := [(0, .ref a0), (1, .int x1), (2, .ref b_5)]) [1, 2, 0] rfl ?_
      exact B_X3_at_36 C hE k_a0 k_7 h
    · have h := it_t h c_33
      refine r_sub (lv' := [(0, .ref a0), (1, .int x1), (2, .ref b_5)]) [1, 2, 0] rfl ?_
      exact B_X3_at_22 C hE k_a0 k_7 h
set_option maxHeartbeats 4000000 in
theorem S_X3_draw {D : DD} {l : Launch} {M : MM} {a0 : Nat} {Post : Int32 → MM → Prop} (k_a0 : mkd M a0 = 3) (h : wp_X3_draw M a0 Post) : mMet D l yX3_draw cX3_draw 1 ((some .int)) { frames := 0, cells := 0, slots := 0, locals := 0 } M [.ref a0] (pI_ Post) := by
  refine m_of2 [(0, .ref a0)] (by decide +kernel) (Nat.le_of_ble_eq_true rfl) rfl (fun E hED hEl C hE => ?_)
  subst hED
  subst hEl
  unfold wp_X3_draw at h
  refine r_aload_n C dX3_draw_0 (pc' := 1) rfl (j := 0) rfl ?_
  refine r_sipush C dX3_draw_1 (pc' := 4) rfl (v := 25173) rfl ?_
  refine r_aload_n C dX3_draw_4 (pc' := 5) rfl (j := 0) rfl ?_
  refine r_getf C (Cn := RX3) (T := TX3) 3 k_a0 (by decide) vc_X3 in_X3 (by decide) q288 dX3_draw_5 (pc' := 8) rfl (v := .int (mgI M a0 3)) rfl ?_
  refine r_imul C dX3_draw_8 (pc' := 9) rfl ?_
  refine r_sipush C dX3_draw_9 (pc' := 12) rfl (v := 13849) rfl ?_
  refine r_iadd C dX3_draw_12 (pc' := 13) rfl ?_
  refine r_ldc C dX3_draw_13 (pc' := 15) rfl q791 ?_
  refine r_irem C dX3_draw_15 (pc' := 16) rfl (by decide) ?_
  obtain ⟨M_1, e_2, h⟩ := bn_ h
  refine r_putI C (Cn := RX3) (T := TX3) tyX3 3 k_a0 (by decide) vc_X3 in_X3 tyX3_ok nmX3 (by decide) q288 rfl rfl dX3_draw_16 (pc' := 19) rfl rfl rfl M_1 e_2 ?_
  refine r_aload_n C dX3_draw_19 (pc' := 20) rfl (j := 0) rfl ?_
  refine r_getf C (Cn := RX3) (T := TX3) 3 (mMo.kd (mo_I e_2) k_a0 (by decide)) (by decide) vc_X3 in_X3 (by decide) q288 dX3_draw_20 (pc' := 23) rfl (v := .int (mgI M_1 a0 3)) rfl ?_
  refine r_bipush C dX3_draw_23 (pc' := 25) rfl (v := 10) rfl ?_
  refine r_irem C dX3_draw_25 (pc' := 26) rfl (by decide) ?_
  exact r_iret C hE (Nat.le_of_ble_eq_true rfl) (Nat.le_of_ble_eq_true rfl) dX3_draw_26 ⟨_, rfl, h⟩
set_option maxHeartbeats 4000000 in
theorem B_X3_dayEnds_60 {E : mE} {M : MM} {a0 : Nat} {x1 : Int32} {x3 : Int32} {as0 : Nat} {xs1 : Int32} {xs2 : Int32} {Post : MM → Prop} (C : mC E yX3_dayEnds cX3_dayEnds 4 (none) { frames := 203, cells := 0, slots := 0, locals := 5476 }) (hE : mEnd E { frames := 203, cells := 0, slots := 0, locals := 5476 } (pV_ Post)) (k_a0 : mkd M a0 = 3) (k_as0 : mkd M as0 = 3) (h : wb_X3_dayEnds_60 M a0 x1 x3 as0 xs1 xs2 Post) : mV E M 0 0 60 [(0, .ref a0), (1, .int x1), (3, .int x3)] [.int xs2, .int xs1, .ref as0] := by
  unfold wb_X3_dayEnds_60 at h
  refine r_iadd C dX3_dayEnds_60 (pc' := 61) rfl ?_
  obtain ⟨M_16, e_17, h⟩ := bn_ h
  refine r_putI C (Cn := RX3) (T := TX3) tyX3 6 k_as0 (by decide) vc_X3 in_X3 tyX3_ok nmX3 (by decide) q294 rfl rfl dX3_dayEnds_61 (pc' := 64) rfl rfl rfl M_16 e_17 ?_
  refine r_aload_n C dX3_dayEnds_64 (pc' := 65) rfl (j := 0) rfl ?_
  refine r_getf C (Cn := RX3) (T := TX3) 0 (mMo.kd (mo_I e_17) k_a0 (by decide)) (by decide) vc_X3 in_X3 (by decide) q282 dX3_dayEnds_65 (pc' := 68) rfl (v := va_rf (mgR M_16 a0 0)) rfl ?_
  obtain ⟨b_18, e_19, k_20, h⟩ := h
  refine r_ref [] e_19 ?_
  refine r_iload_n C dX3_dayEnds_68 (pc' := 69) rfl (j := 1) rfl ?_
  obtain ⟨c_21, h⟩ := h
  refine r_aald C (t := 3) (j := (ix_ x1)) k_20 (by decide) rfl rfl c_21 rfl dX3_dayEnds_69 (pc' := 70) rfl ?_
  obtain ⟨b_22, e_23, k_24, h⟩ := h
  refine r_ref [] e_23 ?_
  refine r_iload_n C dX3_dayEnds_70 (pc' := 71) rfl (j := 2) rfl ?_
  refine r_callVv (As := [.int x3]) (rest := []) (Cn := RX4) (T := TX4) C k_24 (by decide) vc_X4 (S_X4_dayEnds k_24 h) (lw_V q896 q897 q898 q109 q899) rfl hd_X4_dayEnds rfl rfl (Nat.le_of_ble_eq_true rfl) (Nat.le_of_ble_eq_true rfl) (Nat.le_of_ble_eq_true rfl) rfl rfl (Nat.le_of_ble_eq_true rfl) (Nat.le_of_ble_eq_true rfl) dX3_dayEnds_71 (pc' := 74) rfl (fun M_25 h m_27 => ?_)
  exact r_vret C hE (Nat.le_of_ble_eq_true rfl) (Nat.le_of_ble_eq_true rfl) dX3_dayEnds_74 ⟨rfl, h⟩
set_option maxHeartbeats 4000000 in
theorem B_X3_dayEnds_46 {E : mE} {M : MM} {a0 : Nat} {x1 : Int32} {x2 : Int32} {x3 : Int32} {Post : MM → Prop} (C : mC E yX3_dayEnds cX3_dayEnds 4 (none) { frames := 203, cells := 0, slots := 0, locals := 5476 }) (hE : mEnd E { frames := 203, cells := 0, slots := 0, locals := 5476 } (pV_ Post)) (k_a0 : mkd M a0 = 3) (h : wb_X3_dayEnds_46 M a0 x1 x2 x3 Post) : mV E M 0 0 46 [(0, .ref a0), (1, .int x1), (2, .int x2), (3, .int x3)] [] := by
  unfold wb_X3_dayEnds_46 at h
  refine r_aload_n C dX3_dayEnds_46 (pc' := 47) rfl (j := 0) rfl ?_
  refine r_dup C dX3_dayEnds_47 (pc' := 48) rfl rfl ?_
  refine r_getf C (Cn := RX3) (T := TX3) 6 k_a0 (by decide) vc_X3 in_X3 (by decide) q294 dX3_dayEnds_48 (pc' := 51) rfl (v := .int (mgI M a0 6)) rfl ?_
  refine r_iload_n C dX3_dayEnds_51 (pc' := 52) rfl (j := 2) rfl ?_
  refine r_if_eq C dX3_dayEnds_52 (pc' := 55) rfl (tgt := 59) (by decide) (fun c_15 => ?_) (fun c_15 => ?_)
  · have h := it_t h c_15
    refine r_iconst C dX3_dayEnds_59 (pc' := 60) rfl (v := 0) rfl ?_
    refine r_sub (lv' := [(0, .ref a0), (1, .int x1), (3, .int x3)]) [0, 1, 3] rfl ?_
    exact B_X3_dayEnds_60 C hE k_a0 k_a0 h
  · have h := it_f h c_15
    refine r_iconst C dX3_dayEnds_55 (pc' := 56) rfl (v := 1) rfl ?_
    refine r_goto C dX3_dayEnds_56 (tgt := 60) (by decide) ?_
    refine r_sub (lv' := [(0, .ref a0), (1, .int x1), (3, .int x3)]) [0, 1, 3] rfl ?_
    exact B_X3_dayEnds_60 C hE k_a0 k_a0 h
set_option maxHeartbeats 4000000 in
theorem B_X3_dayEnds_13 {E : mE} {M : MM} {a0 : Nat} {x1 : Int32} {xs0 : Int32} {Post : MM → Prop} (C : mC E yX3_dayEnds cX3_dayEnds 4 (none) { frames := 203, cells := 0, slots := 0, locals := 5476 }) (hE : mEnd E { frames := 203, cells := 0, slots := 0, locals := 5476 } (pV_ Post)) (k_a0 : mkd M a0 = 3) (h : wb_X3_dayEnds_13 M a0 x1 xs0 Post) : mV E M 0 0 13 [(0, .ref a0), (1, .int x1)] [.int xs0] := by
  unfold wb_X3_dayEnds_13 at h
  refine r_istore_n C (lv' := [(2, .int xs0), (0, .ref a0), (1, .int x1)]) dX3_dayEnds_13 (pc' := 14) rfl rfl xs0 rfl (Nat.le_of_ble_eq_true rfl) rfl ?_
  refine r_aload_n C dX3_dayEnds_14 (pc' := 15) rfl (j := 1) rfl ?_
  refine r_iload_n C dX3_dayEnds_15 (pc' := 16) rfl (j := 2) rfl ?_
  refine r_callVq (As := [.int x1]) (rest := []) (Cn := RX3) (T := TX3) C k_a0 (by decide) vc_X3 (S_X3_at k_a0 h) (lw_V q806 q808 qs18 q108 q809) rfl hd_X3_at rfl rfl (Nat.le_of_ble_eq_true rfl) (Nat.le_of_ble_eq_true rfl) (Nat.le_of_ble_eq_true rfl) rfl rfl (Nat.le_of_ble_eq_true rfl) (Nat.le_of_ble_eq_true rfl) dX3_dayEnds_16 (pc' := 19) rfl (fun r_6 M_5 h m_7 => ?_)
  obtain ⟨b_8, e_9, k_10, h⟩ := h
  refine r_ref [] e_9 ?_
  refine r_bipush C dX3_dayEnds_19 (pc' := 21) rfl (v := 101) rfl ?_
  refine r_bipush C dX3_dayEnds_21 (pc' := 23) rfl (v := 9) rfl ?_
  refine r_callVi (As := [.int (101 : Int32), .int (9 : Int32)]) (rest := []) (Cn := RX2) (T := TX2) C k_10 (by decide) vc_X2 (S_X2_tells k_10 h) (lw_V q892 q893 q894 q107 q895) rfl hd_X2_tells rfl rfl (Nat.le_of_ble_eq_true rfl) (Nat.le_of_ble_eq_true rfl) (Nat.le_of_ble_eq_true rfl) rfl rfl (Nat.le_of_ble_eq_true rfl) (Nat.le_of_ble_eq_true rfl) dX3_dayEnds_23 (pc' := 26) rfl (fun r_12 M_11 h m_13 => ?_)
  refine r_istore_n C (lv' := [(3, .int r_12), (2, .int xs0), (0, .ref a0), (1, .int x1)]) dX3_dayEnds_26 (pc' := 27) rfl rfl r_12 rfl (Nat.le_of_ble_eq_true rfl) rfl ?_
  refine r_iload_n C dX3_dayEnds_27 (pc' := 28) rfl (j := 1) rfl ?_
  refine r_if_eq C dX3_dayEnds_28 (pc' := 31) rfl (tgt := 46) (by decide) (fun c_14 => ?_) (fun c_14 => ?_)
  · have h := it_t h c_14
    refine r_sub (lv' := [(0, .ref a0), (1, .int x1), (2, .int xs0), (3, .int r_12)]) [2, 3, 1, 0] rfl ?_
    exact B_X3_dayEnds_46 C hE (mMo.kd m_13 (mMo.kd m_7 k_a0 (by decide)) (by decide)) h
  · have h := it_f h c_14
    refine r_iload_n C dX3_dayEnds_31 (pc' := 32) rfl (j := 0) rfl ?_
    refine r_aload_n C dX3_dayEnds_32 (pc' := 33) rfl (j := 2) rfl ?_
    refine r_iload_n C dX3_dayEnds_33 (pc' := 34) rfl (j := 3) rfl ?_
    refine r_callVq (As := [.int x1]) (rest := [.int r_12]) (Cn := RX3) (T := TX3) C (mMo.kd m_13 (mMo.kd m_7 k_a0 (by decide)) (by decide)) (by decide) vc_X3 (S_X3_at (mMo.kd m_13 (mMo.kd m_7 k_a0 (by decide)) (by decide)) h) (lw_V q806 q808 qs18 q108 q809) rfl hd_X3_at rfl rfl (Nat.le_of_ble_eq_true rfl) (Nat.le_of_ble_eq_true rfl) (Nat.le_of_ble_eq_true rfl) rfl rfl (Nat.le_of_ble_eq_true rfl) (Nat.le_of_ble_eq_true rfl) dX3_dayEnds_34 (pc' := 37) rfl (fun r_29 M_28 h m_30 => ?_)
    obtain ⟨b_31, e_32, k_33, h⟩ := h
    refine r_ref [] e_32 ?_
    refine r_bipush C dX3_dayEnds_37 (pc' := 39) rfl (v := 104) rfl ?_
    refine r_bipush C dX3_dayEnds_39 (pc' := 41) rfl (v := 9) rfl ?_
    refine r_callVi (As := [.int (104 : Int32), .int (9 : Int32)]) (rest := [.int r_12]) (Cn := RX2) (T := TX2) C k_33 (by decide) vc_X2 (S_X2_tells k_33 h) (lw_V q892 q893 q894 q107 q895) rfl hd_X2_tells rfl rfl (Nat.le_of_ble_eq_true rfl) (Nat.le_of_ble_eq_true rfl) (Nat.le_of_ble_eq_true rfl) rfl rfl (Nat.le_of_ble_eq_true rfl) (Nat.le_of_ble_eq_true rfl) dX3_dayEnds_41 (pc' := 44) rfl (fun r_35 M_34 h m_36 => ?_)
    refine r_iadd C dX3_dayEnds_44 (pc' := 45) rfl ?_
    obtain ⟨x3_37, e_38, h⟩ := bn_ h
    refine r_istore_n C (lv' := [(3, .int x3_37), (2, .int xs0), (0, .ref a0), (1, .int x1)]) dX3_dayEnds_45 (pc' := 46) rfl rfl x3_37 e_38 (Nat.le_of_ble_eq_true rfl) rfl ?_
    refine r_sub (lv' := [(0, .ref a0), (1, .int x1), (2, .int xs0), (3, .int x3_37)]) [2, 3, 1, 0] rfl ?_
    exact B_X3_dayEnds_46 C hE (mMo.kd m_36 (mMo.kd m_30 (mMo.kd m_13 (mMo.kd m_7 k_a0 (by decide)) (by decide)) (by decide)) (by decide)) h
set_option maxHeartbeats 4000000 in
theorem S_X3_dayEnds {D : DD} {l : Launch} {M : MM} {a0 : Nat} {x1 : Int32} {Post : MM → Prop} (k_a0 : mkd M a0 = 3) (h : wp_X3_dayEnds M a0 x1 Post) : mMet D l yX3_dayEnds cX3_dayEnds 4 (none) { frames := 203, cells := 0, slots := 0, locals := 5476 } M [.ref a0, .int x1] (pV_ Post) := by
  refine m_of2 [(0, .ref a0), (1, .int x1)] (by decide +kernel) (Nat.le_of_ble_eq_true rfl) rfl (fun E hED hEl C hE => ?_)
  subst hED
  subst hEl
  unfold wp_X3_dayEnds at h
  refine r_aload_n C dX3_dayEnds_0 (pc' := 1) rfl (j := 0) rfl ?_
  refine r_callVi (As := []) (rest := []) (Cn := RX3) (T := TX3) C k_a0 (by decide) vc_X3 (S_X3_draw k_a0 h) (lw_V q787 q789 qs17 q108 q790) rfl hd_X3_draw rfl rfl (Nat.le_of_ble_eq_true rfl) (Nat.le_of_ble_eq_true rfl) (Nat.le_of_ble_eq_true rfl) rfl rfl (Nat.le_of_ble_eq_true rfl) (Nat.le_of_ble_eq_true rfl) dX3_dayEnds_1 (pc' := 4) rfl (fun r_2 M_1 h m_3 => ?_)
  refine r_iconst C dX3_dayEnds_4 (pc' := 5) rfl (v := 5) rfl ?_
  refine r_icmp_ge C dX3_dayEnds_5 (pc' := 8) rfl (tgt := 12) (by decide) (fun c_4 => ?_) (fun c_4 => ?_)
  · have h := it_t h c_4
    refine r_iconst C dX3_dayEnds_12 (pc' := 13) rfl (v := 0) rfl ?_
    refine r_sub (lv' := [(0, .ref a0), (1, .int x1)]) [0, 1] rfl ?_
    exact B_X3_dayEnds_13 C hE (mMo.kd m_3 k_a0 (by decide)) h
  · have h := it_f h c_4
    refine r_iconst C dX3_dayEnds_8 (pc' := 9) rfl (v := 1) rfl ?_
    refine r_goto C dX3_dayEnds_9 (tgt := 13) (by decide) ?_
    refine r_sub (lv' := [(0, .ref a0), (1, .int x1)]) [0, 1] rfl ?_
    exact B_X3_dayEnds_13 C hE (mMo.kd m_3 k_a0 (by decide)) h
set_option maxHeartbeats 4000000 in
theorem S_X3_givesTo {D : DD} {l : Launch} {M : MM} {a0 : Nat} {x1 : Int32} {x2 : Int32} {Post : Int32 → MM → Prop} (k_a0 : mkd M a0 = 3) (h : wp_X3_givesTo M a0 x1 x2 Post) : mMet D l yX3_givesTo cX3_givesTo 3 ((some .int)) { frames := 203, cells := 0, slots := 0, locals := 5475 } M [.ref a0, .int x1, .int x2] (pI_ Post) := by
  refine m_of2 [(0, .ref a0), (1, .int x1), (2, .int x2)] (by decide +kernel) (Nat.le_of_ble_eq_true rfl) rfl (fun E hED hEl C hE => ?_)
  subst hED
  subst hEl
  unfold wp_X3_givesTo at h
  refine r_aload_n C dX3_givesTo_0 (pc' := 1) rfl (j := 0) rfl ?_
  refine r_getf C (Cn := RX3) (T := TX3) 0 k_a0 (by decide) vc_X3 in_X3 (by decide) q282 dX3_givesTo_1 (pc' := 4) rfl (v := va_rf (mgR M a0 0)) rfl ?_
  obtain ⟨b_1, e_2, k_3, h⟩ := h
  refine r_ref [] e_2 ?_
  refine r_iload_n C dX3_givesTo_4 (pc' := 5) rfl (j := 2) rfl ?_
  obtain ⟨c_4, h⟩ := h
  refine r_aald C (t := 3) (j := (ix_ x2)) k_3 (by decide) rfl rfl c_4 rfl dX3_givesTo_5 (pc' := 6) rfl ?_
  obtain ⟨b_5, e_6, k_7, h⟩ := h
  refine r_ref [] e_6 ?_
  refine r_callVi (As := []) (rest := []) (Cn := RX4) (T := TX4) C k_7 (by decide) vc_X4 (S_X4_isDead k_7 h) (lw_V q805 q482 q483 q109 q484) rfl hd_X4_isDead rfl rfl (Nat.le_of_ble_eq_true rfl) (Nat.le_of_ble_eq_true rfl) (Nat.le_of_ble_eq_true rfl) rfl rfl (Nat.le_of_ble_eq_true rfl) (Nat.le_of_ble_eq_true rfl) dX3_givesTo_6 (pc' := 9) rfl (fun r_9 M_8 h m_10 => ?_)
  refine r_if_eq C dX3_givesTo_9 (pc' := 12) rfl (tgt := 16) (by decide) (fun c_11 => ?_) (fun c_11 => ?_)
  · have h := it_t h c_11
    refine r_aload_n C dX3_givesTo_16 (pc' := 17) rfl (j := 0) rfl ?_
    refine r_iload_n C dX3_givesTo_17 (pc' := 18) rfl (j := 2) rfl ?_
    refine r_callVq (As := [.int x2]) (rest := []) (Cn := RX3) (T := TX3) C (mMo.kd m_10 k_a0 (by decide)) (by decide) vc_X3 (S_X3_at (mMo.kd m_10 k_a0 (by decide)) h) (lw_V q806 q808 qs18 q108 q809) rfl hd_X3_at rfl rfl (Nat.le_of_ble_eq_true rfl) (Nat.le_of_ble_eq_true rfl) (Nat.le_of_ble_eq_true rfl) rfl rfl (Nat.le_of_ble_eq_true rfl) (Nat.le_of_ble_eq_true rfl) dX3_givesTo_18 (pc' := 21) rfl (fun r_13 M_12 h m_14 => ?_)
    obtain ⟨b_15, e_16, k_17, h⟩ := h
    refine r_ref [] e_16 ?_
    refine r_iload_n C dX3_givesTo_21 (pc' := 22) rfl (j := 1) rfl ?_
    refine r_aload_n C dX3_givesTo_22 (pc' := 23) rfl (j := 0) rfl ?_
    refine r_getf C (Cn := RX3) (T := TX3) 1 (mMo.kd m_14 (mMo.kd m_10 k_a0 (by decide)) (by decide)) (by decide) vc_X3 in_X3 (by decide) q284 dX3_givesTo_23 (pc' := 26) rfl (v := va_rf (mgR M_12 a0 1)) rfl ?_
    obtain ⟨b_18, e_19, k_20, h⟩ := h
    refine r_ref [] e_19 ?_
    refine r_iload_n C dX3_givesTo_26 (pc' := 27) rfl (j := 1) rfl ?_
    obtain ⟨c_21, h⟩ := h
    refine r_aald C (t := 4) (j := (ix_ x1)) k_20 (by decide) rfl rfl c_21 rfl dX3_givesTo_27 (pc' := 28) rfl ?_
    obtain ⟨b_22, e_23, k_24, h⟩ := h
    refine r_ref [] e_23 ?_
    refine r_getfN C (Cn := RX5) (T := TX5) 0 k_24 (by decide) vc_X5 in_X5 (by decide) (List.mem_of_getElem? (i := 37) rfl) dX3_givesTo_28 (pc' := 31) rfl (v := .int (mgI M_12 b_22 0)) rfl ?_
    refine r_aload_n C dX3_givesTo_31 (pc' := 32) rfl (j := 0) rfl ?_
    refine r_getf C (Cn := RX3) (T := TX3) 1 (mMo.kd m_14 (mMo.kd m_10 k_a0 (by decide)) (by decide)) (by decide) vc_X3 in_X3 (by decide) q284 dX3_givesTo_32 (pc' := 35) rfl (v := va_rf (mgR M_12 a0 1)) rfl ?_
    obtain ⟨b_25, e_26, k_27, h⟩ := h
    refine r_ref [] e_26 ?_
    refine r_iload_n C dX3_givesTo_35 (pc' := 36) rfl (j := 1) rfl ?_
    obtain ⟨c_28, h⟩ := h
    refine r_aald C (t := 4) (j := (ix_ x1)) k_27 (by decide) rfl rfl c_28 rfl dX3_givesTo_36 (pc' := 37) rfl ?_
    obtain ⟨b_29, e_30, k_31, h⟩ := h
    refine r_ref [] e_30 ?_
    refine r_getfN C (Cn := RX5) (T := TX5) 2 k_31 (by decide) vc_X5 in_X5 (by decide) (List.mem_of_getElem? (i := 38) rfl) dX3_givesTo_37 (pc' := 40) rfl (v := .int (mgI M_12 b_29 2)) rfl ?_
    refine r_callVq (As := [.int x1, .int (mgI M_12 b_22 0), .int (mgI M_12 b_29 2)]) (rest := []) (Cn := RX2) (T := TX2) C k_17 (by decide) vc_X2 (S_X2_by k_17 h) (lw_V q826 q827 q828 q107 q829) rfl hd_X2_by rfl rfl (Nat.le_of_ble_eq_true rfl) (Nat.le_of_ble_eq_true rfl) (Nat.le_of_ble_eq_true rfl) rfl rfl (Nat.le_of_ble_eq_true rfl) (Nat.le_of_ble_eq_true rfl) dX3_givesTo_40 (pc' := 43) rfl (fun r_33 M_32 h m_34 => ?_)
    obtain ⟨b_35, e_36, k_37, h⟩ := h
    refine r_ref [] e_36 ?_
    refine r_aload_n C dX3_givesTo_43 (pc' := 44) rfl (j := 0) rfl ?_
    refine r_getf C (Cn := RX3) (T := TX3) 1 (mMo.kd m_34 (mMo.kd m_14 (mMo.kd m_10 k_a0 (by decide)) (by decide)) (by decide)) (by decide) vc_X3 in_X3 (by decide) q284 dX3_givesTo_44 (pc' := 47) rfl (v := va_rf (mgR M_32 a0 1)) rfl ?_
    obtain ⟨b_38, e_39, k_40, h⟩ := h
    refine r_ref [] e_39 ?_
    refine r_iload_n C dX3_givesTo_47 (pc' := 48) rfl (j := 1) rfl ?_
    obtain ⟨c_41, h⟩ := h
    refine r_aald C (t := 4) (j := (ix_ x1)) k_40 (by decide) rfl rfl c_41 rfl dX3_givesTo_48 (pc' := 49) rfl ?_
    obtain ⟨b_42, e_43, k_44, h⟩ := h
    refine r_ref [] e_43 ?_
    refine r_getfN C (Cn := RX5) (T := TX5) 1 k_44 (by decide) vc_X5 in_X5 (by decide) (List.mem_of_getElem? (i := 27) rfl) dX3_givesTo_49 (pc' := 52) rfl (v := .int (mgI M_32 b_42 1)) rfl ?_
    refine r_callVi (As := [.int (mgI M_32 b_42 1)]) (rest := []) (Cn := RX2) (T := TX2) C k_37 (by decide) vc_X2 (S_X2_givesBy k_37 h) (lw_V q830 q831 q832 q107 q833) rfl hd_X2_givesBy rfl rfl (Nat.le_of_ble_eq_true rfl) (Nat.le_of_ble_eq_true rfl) (Nat.le_of_ble_eq_true rfl) rfl rfl (Nat.le_of_ble_eq_true rfl) (Nat.le_of_ble_eq_true rfl) dX3_givesTo_52 (pc' := 55) rfl (fun r_46 M_45 h m_47 => ?_)
    exact r_iret C hE (Nat.le_of_ble_eq_true rfl) (Nat.le_of_ble_eq_true rfl) dX3_givesTo_55 ⟨_, rfl, h⟩
  · have h := it_f h c_11
    refine r_iconst C dX3_givesTo_12 (pc' := 13) rfl (v := 0) rfl ?_
    refine r_goto C dX3_givesTo_13 (tgt := 55) (by decide) ?_
    exact r_iret C hE (Nat.le_of_ble_eq_true rfl) (Nat.le_of_ble_eq_true rfl) dX3_givesTo_55 ⟨_, rfl, h⟩
set_option maxHeartbeats 4000000 in
theorem S_X3_waters {D : DD} {l : Launch} {M : MM} {a0 : Nat} {x1 : Int32} {x2 : Int32} {Post : MM → Prop} (k_a0 : mkd M a0 = 3) (h : wp_X3_waters M a0 x1 x2 Post) : mMet D l yX3_waters cX3_waters 4 (none) { frames := 204, cells := 0, slots := 0, locals := 5497 } M [.ref a0, .int x1, .int x2] (pV_ Post) := by
  refine m_of2 [(0, .ref a0), (1, .int x1), (2, .int x2)] (by decide +kernel) (Nat.le_of_ble_eq_true rfl) rfl (fun E hED hEl C hE => ?_)
  subst hED
  subst hEl
  unfold wp_X3_waters at h
  refine r_aload_n C dX3_waters_0 (pc' := 1) rfl (j := 0) rfl ?_
  refine r_iload_n C dX3_waters_1 (pc' := 2) rfl (j := 1) rfl ?_
  refine r_iload_n C dX3_waters_2 (pc' := 3) rfl (j := 2) rfl ?_
  refine r_callVi (As := [.int x1, .int x2]) (rest := []) (Cn := RX3) (T := TX3) C k_a0 (by decide) vc_X3 (S_X3_givesTo k_a0 h) (lw_V q801 q802 q803 q108 q804) rfl hd_X3_givesTo rfl rfl (Nat.le_of_ble_eq_true rfl) (Nat.le_of_ble_eq_true rfl) (Nat.le_of_ble_eq_true rfl) rfl rfl (Nat.le_of_ble_eq_true rfl) (Nat.le_of_ble_eq_true rfl) dX3_waters_3 (pc' := 6) rfl (fun r_2 M_1 h m_3 => ?_)
  refine r_istore_n C (lv' := [(3, .int r_2), (0, .ref a0), (1, .int x1), (2, .int x2)]) dX3_waters_6 (pc' := 7) rfl rfl r_2 rfl (Nat.le_of_ble_eq_true rfl) rfl ?_
  refine r_iload_n C dX3_waters_7 (pc' := 8) rfl (j := 0) rfl ?_
  refine r_if_ne C dX3_waters_8 (pc' := 11) rfl (tgt := 12) (by decide) (fun c_4 => ?_) (fun c_4 => ?_)
  · have h := it_f h c_4
    refine r_aload_n C dX3_waters_12 (pc' := 13) rfl (j := 1) rfl ?_
    refine r_dup C dX3_waters_13 (pc' := 14) rfl rfl ?_
    refine r_getf C (Cn := RX3) (T := TX3) 5 (mMo.kd m_3 k_a0 (by decide)) (by decide) vc_X3 in_X3 (by decide) q292 dX3_waters_14 (pc' := 17) rfl (v := .int (mgI M_1 a0 5)) rfl ?_
    refine r_aload_n C dX3_waters_17 (pc' := 18) rfl (j := 1) rfl ?_
    refine r_getf C (Cn := RX3) (T := TX3) 0 (mMo.kd m_3 k_a0 (by decide)) (by decide) vc_X3 in_X3 (by decide) q282 dX3_waters_18 (pc' := 21) rfl (v := va_rf (mgR M_1 a0 0)) rfl ?_
    obtain ⟨b_5, e_6, k_7, h⟩ := h
    refine r_ref [] e_6 ?_
    refine r_iload_n C dX3_waters_21 (pc' := 22) rfl (j := 3) rfl ?_
    obtain ⟨c_8, h⟩ := h
    refine r_aald C (t := 3) (j := (ix_ x2)) k_7 (by decide) rfl rfl c_8 rfl dX3_waters_22 (pc' := 23) rfl ?_
    obtain ⟨b_9, e_10, k_11, h⟩ := h
    refine r_ref [] e_10 ?_
    refine r_iload_n C dX3_waters_23 (pc' := 24) rfl (j := 0) rfl ?_
    refine r_callVi (As := [.int r_2]) (rest := [.int (mgI M_1 a0 5), .ref a0]) (Cn := RX4) (T := TX4) C k_11 (by decide) vc_X4 (S_X4_gets k_11 h) (lw_V q887 q486 q487 q109 q488) rfl hd_X4_gets rfl rfl (Nat.le_of_ble_eq_true rfl) (Nat.le_of_ble_eq_true rfl) (Nat.le_of_ble_eq_true rfl) rfl rfl (Nat.le_of_ble_eq_true rfl) (Nat.le_of_ble_eq_true rfl) dX3_waters_24 (pc' := 27) rfl (fun r_13 M_12 h m_14 => ?_)
    refine r_iadd C dX3_waters_27 (pc' := 28) rfl ?_
    obtain ⟨M_15, e_16, h⟩ := bn_ h
    refine r_putI C (Cn := RX3) (T := TX3) tyX3 5 (mMo.kd m_14 (mMo.kd m_3 k_a0 (by decide)) (by decide)) (by decide) vc_X3 in_X3 tyX3_ok nmX3 (by decide) q292 rfl rfl dX3_waters_28 (pc' := 31) rfl rfl rfl M_15 e_16 ?_
    refine r_aload_n C dX3_waters_31 (pc' := 32) rfl (j := 1) rfl ?_
    refine r_getf C (Cn := RX3) (T := TX3) 1 (mMo.kd (mo_I e_16) (mMo.kd m_14 (mMo.kd m_3 k_a0 (by decide)) (by decide)) (by decide)) (by decide) vc_X3 in_X3 (by decide) q284 dX3_waters_32 (pc' := 35) rfl (v := va_rf (mgR M_15 a0 1)) rfl ?_
    obtain ⟨b_17, e_18, k_19, h⟩ := h
    refine r_ref [] e_18 ?_
    refine r_iload_n C dX3_waters_35 (pc' := 36) rfl (j := 2) rfl ?_
    obtain ⟨c_20, h⟩ := h
    refine r_aald C (t := 4) (j := (ix_ x1)) k_19 (by decide) rfl rfl c_20 rfl dX3_waters_36 (pc' := 37) rfl ?_
    obtain ⟨b_21, e_22, k_23, h⟩ := h
    refine r_ref [] e_22 ?_
    refine r_dup C dX3_waters_37 (pc' := 38) rfl rfl ?_
    refine r_getfN C (Cn := RX5) (T := TX5) 2 k_23 (by decide) vc_X5 in_X5 (by decide) (List.mem_of_getElem? (i := 38) rfl) dX3_waters_38 (pc' := 41) rfl (v := .int (mgI M_15 b_21 2)) rfl ?_
    refine r_iload_n C dX3_waters_41 (pc' := 42) rfl (j := 0) rfl ?_
    refine r_iadd C dX3_waters_42 (pc' := 43) rfl ?_
    obtain ⟨M_24, e_25, h⟩ := bn_ h
    refine r_putIN C (Cn := RX5) (T := TX5) tyX5 2 k_23 (by decide) vc_X5 in_X5 tyX5_ok nmX5 (by decide) (List.mem_of_getElem? (i := 38) rfl) rfl rfl dX3_waters_43 (pc' := 46) rfl rfl rfl M_24 e_25 ?_
    refine r_aload_n C dX3_waters_46 (pc' := 47) rfl (j := 1) rfl ?_
    refine r_dup C dX3_waters_47 (pc' := 48) rfl rfl ?_
    refine r_getf C (Cn := RX3) (T := TX3) 4 (mMo.kd (mo_I e_25) (mMo.kd (mo_I e_16) (mMo.kd m_14 (mMo.kd m_3 k_a0 (by decide)) (by decide)) (by decide)) (by decide)) (by decide) vc_X3 in_X3 (by decide) q290 dX3_waters_48 (pc' := 51) rfl (v := .int (mgI M_24 a0 4)) rfl ?_
    refine r_iload_n C dX3_waters_51 (pc' := 52) rfl (j := 0) rfl ?_
    refine r_iadd C dX3_waters_52 (pc' := 53) rfl ?_
    obtain ⟨M_26, e_27, h⟩ := bn_ h
    refine r_putI C (Cn := RX3) (T := TX3) tyX3 4 (mMo.kd (mo_I e_25) (mMo.kd (mo_I e_16) (mMo.kd m_14 (mMo.kd m_3 k_a0 (by decide)) (by decide)) (by decide)) (by decide)) (by decide) vc_X3 in_X3 tyX3_ok nmX3 (by decide) q290 rfl rfl dX3_waters_53 (pc' := 56) rfl rfl rfl M_26 e_27 ?_
    refine r_aload_n C dX3_waters_56 (pc' := 57) rfl (j := 1) rfl ?_
    refine r_getf C (Cn := RX3) (T := TX3) 0 (mMo.kd (mo_I e_27) (mMo.kd (mo_I e_25) (mMo.kd (mo_I e_16) (mMo.kd m_14 (mMo.kd m_3 k_a0 (by decide)) (by decide)) (by decide)) (by decide)) (by decide)) (by decide) vc_X3 in_X3 (by decide) q282 dX3_waters_57 (pc' := 60) rfl (v := va_rf (mgR M_26 a0 0)) rfl ?_
    obtain ⟨b_28, e_29, k_30, h⟩ := h
    refine r_ref [] e_29 ?_
    refine r_iload_n C dX3_waters_60 (pc' := 61) rfl (j := 3) rfl ?_
    obtain ⟨c_31, h⟩ := h
    refine r_aald C (t := 3) (j := (ix_ x2)) k_30 (by decide) rfl rfl c_31 rfl dX3_waters_61 (pc' := 62) rfl ?_
    obtain ⟨b_32, e_33, k_34, h⟩ := h
    refine r_ref [] e_33 ?_
    refine r_getfN C (Cn := RX4) (T := TX4) 9 k_34 (by decide) vc_X4 in_X4 (by decide) (List.mem_of_getElem? (i := 30) rfl) dX3_waters_62 (pc' := 65) rfl (v := .int (mgI M_26 b_32 9)) rfl ?_
    refine r_if_eq C dX3_waters_65 (pc' := 68) rfl (tgt := 81) (by decide) (fun c_35 => ?_) (fun c_35 => ?_)
    · have h := it_t h c_35
      exact r_vret C hE (Nat.le_of_ble_eq_true rfl) (Nat.le_of_ble_eq_true rfl) dX3_waters_81 ⟨rfl, h⟩
    · have h := it_f h c_35
      refine r_aload_n C dX3_waters_68 (pc' := 69) rfl (j := 1) rfl ?_
      refine r_getf C (Cn := RX3) (T := TX3) 0 (mMo.kd (mo_I e_27) (mMo.kd (mo_I e_25) (mMo.kd (mo_I e_16) (mMo.kd m_14 (mMo.kd m_3 k_a0 (by decide)) (by decide)) (by decide)) (by decide)) (by decide)) (by decide) vc_X3 in_X3 (by decide) q282 dX3_waters_69 (pc' := 72) rfl (v := va_rf (mgR M_26 a0 0)) rfl ?_
      obtain ⟨b_36, e_37, k_38, h⟩ := h
      refine r_ref [] e_37 ?_
      refine r_iload_n C dX3_waters_72 (pc' := 73) rfl (j := 3) rfl ?_
      obtain ⟨c_39, h⟩ := h
      refine r_aald C (t := 3) (j := (ix_ x2)) k_38 (by decide) rfl rfl c_39 rfl dX3_waters_73 (pc' := 74) rfl ?_
      obtain ⟨b_40, e_41, k_42, h⟩ := h
      refine r_ref [] e_41 ?_
      refine r_aload_n C dX3_waters_74 (pc' := 75) rfl (j := 1) rfl ?_
      refine r_getf C (Cn := RX3) (T := TX3) 2 (mMo.kd (mo_I e_27) (mMo.kd (mo_I e_25) (mMo.kd (mo_I e_16) (mMo.kd m_14 (mMo.kd m_3 k_a0 (by decide)) (by decide)) (by decide)) (by decide)) (by decide)) (by decide) vc_X3 in_X3 (by decide) q286 dX3_waters_75 (pc' := 78) rfl (v := .int (mgI M_26 a0 2)) rfl ?_
      obtain ⟨M_43, e_44, h⟩ := bn_ h
      refine r_putIN C (Cn := RX4) (T := TX4) tyX4 7 k_42 (by decide) vc_X4 in_X4 tyX4_ok nmX4 (by decide) (List.mem_of_getElem? (i := 31) rfl) rfl rfl dX3_waters_78 (pc' := 81) rfl rfl rfl M_43 e_44 ?_
      exact r_vret C hE (Nat.le_of_ble_eq_true rfl) (Nat.le_of_ble_eq_true rfl) dX3_waters_81 ⟨rfl, h⟩
  · have h := it_t h c_4
    exact r_vret C hE (Nat.le_of_ble_eq_true rfl) (Nat.le_of_ble_eq_true rfl) dX3_waters_11 ⟨rfl, h⟩
set_option maxHeartbeats 4000000 in
theorem B_X3_dayGoes_41 {E : mE} {a0 : Nat} {x1 : Int32} {X70 : MM → Prop} {Post : MM → Prop} (C : mC E yX3_dayGoes cX3_dayGoes 3 (none) { frames := 205, cells := 0, slots := 0, locals := 5520 }) (hE : mEnd E { frames := 205, cells := 0, slots := 0, locals := 5520 } (pV_ Post)) : ∀ (n_ : Nat) (M : MM) (x2 : Int32), mkd M a0 = 3 → wl_X3_dayGoes_41 a0 x1 X70 n_ M x2 → (∀ (M' : MM), mMo M M' → X70 M' → mV E M' 0 0 70 [(0, .ref a0), (1, .int x1)] []) → mV E M 0 0 41 [(0, .ref a0), (1, .int x1), (2, .int x2)] [] := by
  intro n_
  induction n_ with
  | zero =>
    intro M x2 k_a0 h hX70
    exact absurd h (by rw [wl_X3_dayGoes_41]; exact fun q => q)
  | succ n_ ih =>
    intro M x2 k_a0 h hX70
    rw [wl_X3_dayGoes_41] at h
    refine r_iload_n C dX3_dayGoes_41 (pc' := 42) rfl (j := 2) rfl ?_
    refine r_iconst C dX3_dayGoes_42 (pc' := 43) rfl (v := 4) rfl ?_
    refine r_icmp_ge C dX3_dayGoes_43 (pc' := 46) rfl (tgt := 70) (by decide) (fun c_23 => ?_) (fun c_23 => ?_)
    · have h := it_t h c_23
      refine r_sub (lv' := [(0, .ref a0), (1, .int x1)]) [0, 1] rfl ?_
      exact hX70 M mMo.rf h
    · have h := it_f h c_23
      refine r_aload_n C dX3_dayGoes_46 (pc' := 47) rfl (j := 0) rfl ?_
      refine r_getf C (Cn := RX3) (T := TX3) 0 k_a0 (by decide) vc_X3 in_X3 (by decide) q282 dX3_dayGoes_47 (pc' := 50) rfl (v := va_rf (mgR M a0 0)) rfl ?_
      obtain ⟨b_24, e_25, k_26, h⟩ := h
      refine r_ref [] e_25 ?_
      refine r_iload_n C dX3_dayGoes_50 (pc' := 51) rfl (j := 2) rfl ?_
      obtain ⟨c_27, h⟩ := h
      refine r_aald C (t := 3) (j := (ix_ x2)) k_26 (by decide) rfl rfl c_27 rfl dX3_dayGoes_51 (pc' := 52) rfl ?_
      obtain ⟨b_28, e_29, k_30, h⟩ := h
      refine r_ref [] e_29 ?_
      refine r_callVi (As := []) (rest := []) (Cn := RX4) (T := TX4) C k_30 (by decide) vc_X4 (S_X4_lives k_30 h) (lw_V q792 q793 q794 q109 q795) rfl hd_X4_lives rfl rfl (Nat.le_of_ble_eq_true rfl) (Nat.le_of_ble_eq_true rfl) (Nat.le_of_ble_eq_true rfl) rfl rfl (Nat.le_of_ble_eq_true rfl) (Nat.le_of_ble_eq_true rfl) dX3_dayGoes_52 (pc' := 55) rfl (fun r_32 M_31 h m_33 => ?_)
      refine r_if_eq C dX3_dayGoes_55 (pc' := 58) rfl (tgt := 64) (by decide) (fun c_34 => ?_) (fun c_34 => ?_)
      · have h := it_t h c_34
        obtain ⟨x2_35, e_36, h⟩ := bn_ h
        refine r_iinc C (lv' := [(2, .int x2_35), (0, .ref a0), (1, .int x1)]) dX3_dayGoes_64 (pc' := 67) rfl (j := 2) rfl x2_35 (by rw [e_36]; rfl) (Nat.le_of_ble_eq_true rfl) rfl ?_
        refine r_goto C dX3_dayGoes_67 (tgt := 41) (by decide) ?_
        refine r_sub (lv' := [(0, .ref a0), (1, .int x1), (2, .int x2_35)]) [1, 2, 0] rfl ?_
        exact ih M_31 x2_35 (mMo.kd m_33 k_a0 (by decide)) h (fun M9 hm9 h9 => hX70 M9 (mMo.tr m_33 hm9) h9)
      · have h := it_f h c_34
        refine r_aload_n C dX3_dayGoes_58 (pc' := 59) rfl (j := 0) rfl ?_
        refine r_iload_n C dX3_dayGoes_59 (pc' := 60) rfl (j := 1) rfl ?_
        refine r_iload_n C dX3_dayGoes_60 (pc' := 61) rfl (j := 2) rfl ?_
        refine r_callVv (As := [.int x1, .int x2]) (rest := []) (Cn := RX3) (T := TX3) C (mMo.kd m_33 k_a0 (by decide)) (by decide) vc_X3 (S_X3_waters (mMo.kd m_33 k_a0 (by decide)) h) (lw_V q797 q798 q799 q108 q800) rfl hd_X3_waters rfl rfl (Nat.le_of_ble_eq_true rfl) (Nat.le_of_ble_eq_true rfl) (Nat.le_of_ble_eq_true rfl) rfl rfl (Nat.le_of_ble_eq_true rfl) (Nat.le_of_ble_eq_true rfl) dX3_dayGoes_61 (pc' := 64) rfl (fun M_37 h m_39 => ?_)
        obtain ⟨x2_40, e_41, h⟩ := bn_ h
        refine r_iinc C (lv' := [(2, .int x2_40), (0, .ref a0), (1, .int x1)]) dX3_dayGoes_64 (pc' := 67) rfl (j := 2) rfl x2_40 (by rw [e_41]; rfl) (Nat.le_of_ble_eq_true rfl) rfl ?_
        refine r_goto C dX3_dayGoes_67 (tgt := 41) (by decide) ?_
        refine r_sub (lv' := [(0, .ref a0), (1, .int x1), (2, .int x2_40)]) [1, 2, 0] rfl ?_
        exact ih M_37 x2_40 (mMo.kd m_39 (mMo.kd m_33 k_a0 (by decide)) (by decide)) h (fun M9 hm9 h9 => hX70 M9 (mMo.tr (mMo.tr m_33 m_39) hm9) h9)
set_option maxHeartbeats 4000000 in
theorem B_X3_dayGoes_2 {E : mE} {a0 : Nat} {X76 : MM → Prop} {Post : MM → Prop} (C : mC E yX3_dayGoes cX3_dayGoes 3 (none) { frames := 205, cells := 0, slots := 0, locals := 5520 }) (hE : mEnd E { frames := 205, cells := 0, slots := 0, locals := 5520 } (pV_ Post)) : ∀ (n_ : Nat) (M : MM) (x1 : Int32), mkd M a0 = 3 → wl_X3_dayGoes_2 a0 X76 n_ M x1 → (∀ (M' : MM), mMo M M' → X76 M' → mV E M' 0 0 76 [(0, .ref a0)] []) → mV E M 0 0 2 [(0, .ref a0), (1, .int x1)] [] := by
  intro n_
  induction n_ with
  | zero =>
    intro M x1 k_a0 h hX76
    exact absurd h (by rw [wl_X3_dayGoes_2]; exact fun q => q)
  | succ n_ ih =>
    intro M x1 k_a0 h hX76
    rw [wl_X3_dayGoes_2] at h
    refine r_iload_n C dX3_dayGoes_2 (pc' := 3) rfl (j := 1) rfl ?_
    refine r_bipush C dX3_dayGoes_3 (pc' := 5) rfl (v := 8) rfl ?_
    refine r_icmp_ge C dX3_dayGoes_5 (pc' := 8) rfl (tgt := 76) (by decide) (fun c_1 => ?_) (fun c_1 => ?_)
    · have h := it_t h c_1
      refine r_sub (lv' := [(0, .ref a0)]) [0] rfl ?_
      exact hX76 M mMo.rf h
    · have h := it_f h c_1
      refine r_aload_n C dX3_dayGoes_8 (pc' := 9) rfl (j := 0) rfl ?_
      refine r_getf C (Cn := RX3) (T := TX3) 1 k_a0 (by decide) vc_X3 in_X3 (by decide) q284 dX3_dayGoes_9 (pc' := 12) rfl (v := va_rf (mgR M a0 1)) rfl ?_
      obtain ⟨b_2, e_3, k_4, h⟩ := h
      refine r_ref [] e_3 ?_
      refine r_iload_n C dX3_dayGoes_12 (pc' := 13) rfl (j := 1) rfl ?_
      obtain ⟨c_5, h⟩ := h
      refine r_aald C (t := 4) (j := (ix_ x1)) k_4 (by decide) rfl rfl c_5 rfl dX3_dayGoes_13 (pc' := 14) rfl ?_
      obtain ⟨b_6, e_7, k_8, h⟩ := h
      refine r_ref [] e_7 ?_
      refine r_getfN C (Cn := RX5) (T := TX5) 3 k_8 (by decide) vc_X5 in_X5 (by decide) (List.mem_of_getElem? (i := 29) rfl) dX3_dayGoes_14 (pc' := 17) rfl (v := .int (mgI M b_6 3)) rfl ?_
      refine r_if_eq C dX3_dayGoes_17 (pc' := 20) rfl (tgt := 70) (by decide) (fun c_9 => ?_) (fun c_9 => ?_)
      · have h := it_t h c_9
        obtain ⟨x1_10, e_11, h⟩ := bn_ h
        refine r_iinc C (lv' := [(1, .int x1_10), (0, .ref a0)]) dX3_dayGoes_70 (pc' := 73) rfl (j := 1) rfl x1_10 (by rw [e_11]; rfl) (Nat.le_of_ble_eq_true rfl) rfl ?_
        refine r_goto C dX3_dayGoes_73 (tgt := 2) (by decide) ?_
        refine r_sub (lv' := [(0, .ref a0), (1, .int x1_10)]) [1, 0] rfl ?_
        exact ih M x1_10 k_a0 h (fun M9 hm9 h9 => hX76 M9 hm9 h9)
      · have h := it_f h c_9
        refine r_aload_n C dX3_dayGoes_20 (pc' := 21) rfl (j := 0) rfl ?_
        refine r_callVi (As := []) (rest := []) (Cn := RX3) (T := TX3) C k_a0 (by decide) vc_X3 (S_X3_draw k_a0 h) (lw_V q787 q789 qs17 q108 q790) rfl hd_X3_draw rfl rfl (Nat.le_of_ble_eq_true rfl) (Nat.le_of_ble_eq_true rfl) (Nat.le_of_ble_eq_true rfl) rfl rfl (Nat.le_of_ble_eq_true rfl) (Nat.le_of_ble_eq_true rfl) dX3_dayGoes_21 (pc' := 24) rfl (fun r_13 M_12 h m_14 => ?_)
        refine r_aload_n C dX3_dayGoes_24 (pc' := 25) rfl (j := 0) rfl ?_
        refine r_getf C (Cn := RX3) (T := TX3) 1 (mMo.kd m_14 k_a0 (by decide)) (by decide) vc_X3 in_X3 (by decide) q284 dX3_dayGoes_25 (pc' := 28) rfl (v := va_rf (mgR M_12 a0 1)) rfl ?_
        obtain ⟨b_15, e_16, k_17, h⟩ := h
        refine r_ref [] e_16 ?_
        refine r_iload_n C dX3_dayGoes_28 (pc' := 29) rfl (j := 1) rfl ?_
        obtain ⟨c_18, h⟩ := h
        refine r_aald C (t := 4) (j := (ix_ x1)) k_17 (by decide) rfl rfl c_18 rfl dX3_dayGoes_29 (pc' := 30) rfl ?_
        obtain ⟨b_19, e_20, k_21, h⟩ := h
        refine r_ref [] e_20 ?_
        refine r_getfN C (Cn := RX5) (T := TX5) 0 k_21 (by decide) vc_X5 in_X5 (by decide) (List.mem_of_getElem? (i := 37) rfl) dX3_dayGoes_30 (pc' := 33) rfl (v := .int (mgI M_12 b_19 0)) rfl ?_
        refine r_icmp_lt C dX3_dayGoes_33 (pc' := 36) rfl (tgt := 39) (by decide) (fun c_22 => ?_) (fun c_22 => ?_)
        · have h := it_t h c_22
          refine r_iconst C dX3_dayGoes_39 (pc' := 40) rfl (v := 0) rfl ?_
          refine r_istore_n C (lv' := [(2, .int (0 : Int32)), (0, .ref a0), (1, .int x1)]) dX3_dayGoes_40 (pc' := 41) rfl rfl (0 : Int32) rfl (Nat.le_of_ble_eq_true rfl) rfl ?_
          obtain ⟨n_42, h⟩ := h
          refine r_sub (lv' := [(0, .ref a0), (1, .int x1), (2, .int (0 : Int32))]) [1, 2, 0] rfl ?_
          refine B_X3_dayGoes_41 C hE n_42 M_12 (0 : Int32) (mMo.kd m_14 k_a0 (by decide)) h (fun M_43 m_44 h => ?_)
          obtain ⟨x1_45, e_46, h⟩ := bn_ h
          refine r_iinc C (lv' := [(1, .int x1_45), (0, .ref a0)]) dX3_dayGoes_70 (pc' := 73) rfl (j := 1) rfl x1_45 (by rw [e_46]; rfl) (Nat.le_of_ble_eq_true rfl) rfl ?_
          refine r_goto C dX3_dayGoes_73 (tgt := 2) (by decide) ?_
          refine r_sub (lv' := [(0, .ref a0), (1, .int x1_45)]) [1, 0] rfl ?_
          exact ih M_43 x1_45 (mMo.kd m_44 (mMo.kd m_14 k_a0 (by decide)) (by decide)) h (fun M9 hm9 h9 => hX76 M9 (mMo.tr (mMo.tr m_14 m_44) hm9) h9)
        · have h := it_f h c_22
          refine r_goto C dX3_dayGoes_36 (tgt := 70) (by decide) ?_
          obtain ⟨x1_47, e_48, h⟩ := bn_ h
          refine r_iinc C (lv' := [(1, .int x1_47), (0, .ref a0)]) dX3_dayGoes_70 (pc' := 73) rfl (j := 1) rfl x1_47 (by rw [e_48]; rfl) (Nat.le_of_ble_eq_true rfl) rfl ?_
          refine r_goto C dX3_dayGoes_73 (tgt := 2) (by decide) ?_
          refine r_sub (lv' := [(0, .ref a0), (1, .int x1_47)]) [1, 0] rfl ?_
          exact ih M_12 x1_47 (mMo.kd m_14 k_a0 (by decide)) h (fun M9 hm9 h9 => hX76 M9 (mMo.tr m_14 hm9) h9)
set_option maxHeartbeats 4000000 in
theorem B_X3_dayGoes_78 {E : mE} {a0 : Nat} {X106 : MM → Prop} {Post : MM → Prop} (C : mC E yX3_dayGoes cX3_dayGoes 3 (none) { frames := 205, cells := 0, slots := 0, locals := 5520 }) (hE : mEnd E { frames := 205, cells := 0, slots := 0, locals := 5520 } (pV_ Post)) : ∀ (n_ : Nat) (M : MM) (x1 : Int32), mkd M a0 = 3 → wl_X3_dayGoes_78 a0 X106 n_ M x1 → (∀ (M' : MM), mMo M M' → X106 M' → mV E M' 0 0 106 [(0, .ref a0)] []) → mV E M 0 0 78 [(0, .ref a0), (1, .int x1)] [] := by
  intro n_
  induction n_ with
  | zero =>
    intro M x1 k_a0 h hX106
    exact absurd h (by rw [wl_X3_dayGoes_78]; exact fun q => q)
  | succ n_ ih =>
    intro M x1 k_a0 h hX106
    rw [wl_X3_dayGoes_78] at h
    refine r_iload_n C dX3_dayGoes_78 (pc' := 79) rfl (j := 1) rfl ?_
    refine r_iconst C dX3_dayGoes_79 (pc' := 80) rfl (v := 4) rfl ?_
    refine r_icmp_ge C dX3_dayGoes_80 (pc' := 83) rfl (tgt := 106) (by decide) (fun c_52 => ?_) (fun c_52 => ?_)
    · have h := it_t h c_52
      refine r_sub (lv' := [(0, .ref a0)]) [0] rfl ?_
      exact hX106 M mMo.rf h
    · have h := it_f h c_52
      refine r_aload_n C dX3_dayGoes_83 (pc' := 84) rfl (j := 0) rfl ?_
      refine r_getf C (Cn := RX3) (T := TX3) 0 k_a0 (by decide) vc_X3 in_X3 (by decide) q282 dX3_dayGoes_84 (pc' := 87) rfl (v := va_rf (mgR M a0 0)) rfl ?_
      obtain ⟨b_53, e_54, k_55, h⟩ := h
      refine r_ref [] e_54 ?_
      refine r_iload_n C dX3_dayGoes_87 (pc' := 88) rfl (j := 1) rfl ?_
      obtain ⟨c_56, h⟩ := h
      refine r_aald C (t := 3) (j := (ix_ x1)) k_55 (by decide) rfl rfl c_56 rfl dX3_dayGoes_88 (pc' := 89) rfl ?_
      obtain ⟨b_57, e_58, k_59, h⟩ := h
      refine r_ref [] e_58 ?_
      refine r_callVi (As := []) (rest := []) (Cn := RX4) (T := TX4) C k_59 (by decide) vc_X4 (S_X4_lives k_59 h) (lw_V q792 q793 q794 q109 q795) rfl hd_X4_lives rfl rfl (Nat.le_of_ble_eq_true rfl) (Nat.le_of_ble_eq_true rfl) (Nat.le_of_ble_eq_true rfl) rfl rfl (Nat.le_of_ble_eq_true rfl) (Nat.le_of_ble_eq_true rfl) dX3_dayGoes_89 (pc' := 92) rfl (fun r_61 M_60 h m_62 => ?_)
      refine r_if_eq C dX3_dayGoes_92 (pc' := 95) rfl (tgt := 100) (by decide) (fun c_63 => ?_) (fun c_63 => ?_)
      · have h := it_t h c_63
        obtain ⟨x1_64, e_65, h⟩ := bn_ h
        refine r_iinc C (lv' := [(1, .int x1_64), (0, .ref a0)]) dX3_dayGoes_100 (pc' := 103) rfl (j := 1) rfl x1_64 (by rw [e_65]; rfl) (Nat.le_of_ble_eq_true rfl) rfl ?_
        refine r_goto C dX3_dayGoes_103 (tgt := 78) (by decide) ?_
        refine r_sub (lv' := [(0, .ref a0), (1, .int x1_64)]) [1, 0] rfl ?_
        exact ih M_60 x1_64 (mMo.kd m_62 k_a0 (by decide)) h (fun M9 hm9 h9 => hX106 M9 (mMo.tr m_62 hm9) h9)
      · have h := it_f h c_63
        refine r_aload_n C dX3_dayGoes_95 (pc' := 96) rfl (j := 0) rfl ?_
        refine r_iload_n C dX3_dayGoes_96 (pc' := 97) rfl (j := 1) rfl ?_
        refine r_callVv (As := [.int x1]) (rest := []) (Cn := RX3) (T := TX3) C (mMo.kd m_62 k_a0 (by decide)) (by decide) vc_X3 (S_X3_dayEnds (mMo.kd m_62 k_a0 (by decide)) h) (lw_V q888 q889 q890 q108 q891) rfl hd_X3_dayEnds rfl rfl (Nat.le_of_ble_eq_true rfl) (Nat.le_of_ble_eq_true rfl) (Nat.le_of_ble_eq_true rfl) rfl rfl (Nat.le_of_ble_eq_true rfl) (Nat.le_of_ble_eq_true rfl) dX3_dayGoes_97 (pc' := 100) rfl (fun M_66 h m_68 => ?_)
        obtain ⟨x1_69, e_70, h⟩ := bn_ h
        refine r_iinc C (lv' := [(1, .int x1_69), (0, .ref a0)]) dX3_dayGoes_100 (pc' := 103) rfl (j := 1) rfl x1_69 (by rw [e_70]; rfl) (Nat.le_of_ble_eq_true rfl) rfl ?_
        refine r_goto C dX3_dayGoes_103 (tgt := 78) (by decide) ?_
        refine r_sub (lv' := [(0, .ref a0), (1, .int x1_69)]) [1, 0] rfl ?_
        exact ih M_66 x1_69 (mMo.kd m_68 (mMo.kd m_62 k_a0 (by decide)) (by decide)) h (fun M9 hm9 h9 => hX106 M9 (mMo.tr (mMo.tr m_62 m_68) hm9) h9)
set_option maxHeartbeats 4000000 in
theorem S_X3_dayGoes {D : DD} {l : Launch} {M : MM} {a0 : Nat} {Post : MM → Prop} (k_a0 : mkd M a0 = 3) (h : wp_X3_dayGoes M a0 Post) : mMet D l yX3_dayGoes cX3_dayGoes 3 (none) { frames := 205, cells := 0, slots := 0, locals := 5520 } M [.ref a0] (pV_ Post) := by
  refine m_of2 [(0, .ref a0)] (by decide +kernel) (Nat.le_of_ble_eq_true rfl) rfl (fun E hED hEl C hE => ?_)
  subst hED
  subst hEl
  unfold wp_X3_dayGoes at h
  refine r_iconst C dX3_dayGoes_0 (pc' := 1) rfl (v := 0) rfl ?_
  refine r_istore_n C (lv' := [(1, .int (0 : Int32)), (0, .ref a0)]) dX3_dayGoes_1 (pc' := 2) rfl rfl (0 : Int32) rfl (Nat.le_of_ble_eq_true rfl) rfl ?_
  obtain ⟨n_49, h⟩ := h
  refine r_sub (lv' := [(0, .ref a0), (1, .int (0 : Int32))]) [1, 0] rfl ?_
  refine B_X3_dayGoes_2 C hE n_49 M (0 : Int32) k_a0 h (fun M_50 m_51 h => ?_)
  refine r_iconst C dX3_dayGoes_76 (pc' := 77) rfl (v := 0) rfl ?_
  refine r_istore_n C (lv' := [(1, .int (0 : Int32)), (0, .ref a0)]) dX3_dayGoes_77 (pc' := 78) rfl rfl (0 : Int32) rfl (Nat.le_of_ble_eq_true rfl) rfl ?_
  obtain ⟨n_71, h⟩ := h
  refine r_sub (lv' := [(0, .ref a0), (1, .int (0 : Int32))]) [1, 0] rfl ?_
  refine B_X3_dayGoes_78 C hE n_71 M_50 (0 : Int32) (mMo.kd m_51 k_a0 (by decide)) h (fun M_72 m_73 h => ?_)
  refine r_aload_n C dX3_dayGoes_106 (pc' := 107) rfl (j := 0) rfl ?_
  refine r_dup C dX3_dayGoes_107 (pc' := 108) rfl rfl ?_
  refine r_getf C (Cn := RX3) (T := TX3) 2 (mMo.kd m_73 (mMo.kd m_51 k_a0 (by decide)) (by decide)) (by decide) vc_X3 in_X3 (by decide) q286 dX3_dayGoes_108 (pc' := 111) rfl (v := .int (mgI M_72 a0 2)) rfl ?_
  refine r_iconst C dX3_dayGoes_111 (pc' := 112) rfl (v := 1) rfl ?_
  refine r_iadd C dX3_dayGoes_112 (pc' := 113) rfl ?_
  obtain ⟨M_74, e_75, h⟩ := bn_ h
  refine r_putI C (Cn := RX3) (T := TX3) tyX3 2 (mMo.kd m_73 (mMo.kd m_51 k_a0 (by decide)) (by decide)) (by decide) vc_X3 in_X3 tyX3_ok nmX3 (by decide) q286 rfl rfl dX3_dayGoes_113 (pc' := 116) rfl rfl rfl M_74 e_75 ?_
  exact r_vret C hE (Nat.le_of_ble_eq_true rfl) (Nat.le_of_ble_eq_true rfl) dX3_dayGoes_116 ⟨rfl, h⟩
set_option maxHeartbeats 4000000 in
theorem B_X3_goes_17 {E : mE} {a0 : Nat} {x1 : Int32} {X42 : MM → Prop} {Post : Option Nat → MM → Prop} (C : mC E yX3_goes cX3_goes 3 ((some (.object "LandingTree$Landing"))) { frames := 206, cells := 0, slots := 0, locals := 5542 }) (hE : mEnd E { frames := 206, cells := 0, slots := 0, locals := 5542 } (pR_ Post)) : ∀ (n_ : Nat) (M : MM) (x2 : Int32), mkd M a0 = 3 → wl_X3_goes_17 a0 x1 X42 n_ M x2 → (∀ (M' : MM), mMo M M' → X42 M' → mV E M' 0 0 42 [(0, .ref a0)] []) → mV E M 0 0 17 [(0, .ref a0), (1, .int x1), (2, .int x2)] [] := by
  intro n_
  induction n_ with
  | zero =>
    intro M x2 k_a0 h hX42
    exact absurd h (by rw [wl_X3_goes_17]; exact fun q => q)
  | succ n_ ih =>
    intro M x2 k_a0 h hX42
    rw [wl_X3_goes_17] at h
    refine r_iload_n C dX3_goes_17 (pc' := 18) rfl (j := 2) rfl ?_
    refine r_iload_n C dX3_goes_18 (pc' := 19) rfl (j := 1) rfl ?_
    refine r_icmp_ge C dX3_goes_19 (pc' := 22) rfl (tgt := 42) (by decide) (fun c_7 => ?_) (fun c_7 => ?_)
    · have h := it_t h c_7
      refine r_sub (lv' := [(0, .ref a0)]) [0] rfl ?_
      exact hX42 M mMo.rf h
    · have h := it_f h c_7
      refine r_aload_n C dX3_goes_22 (pc' := 23) rfl (j := 0) rfl ?_
      refine r_getf C (Cn := RX3) (T := TX3) 2 k_a0 (by decide) vc_X3 in_X3 (by decide) q286 dX3_goes_23 (pc' := 26) rfl (v := .int (mgI M a0 2)) rfl ?_
      refine r_sipush C dX3_goes_26 (pc' := 29) rfl (v := 9999) rfl ?_
      refine r_icmp_ge C dX3_goes_29 (pc' := 32) rfl (tgt := 42) (by decide) (fun c_8 => ?_) (fun c_8 => ?_)
      · have h := it_t h c_8
        refine r_sub (lv' := [(0, .ref a0)]) [0] rfl ?_
        exact hX42 M mMo.rf h
      · have h := it_f h c_8
        refine r_aload_n C dX3_goes_32 (pc' := 33) rfl (j := 0) rfl ?_
        refine r_callVv (As := []) (rest := []) (Cn := RX3) (T := TX3) C k_a0 (by decide) vc_X3 (S_X3_dayGoes k_a0 h) (lw_V q783 q785 qs16 q108 q786) rfl hd_X3_dayGoes rfl rfl (Nat.le_of_ble_eq_true rfl) (Nat.le_of_ble_eq_true rfl) (Nat.le_of_ble_eq_true rfl) rfl rfl (Nat.le_of_ble_eq_true rfl) (Nat.le_of_ble_eq_true rfl) dX3_goes_33 (pc' := 36) rfl (fun M_9 h m_11 => ?_)
        obtain ⟨x2_12, e_13, h⟩ := bn_ h
        refine r_iinc C (lv' := [(2, .int x2_12), (0, .ref a0), (1, .int x1)]) dX3_goes_36 (pc' := 39) rfl (j := 2) rfl x2_12 (by rw [e_13]; rfl) (Nat.le_of_ble_eq_true rfl) rfl ?_
        refine r_goto C dX3_goes_39 (tgt := 17) (by decide) ?_
        refine r_sub (lv' := [(0, .ref a0), (1, .int x1), (2, .int x2_12)]) [1, 2, 0] rfl ?_
        exact ih M_9 x2_12 (mMo.kd m_11 k_a0 (by decide)) h (fun M9 hm9 h9 => hX42 M9 (mMo.tr m_11 hm9) h9)
set_option maxHeartbeats 4000000 in
theorem S_X3_goes {D : DD} {l : Launch} {M : MM} {a0 : Nat} {x1 : Int32} {Post : Option Nat → MM → Prop} (k_a0 : mkd M a0 = 3) (h : wp_X3_goes M a0 x1 Post) : mMet D l yX3_goes cX3_goes 3 ((some (.object "LandingTree$Landing"))) { frames := 206, cells := 0, slots := 0, locals := 5542 } M [.ref a0, .int x1] (pR_ Post) := by
  refine m_of2 [(0, .ref a0), (1, .int x1)] (by decide +kernel) (Nat.le_of_ble_eq_true rfl) rfl (fun E hED hEl C hE => ?_)
  subst hED
  subst hEl
  unfold wp_X3_goes at h
  refine r_aload_n C dX3_goes_0 (pc' := 1) rfl (j := 0) rfl ?_
  refine r_iconst C dX3_goes_1 (pc' := 2) rfl (v := 0) rfl ?_
  obtain ⟨M_1, e_2, h⟩ := bn_ h
  refine r_putI C (Cn := RX3) (T := TX3) tyX3 4 k_a0 (by decide) vc_X3 in_X3 tyX3_ok nmX3 (by decide) q290 rfl rfl dX3_goes_2 (pc' := 5) rfl rfl rfl M_1 e_2 ?_
  refine r_aload_n C dX3_goes_5 (pc' := 6) rfl (j := 0) rfl ?_
  refine r_iconst C dX3_goes_6 (pc' := 7) rfl (v := 0) rfl ?_
  obtain ⟨M_3, e_4, h⟩ := bn_ h
  refine r_putI C (Cn := RX3) (T := TX3) tyX3 5 (mMo.kd (mo_I e_2) k_a0 (by decide)) (by decide) vc_X3 in_X3 tyX3_ok nmX3 (by decide) q292 rfl rfl dX3_goes_7 (pc' := 10) rfl rfl rfl M_3 e_4 ?_
  refine r_aload_n C dX3_goes_10 (pc' := 11) rfl (j := 0) rfl ?_
  refine r_iconst C dX3_goes_11 (pc' := 12) rfl (v := 0) rfl ?_
  obtain ⟨M_5, e_6, h⟩ := bn_ h
  refine r_putI C (Cn := RX3) (T := TX3) tyX3 6 (mMo.kd (mo_I e_4) (mMo.kd (mo_I e_2) k_a0 (by decide)) (by decide)) (by decide) vc_X3 in_X3 tyX3_ok nmX3 (by decide) q294 rfl rfl dX3_goes_12 (pc' := 15) rfl rfl rfl M_5 e_6 ?_
  refine r_iconst C dX3_goes_15 (pc' := 16) rfl (v := 0) rfl ?_
  refine r_istore_n C (lv' := [(2, .int (0 : Int32)), (0, .ref a0), (1, .int x1)]) dX3_goes_16 (pc' := 17) rfl rfl (0 : Int32) rfl (Nat.le_of_ble_eq_true rfl) rfl ?_
  obtain ⟨n_14, h⟩ := h
  refine r_sub (lv' := [(0, .ref a0), (1, .int x1), (2, .int (0 : Int32))]) [1, 2, 0] rfl ?_
  refine B_X3_goes_17 C hE n_14 M_5 (0 : Int32) (mMo.kd (mo_I e_6) (mMo.kd (mo_I e_4) (mMo.kd (mo_I e_2) k_a0 (by decide)) (by decide)) (by decide)) h (fun M_15 m_16 h => ?_)
  refine r_aload_n C dX3_goes_42 (pc' := 43) rfl (j := 0) rfl ?_
  exact r_aret (x := (some a0)) C hE (Nat.le_of_ble_eq_true rfl) (Nat.le_of_ble_eq_true rfl) dX3_goes_43 ⟨_, rfl, h⟩
set_option maxHeartbeats 4000000 in
theorem B_X3_takes_2 {E : mE} {a0 : Nat} {a1 : Nat} {X28 : MM → Prop} {Post : Option Nat → MM → Prop} (C : mC E yX3_takes cX3_takes 3 ((some (.object "LandingTree$Landing"))) { frames := 1, cells := 0, slots := 0, locals := 22 }) (hE : mEnd E { frames := 1, cells := 0, slots := 0, locals := 22 } (pR_ Post)) : ∀ (n_ : Nat) (M : MM) (x2 : Int32), mkd M a0 = 3 → mkd M a1 = 3 → wl_X3_takes_2 a0 a1 X28 n_ M x2 → (∀ (M' : MM), mMo M M' → X28 M' → mV E M' 0 0 28 [(0, .ref a0), (1, .ref a1)] []) → mV E M 0 0 2 [(0, .ref a0), (1, .ref a1), (2, .int x2)] [] := by
  intro n_
  induction n_ with
  | zero =>
    intro M x2 k_a0 k_a1 h hX28
    exact absurd h (by rw [wl_X3_takes_2]; exact fun q => q)
  | succ n_ ih =>
    intro M x2 k_a0 k_a1 h hX28
    rw [wl_X3_takes_2] at h
    refine r_iload_n C dX3_takes_2 (pc' := 3) rfl (j := 2) rfl ?_
    refine r_iconst C dX3_takes_3 (pc' := 4) rfl (v := 4) rfl ?_
    refine r_icmp_ge C dX3_takes_4 (pc' := 7) rfl (tgt := 28) (by decide) (fun c_1 => ?_) (fun c_1 => ?_)
    · have h := it_t h c_1
      refine r_sub (lv' := [(0, .ref a0), (1, .ref a1)]) [0, 1] rfl ?_
      exact hX28 M mMo.rf h
    · have h := it_f h c_1
      refine r_aload_n C dX3_takes_7 (pc' := 8) rfl (j := 0) rfl ?_
      refine r_getf C (Cn := RX3) (T := TX3) 0 k_a0 (by decide) vc_X3 in_X3 (by decide) q282 dX3_takes_8 (pc' := 11) rfl (v := va_rf (mgR M a0 0)) rfl ?_
      obtain ⟨b_2, e_3, k_4, h⟩ := h
      refine r_ref [] e_3 ?_
      refine r_iload_n C dX3_takes_11 (pc' := 12) rfl (j := 2) rfl ?_
      obtain ⟨c_5, h⟩ := h
      refine r_aald C (t := 3) (j := (ix_ x2)) k_4 (by decide) rfl rfl c_5 rfl dX3_takes_12 (pc' := 13) rfl ?_
      obtain ⟨b_6, e_7, k_8, h⟩ := h
      refine r_ref [] e_7 ?_
      refine r_aload_n C dX3_takes_13 (pc' := 14) rfl (j := 1) rfl ?_
      refine r_getf C (Cn := RX3) (T := TX3) 0 k_a1 (by decide) vc_X3 in_X3 (by decide) q282 dX3_takes_14 (pc' := 17) rfl (v := va_rf (mgR M a1 0)) rfl ?_
      obtain ⟨b_9, e_10, k_11, h⟩ := h
      refine r_ref [] e_10 ?_
      refine r_iload_n C dX3_takes_17 (pc' := 18) rfl (j := 2) rfl ?_
      obtain ⟨c_12, h⟩ := h
      refine r_aald C (t := 3) (j := (ix_ x2)) k_11 (by decide) rfl rfl c_12 rfl dX3_takes_18 (pc' := 19) rfl ?_
      obtain ⟨b_13, e_14, k_15, h⟩ := h
      refine r_ref [] e_14 ?_
      refine r_callVv (As := [.ref b_13]) (rest := []) (Cn := RX4) (T := TX4) C k_8 (by decide) vc_X4 (S_X4_takes k_8 k_15 h) (lw_V q912 q913 q914 q109 q915) rfl hd_X4_takes rfl rfl (Nat.le_of_ble_eq_true rfl) (Nat.le_of_ble_eq_true rfl) (Nat.le_of_ble_eq_true rfl) rfl rfl (Nat.le_of_ble_eq_true rfl) (Nat.le_of_ble_eq_true rfl) dX3_takes_19 (pc' := 22) rfl (fun M_16 h m_18 => ?_)
      obtain ⟨x2_19, e_20, h⟩ := bn_ h
      refine r_iinc C (lv' := [(2, .int x2_19), (0, .ref a0), (1, .ref a1)]) dX3_takes_22 (pc' := 25) rfl (j := 2) rfl x2_19 (by rw [e_20]; rfl) (Nat.le_of_ble_eq_true rfl) rfl ?_
      refine r_goto C dX3_takes_25 (tgt := 2) (by decide) ?_
      refine r_sub (lv' := [(0, .ref a0), (1, .ref a1), (2, .int x2_19)]) [1, 2, 0] rfl ?_
      exact ih M_16 x2_19 (mMo.kd m_18 k_a0 (by decide)) (mMo.kd m_18 k_a1 (by decide)) h (fun M9 hm9 h9 => hX28 M9 (mMo.tr m_18 hm9) h9)
set_option maxHeartbeats 4000000 in
theorem B_X3_takes_30 {E : mE} {a0 : Nat} {a1 : Nat} {X57 : MM → Prop} {Post : Option Nat → MM → Prop} (C : mC E yX3_takes cX3_takes 3 ((some (.object "LandingTree$Landing"))) { frames := 1, cells := 0, slots := 0, locals := 22 }) (hE : mEnd E { frames := 1, cells := 0, slots := 0, locals := 22 } (pR_ Post)) : ∀ (n_ : Nat) (M : MM) (x2 : Int32), mkd M a0 = 3 → mkd M a1 = 3 → wl_X3_takes_30 a0 a1 X57 n_ M x2 → (∀ (M' : MM), mMo M M' → X57 M' → mV E M' 0 0 57 [(0, .ref a0), (1, .ref a1)] []) → mV E M 0 0 30 [(0, .ref a0), (1, .ref a1), (2, .int x2)] [] := by
  intro n_
  induction n_ with
  | zero =>
    intro M x2 k_a0 k_a1 h hX57
    exact absurd h (by rw [wl_X3_takes_30]; exact fun q => q)
  | succ n_ ih =>
    intro M x2 k_a0 k_a1 h hX57
    rw [wl_X3_takes_30] at h
    refine r_iload_n C dX3_takes_30 (pc' := 31) rfl (j := 2) rfl ?_
    refine r_bipush C dX3_takes_31 (pc' := 33) rfl (v := 8) rfl ?_
    refine r_icmp_ge C dX3_takes_33 (pc' := 36) rfl (tgt := 57) (by decide) (fun c_24 => ?_) (fun c_24 => ?_)
    · have h := it_t h c_24
      refine r_sub (lv' := [(0, .ref a0), (1, .ref a1)]) [0, 1] rfl ?_
      exact hX57 M mMo.rf h
    · have h := it_f h c_24
      refine r_aload_n C dX3_takes_36 (pc' := 37) rfl (j := 0) rfl ?_
      refine r_getf C (Cn := RX3) (T := TX3) 1 k_a0 (by decide) vc_X3 in_X3 (by decide) q284 dX3_takes_37 (pc' := 40) rfl (v := va_rf (mgR M a0 1)) rfl ?_
      obtain ⟨b_25, e_26, k_27, h⟩ := h
      refine r_ref [] e_26 ?_
      refine r_iload_n C dX3_takes_40 (pc' := 41) rfl (j := 2) rfl ?_
      obtain ⟨c_28, h⟩ := h
      refine r_aald C (t := 4) (j := (ix_ x2)) k_27 (by decide) rfl rfl c_28 rfl dX3_takes_41 (pc' := 42) rfl ?_
      obtain ⟨b_29, e_30, k_31, h⟩ := h
      refine r_ref [] e_30 ?_
      refine r_aload_n C dX3_takes_42 (pc' := 43) rfl (j := 1) rfl ?_
      refine r_getf C (Cn := RX3) (T := TX3) 1 k_a1 (by decide) vc_X3 in_X3 (by decide) q284 dX3_takes_43 (pc' := 46) rfl (v := va_rf (mgR M a1 1)) rfl ?_
      obtain ⟨b_32, e_33, k_34, h⟩ := h
      refine r_ref [] e_33 ?_
      refine r_iload_n C dX3_takes_46 (pc' := 47) rfl (j := 2) rfl ?_
      obtain ⟨c_35, h⟩ := h
      refine r_aald C (t := 4) (j := (ix_ x2)) k_34 (by decide) rfl rfl c_35 rfl dX3_takes_47 (pc' := 48) rfl ?_
      obtain ⟨b_36, e_37, k_38, h⟩ := h
      refine r_ref [] e_37 ?_
      refine r_callVv (As := [.ref b_36]) (rest := []) (Cn := RX5) (T := TX5) C k_31 (by decide) vc_X5 (S_X5_takes k_31 k_38 h) (lw_V q916 q917 q918 q110 q919) rfl hd_X5_takes rfl rfl (Nat.le_of_ble_eq_true rfl) (Nat.le_of_ble_eq_true rfl) (Nat.le_of_ble_eq_true rfl) rfl rfl (Nat.le_of_ble_eq_true rfl) (Nat.le_of_ble_eq_true rfl) dX3_takes_48 (pc' := 51) rfl (fun M_39 h m_41 => ?_)
      obtain ⟨x2_42, e_43, h⟩ := bn_ h
      refine r_iinc C (lv' := [(2, .int x2_42), (0, .ref a0), (1, .ref a1)]) dX3_takes_51 (pc' := 54) rfl (j := 2) rfl x2_42 (by rw [e_43]; rfl) (Nat.le_of_ble_eq_true rfl) rfl ?_
      refine r_goto C dX3_takes_54 (tgt := 30) (by decide) ?_
      refine r_sub (lv' := [(0, .ref a0), (1, .ref a1), (2, .int x2_42)]) [1, 2, 0] rfl ?_
      exact ih M_39 x2_42 (mMo.kd m_41 k_a0 (by decide)) (mMo.kd m_41 k_a1 (by decide)) h (fun M9 hm9 h9 => hX57 M9 (mMo.tr m_41 hm9) h9)
set_option maxHeartbeats 4000000 in
theorem S_X3_takes {D : DD} {l : Launch} {M : MM} {a0 : Nat} {a1 : Nat} {Post : Option Nat → MM → Prop} (k_a0 : mkd M a0 = 3) (k_a1 : mkd M a1 = 3) (h : wp_X3_takes M a0 a1 Post) : mMet D l yX3_takes cX3_takes 3 ((some (.object "LandingTree$Landing"))) { frames := 1, cells := 0, slots := 0, locals := 22 } M [.ref a0, .ref a1] (pR_ Post) := by
  refine m_of2 [(0, .ref a0), (1, .ref a1)] (by decide +kernel) (Nat.le_of_ble_eq_true rfl) rfl (fun E hED hEl C hE => ?_)
  subst hED
  subst hEl
  unfold wp_X3_takes at h
  refine r_iconst C dX3_takes_0 (pc' := 1) rfl (v := 0) rfl ?_
  refine r_istore_n C (lv' := [(2, .int (0 : Int32)), (0, .ref a0), (1, .ref a1)]) dX3_takes_1 (pc' := 2) rfl rfl (0 : Int32) rfl (Nat.le_of_ble_eq_true rfl) rfl ?_
  obtain ⟨n_21, h⟩ := h
  refine r_sub (lv' := [(0, .ref a0), (1, .ref a1), (2, .int (0 : Int32))]) [1, 2, 0] rfl ?_
  refine B_X3_takes_2 C hE n_21 M (0 : Int32) k_a0 k_a1 h (fun M_22 m_23 h => ?_)
  refine r_iconst C dX3_takes_28 (pc' := 29) rfl (v := 0) rfl ?_
  refine r_istore_n C (lv' := [(2, .int (0 : Int32)), (0, .ref a0), (1, .ref a1)]) dX3_takes_29 (pc' := 30) rfl rfl (0 : Int32) rfl (Nat.le_of_ble_eq_true rfl) rfl ?_
  obtain ⟨n_44, h⟩ := h
  refine r_sub (lv' := [(0, .ref a0), (1, .ref a1), (2, .int (0 : Int32))]) [1, 2, 0] rfl ?_
  refine B_X3_takes_30 C hE n_44 M_22 (0 : Int32) (mMo.kd m_23 k_a0 (by decide)) (mMo.kd m_23 k_a1 (by decide)) h (fun M_45 m_46 h => ?_)
  refine r_aload_n C dX3_takes_57 (pc' := 58) rfl (j := 0) rfl ?_
  refine r_aload_n C dX3_takes_58 (pc' := 59) rfl (j := 1) rfl ?_
  refine r_getf C (Cn := RX3) (T := TX3) 2 (mMo.kd m_46 (mMo.kd m_23 k_a1 (by decide)) (by decide)) (by decide) vc_X3 in_X3 (by decide) q286 dX3_takes_59 (pc' := 62) rfl (v := .int (mgI M_45 a1 2)) rfl ?_
  obtain ⟨M_47, e_48, h⟩ := bn_ h
  refine r_putI C (Cn := RX3) (T := TX3) tyX3 2 (mMo.kd m_46 (mMo.kd m_23 k_a0 (by decide)) (by decide)) (by decide) vc_X3 in_X3 tyX3_ok nmX3 (by decide) q286 rfl rfl dX3_takes_62 (pc' := 65) rfl rfl rfl M_47 e_48 ?_
  refine r_aload_n C dX3_takes_65 (pc' := 66) rfl (j := 0) rfl ?_
  refine r_aload_n C dX3_takes_66 (pc' := 67) rfl (j := 1) rfl ?_
  refine r_getf C (Cn := RX3) (T := TX3) 3 (mMo.kd (mo_I e_48) (mMo.kd m_46 (mMo.kd m_23 k_a1 (by decide)) (by decide)) (by decide)) (by decide) vc_X3 in_X3 (by decide) q288 dX3_takes_67 (pc' := 70) rfl (v := .int (mgI M_47 a1 3)) rfl ?_
  obtain ⟨M_49, e_50, h⟩ := bn_ h
  refine r_putI C (Cn := RX3) (T := TX3) tyX3 3 (mMo.kd (mo_I e_48) (mMo.kd m_46 (mMo.kd m_23 k_a0 (by decide)) (by decide)) (by decide)) (by decide) vc_X3 in_X3 tyX3_ok nmX3 (by decide) q288 rfl rfl dX3_takes_70 (pc' := 73) rfl rfl rfl M_49 e_50 ?_
  refine r_aload_n C dX3_takes_73 (pc' := 74) rfl (j := 0) rfl ?_
  exact r_aret (x := (some a0)) C hE (Nat.le_of_ble_eq_true rfl) (Nat.le_of_ble_eq_true rfl) dX3_takes_74 ⟨_, rfl, h⟩
set_option maxHeartbeats 4000000 in
theorem B_X3_dead_40 {E : mE} {M : MM} {a0 : Nat} {x2 : Int32} {xs0 : Int32} {R : MM → Int32 → Int32 → Prop} {X49 : MM → Int32 → Prop} {Post : Int32 → MM → Prop} (C : mC E yX3_dead cX3_dead 3 ((some .int)) { frames := 1, cells := 0, slots := 0, locals := 20 }) (hE : mEnd E { frames := 1, cells := 0, slots := 0, locals := 20 } (pI_ Post)) (k_a0 : mkd M a0 = 3) (h : wb_X3_dead_40 M a0 x2 xs0 R X49) (hR : ∀ (M' : MM) (x1' : Int32) (x2' : Int32), mMo M M' → mkd M' a0 = 3 → R M' x1' x2' → mV E M' 0 0 4 [(0, .ref a0), (1, .int x1'), (2, .int x2')] []) (hX49 : ∀ (M' : MM) (x1' : Int32), mMo M M' → X49 M' x1' → mV E M' 0 0 49 [(1, .int x1')] []) : mV E M 0 0 40 [(0, .ref a0), (2, .int x2)] [.int xs0] := by
  unfold wb_X3_dead_40 at h
  refine r_iconst C dX3_dead_40 (pc' := 41) rfl (v := 0) rfl ?_
  refine r_ior C dX3_dead_41 (pc' := 42) rfl ?_
  obtain ⟨x1_10, e_11, h⟩ := bn_ h
  refine r_istore_n C (lv' := [(1, .int x1_10), (0, .ref a0), (2, .int x2)]) dX3_dead_42 (pc' := 43) rfl rfl x1_10 e_11 (Nat.le_of_ble_eq_true rfl) rfl ?_
  obtain ⟨x2_12, e_13, h⟩ := bn_ h
  refine r_iinc C (lv' := [(2, .int x2_12), (1, .int x1_10), (0, .ref a0)]) dX3_dead_43 (pc' := 46) rfl (j := 2) rfl x2_12 (by rw [e_13]; rfl) (Nat.le_of_ble_eq_true rfl) rfl ?_
  refine r_goto C dX3_dead_46 (tgt := 4) (by decide) ?_
  refine r_sub (lv' := [(0, .ref a0), (1, .int x1_10), (2, .int x2_12)]) [2, 1, 0] rfl ?_
  exact hR M x1_10 x2_12 mMo.rf k_a0 h
set_option maxHeartbeats 4000000 in
theorem B_X3_dead_4 {E : mE} {a0 : Nat} {X49 : MM → Int32 → Prop} {Post : Int32 → MM → Prop} (C : mC E yX3_dead cX3_dead 3 ((some .int)) { frames := 1, cells := 0, slots := 0, locals := 20 }) (hE : mEnd E { frames := 1, cells := 0, slots := 0, locals := 20 } (pI_ Post)) : ∀ (n_ : Nat) (M : MM) (x1 : Int32) (x2 : Int32), mkd M a0 = 3 → wl_X3_dead_4 a0 X49 n_ M x1 x2 → (∀ (M' : MM) (x1' : Int32), mMo M M' → X49 M' x1' → mV E M' 0 0 49 [(1, .int x1')] []) → mV E M 0 0 4 [(0, .ref a0), (1, .int x1), (2, .int x2)] [] := by
  intro n_
  induction n_ with
  | zero =>
    intro M x1 x2 k_a0 h hX49
    exact absurd h (by rw [wl_X3_dead_4]; exact fun q => q)
  | succ n_ ih =>
    intro M x1 x2 k_a0 h hX49
    rw [wl_X3_dead_4] at h
    refine r_iload_n C dX3_dead_4 (pc' := 5) rfl (j := 2) rfl ?_
    refine r_iconst C dX3_dead_5 (pc' := 6) rfl (v := 4) rfl ?_
    refine r_icmp_ge C dX3_dead_6 (pc' := 9) rfl (tgt := 49) (by decide) (fun c_1 => ?_) (fun c_1 => ?_)
    · have h := it_t h c_1
      refine r_sub (lv' := [(1, .int x1)]) [1] rfl ?_
      exact hX49 M x1 mMo.rf h
    · have h := it_f h c_1
      refine r_iload_n C dX3_dead_9 (pc' := 10) rfl (j := 1) rfl ?_
      refine r_aload_n C dX3_dead_10 (pc' := 11) rfl (j := 0) rfl ?_
      refine r_getf C (Cn := RX3) (T := TX3) 0 k_a0 (by decide) vc_X3 in_X3 (by decide) q282 dX3_dead_11 (pc' := 14) rfl (v := va_rf (mgR M a0 0)) rfl ?_
      obtain ⟨b_2, e_3, k_4, h⟩ := h
      refine r_ref [] e_3 ?_
      refine r_iload_n C dX3_dead_14 (pc' := 15) rfl (j := 2) rfl ?_
      obtain ⟨c_5, h⟩ := h
      refine r_aald C (t := 3) (j := (ix_ x2)) k_4 (by decide) rfl rfl c_5 rfl dX3_dead_15 (pc' := 16) rfl ?_
      obtain ⟨b_6, e_7, k_8, h⟩ := h
      refine r_ref [] e_7 ?_
      refine r_getfN C (Cn := RX4) (T := TX4) 8 k_8 (by decide) vc_X4 in_X4 (by decide) (List.mem_of_getElem? (i := 28) rfl) dX3_dead_16 (pc' := 19) rfl (v := .int (mgI M b_6 8)) rfl ?_
      refine r_if_eq C dX3_dead_19 (pc' := 22) rfl (tgt := 40) (by decide) (fun c_9 => ?_) (fun c_9 => ?_)
      · have h := it_t h c_9
        refine r_sub (lv' := [(0, .ref a0), (2, .int x2)]) [0, 2] rfl ?_
        exact B_X3_dead_40 C hE k_a0 h (fun M8 v0 v1 hm8 g0 h8 => ih M8 v0 v1 g0 h8 (fun M9 w0 hm9 h9 => hX49 M9 w0 (mMo.tr hm8 hm9) h9)) (fun M9 w0 hm9 h9 => hX49 M9 w0 hm9 h9)
      · have h := it_f h c_9
        refine r_aload_n C dX3_dead_22 (pc' := 23) rfl (j := 0) rfl ?_
        refine r_getf C (Cn := RX3) (T := TX3) 0 k_a0 (by decide) vc_X3 in_X3 (by decide) q282 dX3_dead_23 (pc' := 26) rfl (v := va_rf (mgR M a0 0)) rfl ?_
        obtain ⟨b_14, e_15, k_16, h⟩ := h
        refine r_ref [] e_15 ?_
        refine r_iload_n C dX3_dead_26 (pc' := 27) rfl (j := 2) rfl ?_
        obtain ⟨c_17, h⟩ := h
        refine r_aald C (t := 3) (j := (ix_ x2)) k_16 (by decide) rfl rfl c_17 rfl dX3_dead_27 (pc' := 28) rfl ?_
        obtain ⟨b_18, e_19, k_20, h⟩ := h
        refine r_ref [] e_19 ?_
        refine r_callVi (As := []) (rest := [.int x1]) (Cn := RX4) (T := TX4) C k_20 (by decide) vc_X4 (S_X4_isDead k_20 h) (lw_V q805 q482 q483 q109 q484) rfl hd_X4_isDead rfl rfl (Nat.le_of_ble_eq_true rfl) (Nat.le_of_ble_eq_true rfl) (Nat.le_of_ble_eq_true rfl) rfl rfl (Nat.le_of_ble_eq_true rfl) (Nat.le_of_ble_eq_true rfl) dX3_dead_28 (pc' := 31) rfl (fun r_22 M_21 h m_23 => ?_)
        refine r_if_eq C dX3_dead_31 (pc' := 34) rfl (tgt := 40) (by decide) (fun c_24 => ?_) (fun c_24 => ?_)
        · have h := it_t h c_24
          refine r_sub (lv' := [(0, .ref a0), (2, .int x2)]) [0, 2] rfl ?_
          exact B_X3_dead_40 C hE (mMo.kd m_23 k_a0 (by decide)) h (fun M8 v0 v1 hm8 g0 h8 => ih M8 v0 v1 g0 h8 (fun M9 w0 hm9 h9 => hX49 M9 w0 (mMo.tr (mMo.tr m_23 hm8) hm9) h9)) (fun M9 w0 hm9 h9 => hX49 M9 w0 (mMo.tr m_23 hm9) h9)
        · have h := it_f h c_24
          refine r_iconst C dX3_dead_34 (pc' := 35) rfl (v := 1) rfl ?_
          refine r_iload_n C dX3_dead_35 (pc' := 36) rfl (j := 2) rfl ?_
          refine r_ishl C dX3_dead_36 (pc' := 37) rfl ?_
          refine r_goto C dX3_dead_37 (tgt := 41) (by decide) ?_
          refine r_ior C dX3_dead_41 (pc' := 42) rfl ?_
          obtain ⟨x1_25, e_26, h⟩ := bn_ h
          refine r_istore_n C (lv' := [(1, .int x1_25), (0, .ref a0), (2, .int x2)]) dX3_dead_42 (pc' := 43) rfl rfl x1_25 e_26 (Nat.le_of_ble_eq_true rfl) rfl ?_
          obtain ⟨x2_27, e_28, h⟩ := bn_ h
          refine r_iinc C (lv' := [(2, .int x2_27), (1, .int x1_25), (0, .ref a0)]) dX3_dead_43 (pc' := 46) rfl (j := 2) rfl x2_27 (by rw [e_28]; rfl) (Nat.le_of_ble_eq_true rfl) rfl ?_
          refine r_goto C dX3_dead_46 (tgt := 4) (by decide) ?_
          refine r_sub (lv' := [(0, .ref a0), (1, .int x1_25), (2, .int x2_27)]) [2, 1, 0] rfl ?_
          exact ih M_21 x1_25 x2_27 (mMo.kd m_23 k_a0 (by decide)) h (fun M9 w0 hm9 h9 => hX49 M9 w0 (mMo.tr m_23 hm9) h9)
set_option maxHeartbeats 4000000 in
theorem S_X3_dead {D : DD} {l : Launch} {M : MM} {a0 : Nat} {Post : Int32 → MM → Prop} (k_a0 : mkd M a0 = 3) (h : wp_X3_dead M a0 Post) : mMet D l yX3_dead cX3_dead 3 ((some .int)) { frames := 1, cells := 0, slots := 0, locals := 20 } M [.ref a0] (pI_ Post) := by
  refine m_of2 [(0, .ref a0)] (by decide +kernel) (Nat.le_of_ble_eq_true rfl) rfl (fun E hED hEl C hE => ?_)
  subst hED
  subst hEl
  unfold wp_X3_dead at h
  refine r_iconst C dX3_dead_0 (pc' := 1) rfl (v := 0) rfl ?_
  refine r_istore_n C (lv' := [(1, .int (0 : Int32)), (0, .ref a0)]) dX3_dead_1 (pc' := 2) rfl rfl (0 : Int32) rfl (Nat.le_of_ble_eq_true rfl) rfl ?_
  refine r_iconst C dX3_dead_2 (pc' := 3) rfl (v := 0) rfl ?_
  refine r_istore_n C (lv' := [(2, .int (0 : Int32)), (1, .int (0 : Int32)), (0, .ref a0)]) dX3_dead_3 (pc' := 4) rfl rfl (0 : Int32) rfl (Nat.le_of_ble_eq_true rfl) rfl ?_
  obtain ⟨n_29, h⟩ := h
  refine r_sub (lv' := [(0, .ref a0), (1, .int (0 : Int32)), (2, .int (0 : Int32))]) [2, 1, 0] rfl ?_
  refine B_X3_dead_4 C hE n_29 M (0 : Int32) (0 : Int32) k_a0 h (fun M_30 x1_32 m_31 h => ?_)
  refine r_iload_n C dX3_dead_49 (pc' := 50) rfl (j := 0) rfl ?_
  exact r_iret C hE (Nat.le_of_ble_eq_true rfl) (Nat.le_of_ble_eq_true rfl) dX3_dead_50 ⟨_, rfl, h⟩
