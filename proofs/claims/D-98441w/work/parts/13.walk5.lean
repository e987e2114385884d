set_option maxRecDepth 100000
abbrev KT : Type := MM → Nat → Int32 → Int32 → Int32 → Int32 → (MM → Prop) → Prop

def wb_X0_laysWeek_196 (Rc : KT) (M : MM) (a0 : Nat) (x1 : Int32) (x2 : Int32) (x3 : Int32) (x4 : Int32) (x5 : Int32) (as0 : Nat) (xs1 : Int32) (xs2 : Int32) (xs3 : Int32) (xs4 : Int32) (xs5 : Int32) (R : MM → Int32 → Prop) (X206 : MM → Prop) : Prop :=
  Rc M as0 xs1 xs2 xs3 (xs4 + xs5) (fun M_71 => ∀ x5_74, x5_74 = x5 + 1 → R M_71 x5_74)
def wb_X0_laysWeek_143 (Rc : KT) (M : MM) (a0 : Nat) (x1 : Int32) (x2 : Int32) (x3 : Int32) (x4 : Int32) (x5 : Int32) (a6 : Nat) (R : MM → Int32 → Prop) (X206 : MM → Prop) : Prop :=
  ∃ b_49, mgR M a6 0 = some b_49 ∧ mkd M b_49 = 103 ∧ vp_in x1 (mln M b_49) ∧ ∃ b_53, mgR M b_49 (ix_ x1) = some b_53 ∧ mkd M b_53 = 4 ∧ wp_X3_at M a6 x1 (fun r_57 M_56 => ∃ b_59, r_57 = some b_59 ∧ mkd M_56 b_59 = 2 ∧ wp_X2_tells M_56 b_59 (101 : Int32) (9 : Int32) (fun r_63 M_62 => wp_X4_dayEnds M_62 b_53 r_63 (fun M_65 => ∀ M_68, M_68 = msI M_65 a6 2 ((mgI M_65 a6 2) + (1 : Int32)) → if x2 ≤ x5 then (wb_X0_laysWeek_196 Rc M_68 a0 x1 x2 x3 x4 x5 a0 x1 x2 (x3 + (1 : Int32)) x4 (0 : Int32) R X206)
  else (wb_X0_laysWeek_196 Rc M_68 a0 x1 x2 x3 x4 x5 a0 x1 x2 (x3 + (1 : Int32)) x4 (1 : Int32) R X206))))
def wl_X0_laysWeek_91 (Rc : KT) (a0 : Nat) (x1 : Int32) (x2 : Int32) (x3 : Int32) (x4 : Int32) (X206 : MM → Prop) : Nat → MM → Int32 → Prop
  | 0, _, _ => False
  | n_ + 1, M, x5 =>
  if x2 < x5 then (X206 M)
  else (∃ b_22, mgR M a0 27 = some b_22 ∧ mkd M b_22 = 108 ∧ vp_in (x3 + (1 : Int32)) (mln M b_22) ∧ ∃ b_26, mgR M b_22 (ix_ (x3 + (1 : Int32))) = some b_26 ∧ mkd M b_26 = 3 ∧ ∃ b_29, mgR M a0 27 = some b_29 ∧ mkd M b_29 = 108 ∧ vp_in x3 (mln M b_29) ∧ ∃ b_33, mgR M b_29 (ix_ x3) = some b_33 ∧ mkd M b_33 = 3 ∧ wp_X3_takes M b_26 b_33 (fun r_37 M_36 => ∃ b_39, r_37 = some b_39 ∧ mkd M_36 b_39 = 3 ∧ ∃ b_42, mgR M_36 a0 23 = some b_42 ∧ mkd M_36 b_42 = 100 ∧ vp_in x3 (mln M_36 b_42) ∧ ∀ M_46, M_46 = msI M_36 b_42 (ix_ x3) x5 → if x2 ≤ x5 then (wb_X0_laysWeek_143 Rc M_46 a0 x1 x2 x3 x4 x5 b_39 (wl_X0_laysWeek_91 Rc a0 x1 x2 x3 x4 X206 n_) X206)
  else (∃ b_76, mgR M_46 a0 11 = some b_76 ∧ mkd M_46 b_76 = 100 ∧ vp_in x5 (mln M_46 b_76) ∧ wp_X3_waters M_46 b_39 (mgI M_46 b_76 (ix_ x5)) x1 (fun M_80 => wb_X0_laysWeek_143 Rc M_80 a0 x1 x2 x3 x4 x5 b_39 (wl_X0_laysWeek_91 Rc a0 x1 x2 x3 x4 X206 n_) X206))))
def wl_X0_laysWeek_60 (Rc : KT) (a0 : Nat) (X87 : MM → Prop) : Nat → MM → Int32 → Prop
  | 0, _, _ => False
  | n_ + 1, M, x5 =>
  if (7 : Int32) ≤ x5 then (X87 M)
  else (∃ b_105, mgR M a0 24 = some b_105 ∧ mkd M b_105 = 100 ∧ ∃ b_108, mgR M a0 23 = some b_108 ∧ mkd M b_108 = 100 ∧ vp_in x5 (mln M b_108) ∧ vp_in x5 (mln M b_105) ∧ ∀ M_113, M_113 = msI M b_105 (ix_ x5) (mgI M b_108 (ix_ x5)) → ∀ x5_115, x5_115 = x5 + 1 → wl_X0_laysWeek_60 Rc a0 X87 n_ M_113 x5_115)
def wp_X0_laysWeek (Rc : KT) (M : MM) (a0 : Nat) (x1 : Int32) (x2 : Int32) (x3 : Int32) (x4 : Int32) (Post : MM → Prop) : Prop :=
  if (mgI M a0 25) ≤ x4 then (Post M)
  else (∃ b_2, mgR M a0 27 = some b_2 ∧ mkd M b_2 = 108 ∧ vp_in x3 (mln M b_2) ∧ ∃ b_6, mgR M b_2 (ix_ x3) = some b_6 ∧ mkd M b_6 = 3 ∧ ∃ b_9, mgR M b_6 0 = some b_9 ∧ mkd M b_9 = 103 ∧ vp_in x1 (mln M b_9) ∧ ∃ b_13, mgR M b_9 (ix_ x1) = some b_13 ∧ mkd M b_13 = 4 ∧ wp_X4_isDead M b_13 (fun r_17 M_16 => if r_17 = 0 then (if x3 = (7 : Int32) then (∀ M_86, M_86 = msI M_16 a0 25 x4 → ∃ b_88, mgR M_86 a0 27 = some b_88 ∧ mkd M_86 b_88 = 108 ∧ vp_in x3 (mln M_86 b_88) ∧ ∃ b_92, mgR M_86 b_88 (ix_ x3) = some b_92 ∧ mkd M_86 b_92 = 3 ∧ ∃ b_95, mgR M_86 b_92 0 = some b_95 ∧ mkd M_86 b_95 = 103 ∧ vp_in x1 (mln M_86 b_95) ∧ ∃ b_99, mgR M_86 b_95 (ix_ x1) = some b_99 ∧ mkd M_86 b_99 = 4 ∧ ∀ M_102, M_102 = msI M_86 a0 26 (mgI M_86 b_99 2) → ∃ n_117, wl_X0_laysWeek_60 Rc a0
    (fun (M_118 : MM) => Post M_118) n_117 M_102 (0 : Int32))
  else (∃ n_83, wl_X0_laysWeek_91 Rc a0 x1 x2 x3 x4
    (fun (M_84 : MM) => Post M_84) n_83 M_16 (0 : Int32)))
  else (Post M_16)))
def wb_X0_spreads_133 (Rc : KT) (M : MM) (a0 : Nat) (x1 : Int32) (x2 : Int32) (x3 : Int32) (x4 : Int32) (x5 : Int32) (x7 : Int32) (as0 : Nat) (xs1 : Int32) (xs2 : Int32) (xs3 : Int32) (R : MM → Int32 → Prop) (X144 : MM → Prop) : Prop :=
  Rc M as0 xs1 xs2 xs3 x4 (fun M_25 => ∀ x7_28, x7_28 = x7 + 1 → R M_25 x7_28)
def wb_X0_spreads_92 (Rc : KT) (M : MM) (a0 : Nat) (x1 : Int32) (x2 : Int32) (x3 : Int32) (x4 : Int32) (x5 : Int32) (x7 : Int32) (xs0 : Int32) (xs1 : Int32) (R : MM → Int32 → Prop) (X144 : MM → Prop) : Prop :=
  if xs1 < xs0 then (X144 M)
  else (∃ b_18, mgR M a0 29 = some b_18 ∧ mkd M b_18 = 100 ∧ vp_in x1 (mln M b_18) ∧ ∀ M_22, M_22 = msI M b_18 (ix_ x1) x7 → if x5 = 0 then (wb_X0_spreads_133 Rc M_22 a0 x1 x2 x3 x4 x5 x7 a0 (x1 + (1 : Int32)) (x2 - x7) x3 R X144)
  else (∃ b_30, mgR M_22 a0 28 = some b_30 ∧ mkd M_22 b_30 = 110 ∧ vp_in x1 (mln M_22 b_30) ∧ ∃ b_34, mgR M_22 b_30 (ix_ x1) = some b_34 ∧ mkd M_22 b_34 = 100 ∧ vp_in x7 (mln M_22 b_34) ∧ wb_X0_spreads_133 Rc M_22 a0 x1 x2 x3 x4 x5 x7 a0 (x1 + (1 : Int32)) (x2 - x7) (mn_ x3 (mgI M_22 b_34 (ix_ x7))) R X144))
def wl_X0_spreads_80 (Rc : KT) (a0 : Nat) (x1 : Int32) (x2 : Int32) (x3 : Int32) (x4 : Int32) (x5 : Int32) (X144 : MM → Prop) : Nat → MM → Int32 → Prop
  | 0, _, _ => False
  | n_ + 1, M, x7 =>
  if x5 = 0 then (wb_X0_spreads_92 Rc M a0 x1 x2 x3 x4 x5 x7 x7 (0 : Int32) (wl_X0_spreads_80 Rc a0 x1 x2 x3 x4 x5 X144 n_) X144)
  else (wb_X0_spreads_92 Rc M a0 x1 x2 x3 x4 x5 x7 x7 x2 (wl_X0_spreads_80 Rc a0 x1 x2 x3 x4 x5 X144 n_) X144)
def wl_X0_spreads_22 (Rc : KT) (a0 : Nat) (X48 : MM → Prop) : Nat → MM → Int32 → Prop
  | 0, _, _ => False
  | n_ + 1, M, x5 =>
  if (4 : Int32) ≤ x5 then (X48 M)
  else (∃ b_48, mgR M a0 30 = some b_48 ∧ mkd M b_48 = 100 ∧ ∃ b_51, mgR M a0 29 = some b_51 ∧ mkd M b_51 = 100 ∧ vp_in x5 (mln M b_51) ∧ vp_in x5 (mln M b_48) ∧ ∀ M_56, M_56 = msI M b_48 (ix_ x5) (mgI M b_51 (ix_ x5)) → ∀ x5_58, x5_58 = x5 + 1 → wl_X0_spreads_22 Rc a0 X48 n_ M_56 x5_58)
def wp_X0_spreads (Rc : KT) (M : MM) (a0 : Nat) (x1 : Int32) (x2 : Int32) (x3 : Int32) (x4 : Int32) (Post : MM → Prop) : Prop :=
  if x1 = (4 : Int32) then (if (mgI M a0 31) < x3 then (∀ M_45, M_45 = msI M a0 31 x3 → ∃ n_60, wl_X0_spreads_22 Rc a0
    (fun (M_61 : MM) => Post M_61) n_60 M_45 (0 : Int32))
  else (Post M))
  else (∃ b_2, mgR M a0 1 = some b_2 ∧ mkd M b_2 = 3 ∧ ∃ b_5, mgR M b_2 0 = some b_5 ∧ mkd M b_5 = 103 ∧ vp_in x1 (mln M b_5) ∧ ∃ b_9, mgR M b_5 (ix_ x1) = some b_9 ∧ mkd M b_9 = 4 ∧ wp_X4_lives M b_9 (fun r_13 M_12 => if x1 = x4 then (∃ n_41, wl_X0_spreads_80 Rc a0 x1 x2 x3 x4 r_13
    (fun (M_42 : MM) => Post M_42) n_41 M_12 x2)
  else (∃ n_38, wl_X0_spreads_80 Rc a0 x1 x2 x3 x4 r_13
    (fun (M_39 : MM) => Post M_39) n_38 M_12 (0 : Int32))))
def wpK : Nat → KT
  | 0 => fun _ _ _ _ _ _ _ => False
  | d + 1 => wp_X0_laysWeek (wpK d)

def wpP : Nat → KT
  | 0 => fun _ _ _ _ _ _ _ => False
  | d + 1 => wp_X0_spreads (wpP d)

def wp_X0_init (M : MM) (a0 : Nat) (Post : MM → Prop) : Prop :=
  ∀ b_3, b_3 = msz M → ∀ M_5, M_5 = mnw M 2 0 → wp_X2_init M_5 b_3 a0 (fun M_7 => ∀ M_10, M_10 = msR M_7 a0 0 (some b_3) → ∀ b_14, b_14 = msz M_10 → ∀ M_16, M_16 = mnw M_10 3 0 → wp_X3_init M_16 b_14 a0 (fun M_18 => ∀ M_21, M_21 = msR M_18 a0 1 (some b_14) → ∀ b_25, b_25 = msz M_21 → ∀ M_27, M_27 = mnw M_21 3 0 → wp_X3_init M_27 b_25 a0 (fun M_29 => ∀ M_32, M_32 = msR M_29 a0 2 (some b_25) → ∀ b_36, b_36 = msz M_32 → ∀ M_38, M_38 = mnw M_32 3 0 → wp_X3_init M_38 b_36 a0 (fun M_40 => ∀ M_43, M_43 = msR M_40 a0 3 (some b_36) → ∀ b_47, b_47 = msz M_43 → ∀ M_49, M_49 = mnw M_43 102 220 → ∀ M_51, M_51 = msR M_49 a0 4 (some b_47) → ∀ b_55, b_55 = msz M_51 → ∀ M_57, M_57 = mnw M_51 105 4 → ∀ M_59, M_59 = msR M_57 a0 5 (some b_55) → ∀ b_63, b_63 = msz M_59 → ∀ M_65, M_65 = mnw M_59 6 0 → wp_X6_init M_65 b_63 (fun M_67 => ∀ M_70, M_70 = msR M_67 a0 6 (some b_63) → ∀ b_74, b_74 = msz M_70 → ∀ M_76, M_76 = mmu M_70 109 25 101 20 → ∀ M_78, M_78 = msR M_76 a0 9 (some b_74) → ∀ b_82, b_82 = msz M_78 → ∀ M_84, M_84 = mmu M_78 109 25 101 20 → ∀ M_86, M_86 = msR M_84 a0 10 (some b_82) → ∀ b_90, b_90 = msz M_86 → ∀ M_92, M_92 = mnw M_86 100 3 → ∀ M_94, M_94 = msR M_92 a0 11 (some b_90) → ∀ b_98, b_98 = msz M_94 → ∀ M_100, M_100 = mnw M_94 100 3 → ∀ M_102, M_102 = msR M_100 a0 12 (some b_98) → ∀ b_106, b_106 = msz M_102 → ∀ M_108, M_108 = mnw M_102 100 7 → ∀ M_110, M_110 = msR M_108 a0 23 (some b_106) → ∀ b_114, b_114 = msz M_110 → ∀ M_116, M_116 = mnw M_110 100 7 → ∀ M_118, M_118 = msR M_116 a0 24 (some b_114) → ∀ b_122, b_122 = msz M_118 → ∀ M_124, M_124 = mnw M_118 108 8 → ∀ b_128, b_128 = msz M_124 → ∀ M_130, M_130 = mnw M_124 3 0 → wp_X3_init M_130 b_128 a0 (fun M_132 => 0 < mln M_132 b_122 ∧ ∀ M_136, M_136 = msR M_132 b_122 0 (some b_128) → ∀ b_140, b_140 = msz M_136 → ∀ M_142, M_142 = mnw M_136 3 0 → wp_X3_init M_142 b_140 a0 (fun M_144 => 1 < mln M_144 b_122 ∧ ∀ M_148, M_148 = msR M_144 b_122 1 (some b_140) → ∀ b_152, b_152 = msz M_148 → ∀ M_154, M_154 = mnw M_148 3 0 → wp_X3_init M_154 b_152 a0 (fun M_156 => 2 < mln M_156 b_122 ∧ ∀ M_160, M_160 = msR M_156 b_122 2 (some b_152) → ∀ b_164, b_164 = msz M_160 → ∀ M_166, M_166 = mnw M_160 3 0 → wp_X3_init M_166 b_164 a0 (fun M_168 => 3 < mln M_168 b_122 ∧ ∀ M_172, M_172 = msR M_168 b_122 3 (some b_164) → ∀ b_176, b_176 = msz M_172 → ∀ M_178, M_178 = mnw M_172 3 0 → wp_X3_init M_178 b_176 a0 (fun M_180 => 4 < mln M_180 b_122 ∧ ∀ M_184, M_184 = msR M_180 b_122 4 (some b_176) → ∀ b_188, b_188 = msz M_184 → ∀ M_190, M_190 = mnw M_184 3 0 → wp_X3_init M_190 b_188 a0 (fun M_192 => 5 < mln M_192 b_122 ∧ ∀ M_196, M_196 = msR M_192 b_122 5 (some b_188) → ∀ b_200, b_200 = msz M_196 → ∀ M_202, M_202 = mnw M_196 3 0 → wp_X3_init M_202 b_200 a0 (fun M_204 => 6 < mln M_204 b_122 ∧ ∀ M_208, M_208 = msR M_204 b_122 6 (some b_200) → ∀ b_212, b_212 = msz M_208 → ∀ M_214, M_214 = mnw M_208 3 0 → wp_X3_init M_214 b_212 a0 (fun M_216 => 7 < mln M_216 b_122 ∧ ∀ M_220, M_220 = msR M_216 b_122 7 (some b_212) → ∀ M_222, M_222 = msR M_220 a0 27 (some b_122) → ∀ b_226, b_226 = msz M_222 → ∀ M_228, M_228 = mmu M_222 110 4 100 25 → ∀ M_230, M_230 = msR M_228 a0 28 (some b_226) → ∀ b_234, b_234 = msz M_230 → ∀ M_236, M_236 = mnw M_230 100 4 → ∀ M_238, M_238 = msR M_236 a0 29 (some b_234) → ∀ b_242, b_242 = msz M_238 → ∀ M_244, M_244 = mnw M_238 100 4 → ∀ M_246, M_246 = msR M_244 a0 30 (some b_242) → ∀ b_250, b_250 = msz M_246 → ∀ M_252, M_252 = mnw M_246 101 13 → ∀ M_254, M_254 = msR M_252 a0 32 (some b_250) → ∃ b_256, mgR M_254 a0 1 = some b_256 ∧ mkd M_254 b_256 = 3 ∧ ∀ M_259, M_259 = msI M_254 b_256 3 (1 : Int32) → Post M_259)))))))))))))
def wl_X0_plant_109 (x3 : Int32) (a5 : Nat) (X131 : MM → Prop) : Nat → MM → Int32 → Prop
  | 0, _, _ => False
  | n_ + 1, M, x6 =>
  if (7 : Int32) ≤ x6 then (X131 M)
  else (∃ b_46, mgR M a5 0 = some b_46 ∧ mkd M b_46 = 100 ∧ vp_in x6 (mln M b_46) ∧ ∀ M_50, M_50 = msI M b_46 (ix_ x6) x3 → ∀ x6_52, x6_52 = x6 + 1 → wl_X0_plant_109 x3 a5 X131 n_ M_50 x6_52)
def wp_X0_plant (M : MM) (a0 : Nat) (x1 : Int32) (x2 : Int32) (x3 : Int32) (x4 : Int32) (Post : Int32 → MM → Prop) : Prop :=
  wp_X0_in M x1 (4 : Int32) (fun r_2 M_1 => if r_2 = 0 then (Post (0 : Int32) M_1)
  else (wp_X0_within M_1 x2 (4 : Int32) (24 : Int32) (fun r_6 M_5 => if r_6 = 0 then (Post (0 : Int32) M_5)
  else (wp_X0_within M_5 x3 (0 : Int32) x2 (fun r_10 M_9 => if r_10 = 0 then (Post (0 : Int32) M_9)
  else (wp_X0_within M_9 x4 (1 : Int32) (9 : Int32) (fun r_14 M_13 => if r_14 = 0 then (Post (0 : Int32) M_13)
  else (∃ b_17, mgR M_13 a0 1 = some b_17 ∧ mkd M_13 b_17 = 3 ∧ ∃ b_20, mgR M_13 b_17 0 = some b_20 ∧ mkd M_13 b_20 = 103 ∧ vp_in x1 (mln M_13 b_20) ∧ ∃ b_24, mgR M_13 b_20 (ix_ x1) = some b_24 ∧ mkd M_13 b_24 = 4 ∧ ∀ M_27, M_27 = msI M_13 b_24 8 (1 : Int32) → ∀ M_29, M_29 = msI M_27 b_24 9 (0 : Int32) → ∀ M_31, M_31 = msI M_29 b_24 7 (-1 : Int32) → ∀ M_33, M_33 = msI M_31 b_24 1 x2 → ∀ M_35, M_35 = msI M_33 b_24 2 x3 → ∀ M_37, M_37 = msI M_35 b_24 3 x4 → ∀ M_39, M_39 = msI M_37 b_24 4 (0 : Int32) → ∀ M_41, M_41 = msI M_39 b_24 5 (0 : Int32) → ∀ M_43, M_43 = msI M_41 b_24 6 (0 : Int32) → ∃ n_54, wl_X0_plant_109 x3 b_24
    (fun (M_55 : MM) => Post (1 : Int32) M_55) n_54 M_43 (0 : Int32)))))))))
def wp_X0_person (M : MM) (a0 : Nat) (x1 : Int32) (x2 : Int32) (x3 : Int32) (Post : Int32 → MM → Prop) : Prop :=
  wp_X0_in M x1 (8 : Int32) (fun r_2 M_1 => if r_2 = 0 then (Post (0 : Int32) M_1)
  else (wp_X0_within M_1 x2 (0 : Int32) (10 : Int32) (fun r_6 M_5 => if r_6 = 0 then (Post (0 : Int32) M_5)
  else (wp_X0_in M_5 x3 (4 : Int32) (fun r_10 M_9 => if r_10 = 0 then (Post (0 : Int32) M_9)
  else (∃ b_13, mgR M_9 a0 1 = some b_13 ∧ mkd M_9 b_13 = 3 ∧ ∃ b_16, mgR M_9 b_13 1 = some b_16 ∧ mkd M_9 b_16 = 104 ∧ vp_in x1 (mln M_9 b_16) ∧ ∃ b_20, mgR M_9 b_16 (ix_ x1) = some b_20 ∧ mkd M_9 b_20 = 5 ∧ ∀ M_23, M_23 = msI M_9 b_20 3 (1 : Int32) → ∀ M_25, M_25 = msI M_23 b_20 0 x2 → ∀ M_27, M_27 = msI M_25 b_20 1 x3 → ∀ M_29, M_29 = msI M_27 b_20 2 (0 : Int32) → Post (1 : Int32) M_29))))))
def wp_X0_card (M : MM) (a0 : Nat) (x1 : Int32) (x2 : Int32) (Post : Int32 → MM → Prop) : Prop :=
  wp_X0_isPlant M a0 x1 (fun r_2 M_1 => if r_2 = 0 then (Post (0 : Int32) M_1)
  else (∃ b_5, mgR M_1 a0 1 = some b_5 ∧ mkd M_1 b_5 = 3 ∧ ∃ b_8, mgR M_1 b_5 0 = some b_8 ∧ mkd M_1 b_8 = 103 ∧ vp_in x1 (mln M_1 b_8) ∧ ∃ b_12, mgR M_1 b_8 (ix_ x1) = some b_12 ∧ mkd M_1 b_12 = 4 ∧ if (mgI M_1 b_12 9) = x2 then (Post (0 : Int32) M_1)
  else (∃ b_16, mgR M_1 a0 1 = some b_16 ∧ mkd M_1 b_16 = 3 ∧ ∃ b_19, mgR M_1 b_16 0 = some b_19 ∧ mkd M_1 b_19 = 103 ∧ vp_in x1 (mln M_1 b_19) ∧ ∃ b_23, mgR M_1 b_19 (ix_ x1) = some b_23 ∧ mkd M_1 b_23 = 4 ∧ isB_ x2 ∧ ∀ M_27, M_27 = msI M_1 b_23 9 x2 → ∃ b_29, mgR M_27 a0 1 = some b_29 ∧ mkd M_27 b_29 = 3 ∧ ∃ b_32, mgR M_27 b_29 0 = some b_32 ∧ mkd M_27 b_32 = 103 ∧ vp_in x1 (mln M_27 b_32) ∧ ∃ b_36, mgR M_27 b_32 (ix_ x1) = some b_36 ∧ mkd M_27 b_36 = 4 ∧ ∀ M_39, M_39 = msI M_27 b_36 7 (-1 : Int32) → Post (1 : Int32) M_39)))
def wp_X0_pour (M : MM) (a0 : Nat) (x1 : Int32) (x2 : Int32) (Post : Int32 → MM → Prop) : Prop :=
  wp_X0_isPlant M a0 x1 (fun r_2 M_1 => if r_2 = 0 then (Post (-1 : Int32) M_1)
  else (∃ b_5, mgR M_1 a0 1 = some b_5 ∧ mkd M_1 b_5 = 3 ∧ ∃ b_8, mgR M_1 b_5 0 = some b_8 ∧ mkd M_1 b_8 = 103 ∧ vp_in x1 (mln M_1 b_8) ∧ ∃ b_12, mgR M_1 b_8 (ix_ x1) = some b_12 ∧ mkd M_1 b_12 = 4 ∧ wp_X4_isDead M_1 b_12 (fun r_16 M_15 => if r_16 = 0 then (wp_X0_within M_15 x2 (0 : Int32) (24 : Int32) (fun r_20 M_19 => if r_20 = 0 then (Post (-1 : Int32) M_19)
  else (∃ b_23, mgR M_19 a0 1 = some b_23 ∧ mkd M_19 b_23 = 3 ∧ ∃ b_26, mgR M_19 b_23 0 = some b_26 ∧ mkd M_19 b_26 = 103 ∧ vp_in x1 (mln M_19 b_26) ∧ ∃ b_30, mgR M_19 b_26 (ix_ x1) = some b_30 ∧ mkd M_19 b_30 = 4 ∧ wp_X4_gets M_19 b_30 x2 (fun r_34 M_33 => ∃ b_36, mgR M_33 a0 1 = some b_36 ∧ mkd M_33 b_36 = 3 ∧ ∃ b_39, mgR M_33 b_36 0 = some b_39 ∧ mkd M_33 b_39 = 103 ∧ vp_in x1 (mln M_33 b_39) ∧ ∃ b_43, mgR M_33 b_39 (ix_ x1) = some b_43 ∧ mkd M_33 b_43 = 4 ∧ Post (mgI M_33 b_43 2) M_33))))
  else (Post (-1 : Int32) M_15))))
def wl_X0_push_3 (a0 : Nat) (x1 : Int32) (X36 : MM → Prop) : Nat → MM → Int32 → Prop
  | 0, _, _ => False
  | n_ + 1, M, x2 =>
  if x2 < 0 then (X36 M)
  else (∃ b_2, mgR M a0 4 = some b_2 ∧ mkd M b_2 = 102 ∧ vp_in (mgI M a0 7) (mln M b_2) ∧ ∀ M_6, M_6 = msI M b_2 (ix_ (mgI M a0 7)) (((x1 >>> (x2 &&& 31)).toInt8.toInt32).toInt8.toInt32) → ∀ M_8, M_8 = msI M_6 a0 7 ((mgI M_6 a0 7) + (1 : Int32)) → ∀ x2_10, x2_10 = x2 + (-8) → wl_X0_push_3 a0 x1 X36 n_ M_8 x2_10)
def wp_X0_push (M : MM) (a0 : Nat) (x1 : Int32) (Post : MM → Prop) : Prop :=
  ∃ n_12, wl_X0_push_3 a0 x1
    (fun (M_13 : MM) => Post M_13) n_12 M (24 : Int32)
def wp_X0_feed (M : MM) (a0 : Nat) (x1 : Int32) (x2 : Int32) (x3 : Int32) (x4 : Int32) (x5 : Int32) (Post : Int32 → MM → Prop) : Prop :=
  if ((mgI M a0 7) + (20 : Int32)) ≤ (220 : Int32) then (wp_X0_push M a0 x1 (fun M_2 => wp_X0_push M_2 a0 x2 (fun M_5 => wp_X0_push M_5 a0 x3 (fun M_8 => wp_X0_push M_8 a0 x4 (fun M_11 => wp_X0_push M_11 a0 x5 (fun M_14 => Post (mgI M_14 a0 7) M_14))))))
  else (Post (-1 : Int32) M)
def wp_X0_law (D : DD) (bc bs : Nat) (M : MM) (a0 : Nat) (x1 : Int32) (Post : Int32 → MM → Prop) : Prop :=
  wp_X0_within M x1 (1 : Int32) (200 : Int32) (fun r_2 M_1 => if r_2 = 0 then (Post (-1 : Int32) M_1)
  else (if x1 ≤ (mgI M_1 a0 7) then (∀ M_6, M_6 = msI M_1 a0 7 (0 : Int32) → ∀ b_10, b_10 = msz M_6 → ∀ M_12, M_12 = mnw M_6 8 0 → (0 + 1 ≤ bc ∧ 0 + 8 ≤ bs) ∧ ((0 + 1) + 4 ≤ bc ∧ (0 + 8) + 46 ≤ bs) ∧ wp_X8_init M_12 b_10 a0 x1 (some (D.2.2.1 0)) (fun M_16 => ∃ c_19 s_20, (((0 + 1) + 4) + c_19 ≤ bc ∧ ((0 + 8) + 46) + s_20 ≤ bs) ∧ wp_X8_read D c_19 s_20 M_16 b_10 (fun r_23 M_22 => if r_23 < 0 then (Post r_23 M_22)
  else (∃ b_26, mgR M_22 b_10 2 = some b_26 ∧ mkd M_22 b_26 = 6 ∧ ∀ M_29, M_29 = msR M_22 a0 6 (some b_26) → Post r_23 M_29))))
  else (Post (-1 : Int32) M_1)))
def wp_X0_rule (D : DD) (bc bs : Nat) (M : MM) (a0 : Nat) (x1 : Int32) (x2 : Int32) (Post : Int32 → MM → Prop) : Prop :=
  wp_X0_in M x1 (4 : Int32) (fun r_2 M_1 => if r_2 = 0 then (Post (-1 : Int32) M_1)
  else (wp_X0_within M_1 x2 (1 : Int32) (200 : Int32) (fun r_6 M_5 => if r_6 = 0 then (Post (-1 : Int32) M_5)
  else (if x2 ≤ (mgI M_5 a0 7) then (∀ M_10, M_10 = msI M_5 a0 7 (0 : Int32) → ∀ b_14, b_14 = msz M_10 → ∀ M_16, M_16 = mnw M_10 8 0 → (0 + 1 ≤ bc ∧ 0 + 8 ≤ bs) ∧ ((0 + 1) + 4 ≤ bc ∧ (0 + 8) + 46 ≤ bs) ∧ wp_X8_init M_16 b_14 a0 x2 (some (D.2.2.1 1)) (fun M_20 => ∃ c_23 s_24, (((0 + 1) + 4) + c_23 ≤ bc ∧ ((0 + 8) + 46) + s_24 ≤ bs) ∧ wp_X8_read D c_23 s_24 M_20 b_14 (fun r_27 M_26 => if r_27 < 0 then (Post r_27 M_26)
  else (∃ b_30, mgR M_26 a0 5 = some b_30 ∧ mkd M_26 b_30 = 105 ∧ ∃ b_33, mgR M_26 b_14 2 = some b_33 ∧ mkd M_26 b_33 = 6 ∧ vp_in x1 (mln M_26 b_30) ∧ ∀ M_37, M_37 = msR M_26 b_30 (ix_ x1) (some b_33) → Post r_27 M_37))))
  else (Post (-1 : Int32) M_5)))))
def wp_X0_days (M : MM) (a0 : Nat) (x1 : Int32) (Post : Int32 → MM → Prop) : Prop :=
  wp_X0_within M x1 (1 : Int32) (60 : Int32) (fun r_2 M_1 => if r_2 = 0 then (Post (-1 : Int32) M_1)
  else (∃ b_5, mgR M_1 a0 1 = some b_5 ∧ mkd M_1 b_5 = 3 ∧ wp_X3_goes M_1 b_5 x1 (fun r_9 M_8 => ∃ b_11, r_9 = some b_11 ∧ mkd M_8 b_11 = 3 ∧ Post (mgI M_8 b_11 4) M_8)))
def wb_X0_tried_42 (M : MM) (a0 : Nat) (x1 : Int32) (x2 : Int32) (Post : Int32 → MM → Prop) : Prop :=
  ∃ b_9, mgR M a0 2 = some b_9 ∧ mkd M b_9 = 3 ∧ ∃ b_12, mgR M a0 1 = some b_12 ∧ mkd M b_12 = 3 ∧ wp_X3_takes M b_9 b_12 (fun r_16 M_15 => ∃ b_18, r_16 = some b_18 ∧ mkd M_15 b_18 = 3 ∧ wp_X3_goes M_15 b_18 x1 (fun r_22 M_21 => ∃ b_24, r_22 = some b_24 ∧ mkd M_21 b_24 = 3 ∧ if x2 = 0 then (∃ b_28, mgR M_21 a0 2 = some b_28 ∧ mkd M_21 b_28 = 3 ∧ Post (mgI M_21 b_28 4) M_21)
  else (if x2 = 1 then (∃ b_32, mgR M_21 a0 2 = some b_32 ∧ mkd M_21 b_32 = 3 ∧ Post (mgI M_21 b_32 5) M_21)
  else (if x2 = 2 then (∃ b_36, mgR M_21 a0 2 = some b_36 ∧ mkd M_21 b_36 = 3 ∧ wp_X3_dead M_21 b_36 (fun r_40 M_39 => wp_J6_bitCount M_39 r_40 (fun r_43 M_42 => Post r_43 M_42)))
  else (if x2 = 3 then (∃ b_46, mgR M_21 a0 2 = some b_46 ∧ mkd M_21 b_46 = 3 ∧ Post (mgI M_21 b_46 6) M_21)
  else (if (20 : Int32) ≤ x2 then (∃ b_50, mgR M_21 a0 2 = some b_50 ∧ mkd M_21 b_50 = 3 ∧ ∃ b_53, mgR M_21 b_50 1 = some b_53 ∧ mkd M_21 b_53 = 104 ∧ vp_in (x2 - (20 : Int32)) (mln M_21 b_53) ∧ ∃ b_57, mgR M_21 b_53 (ix_ (x2 - (20 : Int32))) = some b_57 ∧ mkd M_21 b_57 = 5 ∧ ∃ b_60, mgR M_21 a0 1 = some b_60 ∧ mkd M_21 b_60 = 3 ∧ ∃ b_63, mgR M_21 b_60 1 = some b_63 ∧ mkd M_21 b_63 = 104 ∧ vp_in (x2 - (20 : Int32)) (mln M_21 b_63) ∧ ∃ b_67, mgR M_21 b_63 (ix_ (x2 - (20 : Int32))) = some b_67 ∧ mkd M_21 b_67 = 5 ∧ Post ((mgI M_21 b_57 2) - (mgI M_21 b_67 2)) M_21)
  else (∃ b_70, mgR M_21 a0 2 = some b_70 ∧ mkd M_21 b_70 = 3 ∧ ∃ b_73, mgR M_21 b_70 0 = some b_73 ∧ mkd M_21 b_73 = 103 ∧ vp_in (x2 - (10 : Int32)) (mln M_21 b_73) ∧ ∃ b_77, mgR M_21 b_73 (ix_ (x2 - (10 : Int32))) = some b_77 ∧ mkd M_21 b_77 = 4 ∧ Post (mgI M_21 b_77 2) M_21)))))))
def wp_X0_tried (M : MM) (a0 : Nat) (x1 : Int32) (x2 : Int32) (Post : Int32 → MM → Prop) : Prop :=
  wp_X0_within M x1 (1 : Int32) (60 : Int32) (fun r_2 M_1 => if r_2 = 0 then (Post (-1 : Int32) M_1)
  else (wp_X0_in M_1 x2 (4 : Int32) (fun r_6 M_5 => if r_6 = 0 then (wp_X0_isPlant M_5 a0 (x2 - (10 : Int32)) (fun r_81 M_80 => if r_81 = 0 then (wp_X0_isPerson M_80 a0 (x2 - (20 : Int32)) (fun r_85 M_84 => if r_85 = 0 then (Post (-1 : Int32) M_84)
  else (wb_X0_tried_42 M_84 a0 x1 x2 Post)))
  else (wb_X0_tried_42 M_80 a0 x1 x2 Post)))
  else (wb_X0_tried_42 M_5 a0 x1 x2 Post))))
def wp_X0_plantIs (M : MM) (a0 : Nat) (x1 : Int32) (x2 : Int32) (Post : Int32 → MM → Prop) : Prop :=
  wp_X0_isPlant M a0 x1 (fun r_2 M_1 => if r_2 = 0 then (Post (-1 : Int32) M_1)
  else (∃ b_5, mgR M_1 a0 1 = some b_5 ∧ mkd M_1 b_5 = 3 ∧ ∃ b_8, mgR M_1 b_5 0 = some b_8 ∧ mkd M_1 b_8 = 103 ∧ vp_in x1 (mln M_1 b_8) ∧ ∃ b_12, mgR M_1 b_8 (ix_ x1) = some b_12 ∧ mkd M_1 b_12 = 4 ∧ wp_X0_in M_1 (x2 - (10 : Int32)) (7 : Int32) (fun r_16 M_15 => if r_16 = 0 then (if x2 = 0 then (Post (mgI M_15 b_12 1) M_15)
  else (if x2 = 1 then (Post (mgI M_15 b_12 2) M_15)
  else (if x2 = 2 then (Post (mgI M_15 b_12 3) M_15)
  else (if x2 = 3 then (Post (mgI M_15 b_12 4) M_15)
  else (if x2 = 4 then (Post (mgI M_15 b_12 5) M_15)
  else (if x2 = 5 then (wp_X4_isDead M_15 b_12 (fun r_26 M_25 => if r_26 = 0 then (Post (0 : Int32) M_25)
  else (Post (1 : Int32) M_25)))
  else (if x2 = 6 then (if (mgI M_15 b_12 9) = 0 then (Post (-2 : Int32) M_15)
  else (if (mgI M_15 b_12 7) = (-1 : Int32) then (Post (-3 : Int32) M_15)
  else (Post (mgI M_15 b_12 7) M_15)))
  else (Post (-1 : Int32) M_15))))))))
  else (wp_X4_looked M_15 b_12 (x2 - (10 : Int32)) (fun r_33 M_32 => Post r_33 M_32)))))
def wp_X0_gives (M : MM) (a0 : Nat) (x1 : Int32) (x2 : Int32) (Post : Int32 → MM → Prop) : Prop :=
  wp_X0_isPerson M a0 x1 (fun r_2 M_1 => if r_2 = 0 then (Post (-1 : Int32) M_1)
  else (wp_X0_isPlant M_1 a0 x2 (fun r_6 M_5 => if r_6 = 0 then (Post (-1 : Int32) M_5)
  else (∃ b_9, mgR M_5 a0 1 = some b_9 ∧ mkd M_5 b_9 = 3 ∧ wp_X3_givesTo M_5 b_9 x1 x2 (fun r_13 M_12 => Post r_13 M_12)))))
def wl_X0_takesPeople_7 (a0 : Nat) (x1 : Int32) (X79 : MM → Prop) : Nat → MM → Int32 → Prop
  | 0, _, _ => False
  | n_ + 1, M, x2 =>
  if (8 : Int32) ≤ x2 then (X79 M)
  else (if x1 ≤ (mgI M a0 13) then (X79 M)
  else (wp_X0_isPerson M a0 x2 (fun r_6 M_5 => if r_6 = 0 then (∀ x2_35, x2_35 = x2 + 1 → wl_X0_takesPeople_7 a0 x1 X79 n_ M_5 x2_35)
  else (∃ b_9, mgR M_5 a0 11 = some b_9 ∧ mkd M_5 b_9 = 100 ∧ vp_in (mgI M_5 a0 13) (mln M_5 b_9) ∧ ∀ M_13, M_13 = msI M_5 b_9 (ix_ (mgI M_5 a0 13)) x2 → ∃ b_15, mgR M_13 a0 12 = some b_15 ∧ mkd M_13 b_15 = 100 ∧ ∃ b_18, mgR M_13 a0 1 = some b_18 ∧ mkd M_13 b_18 = 3 ∧ ∃ b_21, mgR M_13 b_18 1 = some b_21 ∧ mkd M_13 b_21 = 104 ∧ vp_in x2 (mln M_13 b_21) ∧ ∃ b_25, mgR M_13 b_21 (ix_ x2) = some b_25 ∧ mkd M_13 b_25 = 5 ∧ vp_in (mgI M_13 a0 13) (mln M_13 b_15) ∧ ∀ M_29, M_29 = msI M_13 b_15 (ix_ (mgI M_13 a0 13)) (mgI M_13 b_25 0) → ∀ M_31, M_31 = msI M_29 a0 13 ((mgI M_29 a0 13) + (1 : Int32)) → ∀ x2_33, x2_33 = x2 + 1 → wl_X0_takesPeople_7 a0 x1 X79 n_ M_31 x2_33))))
def wb_X0_takesPeople_79 (M : MM) (a0 : Nat) (x1 : Int32) (Post : Int32 → MM → Prop) : Prop :=
  if (mgI M a0 13) = x1 then (Post (1 : Int32) M)
  else (Post (0 : Int32) M)
def wp_X0_takesPeople (M : MM) (a0 : Nat) (x1 : Int32) (Post : Int32 → MM → Prop) : Prop :=
  ∀ M_1, M_1 = msI M a0 13 (0 : Int32) → ∃ n_37, wl_X0_takesPeople_7 a0 x1
    (fun (M_38 : MM) => wb_X0_takesPeople_79 M_38 a0 x1 Post) n_37 M_1 (0 : Int32)
def wp_X0_canLay (M : MM) (a0 : Nat) (x1 : Int32) (x2 : Int32) (x3 : Int32) (Post : Int32 → MM → Prop) : Prop :=
  wp_X0_isPlant M a0 x1 (fun r_2 M_1 => if r_2 = 0 then (Post (0 : Int32) M_1)
  else (∃ b_5, mgR M_1 a0 1 = some b_5 ∧ mkd M_1 b_5 = 3 ∧ ∃ b_8, mgR M_1 b_5 0 = some b_8 ∧ mkd M_1 b_8 = 103 ∧ vp_in x1 (mln M_1 b_8) ∧ ∃ b_12, mgR M_1 b_8 (ix_ x1) = some b_12 ∧ mkd M_1 b_12 = 4 ∧ wp_X4_isDead M_1 b_12 (fun r_16 M_15 => if r_16 = 0 then (wp_X0_within M_15 x2 (1 : Int32) (9 : Int32) (fun r_20 M_19 => if r_20 = 0 then (Post (0 : Int32) M_19)
  else (wp_X0_within M_19 x3 (1 : Int32) (3 : Int32) (fun r_24 M_23 => if r_24 = 0 then (Post (0 : Int32) M_23)
  else (if (18 : Int32) < (x2 * (x3 + (1 : Int32))) then (Post (0 : Int32) M_23)
  else (wp_X0_takesPeople M_23 a0 x3 (fun r_29 M_28 => if r_29 = 0 then (Post (0 : Int32) M_28)
  else (Post (1 : Int32) M_28))))))))
  else (Post (0 : Int32) M_15))))
def wl_X0_clears_10 (a1 : Nat) (x2 : Int32) (X28 : MM → Prop) : Nat → MM → Int32 → Prop
  | 0, _, _ => False
  | n_ + 1, M, x3 =>
  if (20 : Int32) ≤ x3 then (X28 M)
  else (vp_in x2 (mln M a1) ∧ ∃ b_4, mgR M a1 (ix_ x2) = some b_4 ∧ mkd M b_4 = 101 ∧ vp_in x3 (mln M b_4) ∧ ∀ M_8, M_8 = msL M b_4 (ix_ x3) (0 : Int64) → ∀ x3_10, x3_10 = x3 + 1 → wl_X0_clears_10 a1 x2 X28 n_ M_8 x3_10)
def wl_X0_clears_2 (a1 : Nat) (X34 : MM → Prop) : Nat → MM → Int32 → Prop
  | 0, _, _ => False
  | n_ + 1, M, x2 =>
  if (24 : Int32) < x2 then (X34 M)
  else (∃ n_12, wl_X0_clears_10 a1 x2
    (fun (M_13 : MM) => ∀ x2_15, x2_15 = x2 + 1 → wl_X0_clears_2 a1 X34 n_ M_13 x2_15) n_12 M (0 : Int32))
def wp_X0_clears (M : MM) (a0 : Nat) (a1 : Nat) (Post : MM → Prop) : Prop :=
  ∃ n_17, wl_X0_clears_2 a1
    (fun (M_18 : MM) => Post M_18) n_17 M (0 : Int32)
def wl_X0_takesComes_10 (a0 : Nat) (x1 : Int32) (X38 : MM → Prop) : Nat → MM → Int32 → Prop
  | 0, _, _ => False
  | n_ + 1, M, x2 =>
  if (20 : Int32) ≤ x2 then (X38 M)
  else (∃ b_3, mgR M a0 9 = some b_3 ∧ mkd M b_3 = 109 ∧ vp_in x1 (mln M b_3) ∧ ∃ b_7, mgR M b_3 (ix_ x1) = some b_7 ∧ mkd M b_7 = 101 ∧ ∃ b_10, mgR M a0 10 = some b_10 ∧ mkd M b_10 = 109 ∧ vp_in x1 (mln M b_10) ∧ ∃ b_14, mgR M b_10 (ix_ x1) = some b_14 ∧ mkd M b_14 = 101 ∧ vp_in x2 (mln M b_14) ∧ vp_in x2 (mln M b_7) ∧ ∀ M_19, M_19 = msL M b_7 (ix_ x2) (mgL M b_14 (ix_ x2)) → ∀ x2_21, x2_21 = x2 + 1 → wl_X0_takesComes_10 a0 x1 X38 n_ M_19 x2_21)
def wl_X0_takesComes_2 (a0 : Nat) (X44 : MM → Prop) : Nat → MM → Int32 → Prop
  | 0, _, _ => False
  | n_ + 1, M, x1 =>
  if (24 : Int32) < x1 then (X44 M)
  else (∃ n_23, wl_X0_takesComes_10 a0 x1
    (fun (M_24 : MM) => ∀ x1_26, x1_26 = x1 + 1 → wl_X0_takesComes_2 a0 X44 n_ M_24 x1_26) n_23 M (0 : Int32))
def wp_X0_takesComes (M : MM) (a0 : Nat) (Post : MM → Prop) : Prop :=
  ∃ n_28, wl_X0_takesComes_2 a0
    (fun (M_29 : MM) => Post M_29) n_28 M (0 : Int32)
def wp_X0_thenAt (M : MM) (a0 : Nat) (x1 : Int32) (x2 : Int32) (Post : Option Nat → MM → Prop) : Prop :=
  ∃ b_1, mgR M a0 0 = some b_1 ∧ mkd M b_1 = 2 ∧ wp_X2_of M b_1 (mgI M a0 18) (mgI M a0 19) (fun r_5 M_4 => ∃ b_7, r_5 = some b_7 ∧ mkd M_4 b_7 = 2 ∧ wp_X0_dryOf M_4 x2 (fun r_11 M_10 => wp_X0_drownedOf M_10 x2 (fun r_14 M_13 => wp_X2_ofPlant M_13 b_7 (mgI M_4 a0 14) (mgI M_4 a0 15) x1 (mgI M_4 a0 17) r_11 r_14 (99 : Int32) (fun r_17 M_16 => ∃ b_19, r_17 = some b_19 ∧ mkd M_16 b_19 = 2 ∧ Post (some b_19) M_16))))
def wb_X0_personComes_114 (M : MM) (a0 : Nat) (x1 : Int32) (x2 : Int32) (x3 : Int32) (x4 : Int32) (xs0 : Int32) (R : MM → Int32 → Prop) (X193 : MM → Prop) : Prop :=
  ∃ b_58, mgR M a0 10 = some b_58 ∧ mkd M b_58 = 109 ∧ vp_in (mn_ (mgI M a0 15) (x3 + xs0)) (mln M b_58) ∧ ∃ b_62, mgR M b_58 (ix_ (mn_ (mgI M a0 15) (x3 + xs0))) = some b_62 ∧ mkd M b_62 = 101 ∧ vp_in x4 (mln M b_62) ∧ ∃ b_66, mgR M a0 9 = some b_66 ∧ mkd M b_66 = 109 ∧ vp_in x3 (mln M b_66) ∧ ∃ b_70, mgR M b_66 (ix_ x3) = some b_70 ∧ mkd M b_70 = 101 ∧ vp_in x4 (mln M b_70) ∧ ∃ b_74, mgR M a0 12 = some b_74 ∧ mkd M b_74 = 100 ∧ vp_in x1 (mln M b_74) ∧ vp_in x4 (mln M b_62) ∧ ∀ M_79, M_79 = msL M b_62 (ix_ x4) ((mgL M b_62 (ix_ x4)) + ((mgL M b_70 (ix_ x4)) * ((mgI M b_74 (ix_ x1)).toInt64))) → ∃ b_81, mgR M_79 a0 10 = some b_81 ∧ mkd M_79 b_81 = 109 ∧ vp_in x3 (mln M_79 b_81) ∧ ∃ b_85, mgR M_79 b_81 (ix_ x3) = some b_85 ∧ mkd M_79 b_85 = 101 ∧ vp_in x4 (mln M_79 b_85) ∧ ∃ b_89, mgR M_79 a0 9 = some b_89 ∧ mkd M_79 b_89 = 109 ∧ vp_in x3 (mln M_79 b_89) ∧ ∃ b_93, mgR M_79 b_89 (ix_ x3) = some b_93 ∧ mkd M_79 b_93 = 101 ∧ vp_in x4 (mln M_79 b_93) ∧ ∃ b_97, mgR M_79 a0 12 = some b_97 ∧ mkd M_79 b_97 = 100 ∧ vp_in x1 (mln M_79 b_97) ∧ vp_in x4 (mln M_79 b_85) ∧ ∀ M_102, M_102 = msL M_79 b_85 (ix_ x4) ((mgL M_79 b_85 (ix_ x4)) + ((mgL M_79 b_93 (ix_ x4)) * (((10 : Int32) - (mgI M_79 b_97 (ix_ x1))).toInt64))) → ∀ x4_104, x4_104 = x4 + 1 → R M_102 x4_104
def wl_X0_personComes_37 (a0 : Nat) (x1 : Int32) (x2 : Int32) (x3 : Int32) (X193 : MM → Prop) : Nat → MM → Int32 → Prop
  | 0, _, _ => False
  | n_ + 1, M, x4 =>
  if (20 : Int32) ≤ x4 then (X193 M)
  else (∃ b_25, mgR M a0 9 = some b_25 ∧ mkd M b_25 = 109 ∧ vp_in x3 (mln M b_25) ∧ ∃ b_29, mgR M b_25 (ix_ x3) = some b_29 ∧ mkd M b_29 = 101 ∧ vp_in x4 (mln M b_29) ∧ if (mgL M b_29 (ix_ x4)) = (0 : Int64) then (∀ x4_107, x4_107 = x4 + 1 → wl_X0_personComes_37 a0 x1 x2 x3 X193 n_ M x4_107)
  else (if (mgI M a0 21) ≤ 0 then (wp_X0_thenAt M a0 x3 x4 (fun r_36 M_35 => ∃ b_38, r_36 = some b_38 ∧ mkd M_35 b_38 = 2 ∧ ∃ b_41, mgR M_35 a0 11 = some b_41 ∧ mkd M_35 b_41 = 100 ∧ vp_in x1 (mln M_35 b_41) ∧ ∃ b_45, mgR M_35 a0 12 = some b_45 ∧ mkd M_35 b_45 = 100 ∧ vp_in x1 (mln M_35 b_45) ∧ wp_X2_by M_35 b_38 (mgI M_35 b_41 (ix_ x1)) (mgI M_35 b_45 (ix_ x1)) (0 : Int32) (fun r_50 M_49 => ∃ b_52, r_50 = some b_52 ∧ mkd M_49 b_52 = 2 ∧ wp_X2_givesBy M_49 b_52 x2 (fun r_56 M_55 => wb_X0_personComes_114 M_55 a0 x1 x2 x3 x4 r_56 (wl_X0_personComes_37 a0 x1 x2 x3 X193 n_) X193))))
  else (if (mgI M a0 22) ≤ x3 then (wb_X0_personComes_114 M a0 x1 x2 x3 x4 (0 : Int32) (wl_X0_personComes_37 a0 x1 x2 x3 X193 n_) X193)
  else (wb_X0_personComes_114 M a0 x1 x2 x3 x4 (mgI M a0 21) (wl_X0_personComes_37 a0 x1 x2 x3 X193 n_) X193))))
def wl_X0_personComes_28 (a0 : Nat) (x1 : Int32) (x2 : Int32) (X199 : MM → Prop) : Nat → MM → Int32 → Prop
  | 0, _, _ => False
  | n_ + 1, M, x3 =>
  if (24 : Int32) < x3 then (X199 M)
  else (∃ n_109, wl_X0_personComes_37 a0 x1 x2 x3
    (fun (M_110 : MM) => ∀ x3_112, x3_112 = x3 + 1 → wl_X0_personComes_28 a0 x1 x2 X199 n_ M_110 x3_112) n_109 M (0 : Int32))
def wp_X0_personComes (M : MM) (a0 : Nat) (x1 : Int32) (Post : MM → Prop) : Prop :=
  ∃ b_1, mgR M a0 10 = some b_1 ∧ mkd M b_1 = 109 ∧ wp_X0_clears M a0 b_1 (fun M_4 => ∃ b_7, mgR M_4 a0 1 = some b_7 ∧ mkd M_4 b_7 = 3 ∧ ∃ b_10, mgR M_4 b_7 1 = some b_10 ∧ mkd M_4 b_10 = 104 ∧ ∃ b_13, mgR M_4 a0 11 = some b_13 ∧ mkd M_4 b_13 = 100 ∧ vp_in x1 (mln M_4 b_13) ∧ vp_in (mgI M_4 b_13 (ix_ x1)) (mln M_4 b_10) ∧ ∃ b_18, mgR M_4 b_10 (ix_ (mgI M_4 b_13 (ix_ x1))) = some b_18 ∧ mkd M_4 b_18 = 5 ∧ ∀ x2_21, x2_21 = mgI M_4 b_18 1 → ∃ n_114, wl_X0_personComes_28 a0 x1 x2_21
    (fun (M_115 : MM) => wp_X0_takesComes M_115 a0 (fun M_117 => Post M_117)) n_114 M_4 (0 : Int32))
def wb_X0_endsBy_65 (M : MM) (a0 : Nat) (x4 : Int64) (Post : MM → Prop) : Prop :=
  ∀ M_6, M_6 = msL M a0 20 ((mgL M a0 20) + x4) → Post M_6
def wb_X0_endsBy_101 (M : MM) (x4 : Int64) (as0 : Nat) (xs1 : Int32) (Post : MM → Prop) : Prop :=
  vp_in xs1 (mln M as0) ∧ vp_in xs1 (mln M as0) ∧ ∀ M_19, M_19 = msL M as0 (ix_ xs1) ((mgL M as0 (ix_ xs1)) + x4) → Post M_19
def wb_X0_endsBy_45 (M : MM) (a0 : Nat) (x4 : Int64) (x6 : Int32) (x7 : Int32) (xs0 : Int32) (Post : MM → Prop) : Prop :=
  if (mgI M a0 16) ≤ x7 then (wb_X0_endsBy_65 M a0 x4 Post)
  else (if xs0 < (mgI M a0 16) then (∃ b_9, mgR M a0 10 = some b_9 ∧ mkd M b_9 = 109 ∧ vp_in x6 (mln M b_9) ∧ ∃ b_13, mgR M b_9 (ix_ x6) = some b_13 ∧ mkd M b_13 = 101 ∧ if xs0 ≤ 0 then (wb_X0_endsBy_101 M x4 b_13 x7 Post)
  else (wb_X0_endsBy_101 M x4 b_13 ((10 : Int32) + xs0) Post))
  else (wb_X0_endsBy_65 M a0 x4 Post))
def wb_X0_endsBy_24 (M : MM) (a0 : Nat) (x2 : Int32) (x4 : Int64) (x6 : Int32) (xs0 : Int32) (Post : MM → Prop) : Prop :=
  if x6 = (mgI M a0 15) then (wp_X0_drownedOf M x2 (fun r_22 M_21 => wb_X0_endsBy_45 M_21 a0 x4 x6 xs0 (r_22 + (1 : Int32)) Post))
  else (wb_X0_endsBy_45 M a0 x4 x6 xs0 (0 : Int32) Post)
def wp_X0_endsBy (M : MM) (a0 : Nat) (x1 : Int32) (x2 : Int32) (x3 : Int32) (x4 : Int64) (Post : MM → Prop) : Prop :=
  ∀ x6_1, x6_1 = mx_ (0 : Int32) (x1 - x3) → if x6_1 = 0 then (wp_X0_dryOf M x2 (fun r_25 M_24 => wb_X0_endsBy_24 M_24 a0 x2 x4 x6_1 (r_25 + (1 : Int32)) Post))
  else (wb_X0_endsBy_24 M a0 x2 x4 x6_1 (0 : Int32) Post)
def wl_X0_sunComes_18 (a0 : Nat) (x1 : Int32) (X116 : MM → Prop) : Nat → MM → Int32 → Prop
  | 0, _, _ => False
  | n_ + 1, M, x2 =>
  if (20 : Int32) ≤ x2 then (X116 M)
  else (∃ b_9, mgR M a0 9 = some b_9 ∧ mkd M b_9 = 109 ∧ vp_in x1 (mln M b_9) ∧ ∃ b_13, mgR M b_9 (ix_ x1) = some b_13 ∧ mkd M b_13 = 101 ∧ vp_in x2 (mln M b_13) ∧ if (mgL M b_13 (ix_ x2)) = (0 : Int64) then (∀ x2_60, x2_60 = x2 + 1 → wl_X0_sunComes_18 a0 x1 X116 n_ M x2_60)
  else (wp_X0_thenAt M a0 x1 x2 (fun r_19 M_18 => ∃ b_21, r_19 = some b_21 ∧ mkd M_18 b_21 = 2 ∧ wp_X2_tells M_18 b_21 (101 : Int32) (9 : Int32) (fun r_25 M_24 => wp_X0_thenAt M_24 a0 x1 x2 (fun r_28 M_27 => ∃ b_30, r_28 = some b_30 ∧ mkd M_27 b_30 = 2 ∧ wp_X2_tells M_27 b_30 (104 : Int32) (9 : Int32) (fun r_34 M_33 => ∃ b_36, mgR M_33 a0 9 = some b_36 ∧ mkd M_33 b_36 = 109 ∧ vp_in x1 (mln M_33 b_36) ∧ ∃ b_40, mgR M_33 b_36 (ix_ x1) = some b_40 ∧ mkd M_33 b_40 = 101 ∧ vp_in x2 (mln M_33 b_40) ∧ wp_X0_endsBy M_33 a0 x1 x2 (r_25 + r_34) ((mgL M_33 b_40 (ix_ x2)) * (5 : Int64)) (fun M_44 => ∃ b_47, mgR M_44 a0 9 = some b_47 ∧ mkd M_44 b_47 = 109 ∧ vp_in x1 (mln M_44 b_47) ∧ ∃ b_51, mgR M_44 b_47 (ix_ x1) = some b_51 ∧ mkd M_44 b_51 = 101 ∧ vp_in x2 (mln M_44 b_51) ∧ wp_X0_endsBy M_44 a0 x1 x2 r_25 ((mgL M_44 b_51 (ix_ x2)) * (5 : Int64)) (fun M_55 => ∀ x2_58, x2_58 = x2 + 1 → wl_X0_sunComes_18 a0 x1 X116 n_ M_55 x2_58))))))))
def wl_X0_sunComes_10 (a0 : Nat) (X122 : MM → Prop) : Nat → MM → Int32 → Prop
  | 0, _, _ => False
  | n_ + 1, M, x1 =>
  if (24 : Int32) < x1 then (X122 M)
  else (∃ n_62, wl_X0_sunComes_18 a0 x1
    (fun (M_63 : MM) => ∀ x1_65, x1_65 = x1 + 1 → wl_X0_sunComes_10 a0 X122 n_ M_63 x1_65) n_62 M (0 : Int32))
def wp_X0_sunComes (M : MM) (a0 : Nat) (Post : MM → Prop) : Prop :=
  ∃ b_1, mgR M a0 10 = some b_1 ∧ mkd M b_1 = 109 ∧ wp_X0_clears M a0 b_1 (fun M_4 => ∃ n_67, wl_X0_sunComes_10 a0
    (fun (M_68 : MM) => wp_X0_takesComes M_68 a0 (fun M_70 => Post M_70)) n_67 M_4 (0 : Int32))
def wl_X0_laysDays_147 (a0 : Nat) (x2 : Int32) (x3 : Int32) (x6 : Int32) (X165 : MM → Prop) : Nat → MM → Int32 → Prop
  | 0, _, _ => False
  | n_ + 1, M, x7 =>
  if x3 ≤ x7 then (X165 M)
  else (wp_X0_personComes M a0 x7 (fun M_58 => ∀ x7_61, x7_61 = x7 + 1 → wl_X0_laysDays_147 a0 x2 x3 x6 X165 n_ M_58 x7_61))
def wl_X0_laysDays_107 (a0 : Nat) (x2 : Int32) (x3 : Int32) (X175 : MM → Prop) : Nat → MM → Int32 → Prop
  | 0, _, _ => False
  | n_ + 1, M, x6 =>
  if x2 ≤ x6 then (X175 M)
  else (∃ b_47, mgR M a0 1 = some b_47 ∧ mkd M b_47 = 3 ∧ ∀ M_50, M_50 = msI M a0 18 ((mgI M b_47 2) + x6) → wp_X0_powerOf M_50 (10 : Int32) (x3 + (1 : Int32)) (fun r_53 M_52 => ∀ M_55, M_55 = msL M_52 a0 20 ((mgL M_50 a0 20) * r_53) → ∃ n_63, wl_X0_laysDays_147 a0 x2 x3 x6
    (fun (M_64 : MM) => wp_X0_sunComes M_64 a0 (fun M_66 => ∀ x6_69, x6_69 = x6 + 1 → wl_X0_laysDays_107 a0 x2 x3 X175 n_ M_66 x6_69)) n_63 M_55 (0 : Int32)))
def wb_X0_laysDays_102 (M : MM) (a0 : Nat) (x2 : Int32) (x3 : Int32) (as0 : Nat) (xs1 : Int32) (Post : Int64 → MM → Prop) : Prop :=
  vp_in xs1 (mln M as0) ∧ ∀ M_44, M_44 = msL M as0 (ix_ xs1) (1 : Int64) → ∃ n_71, wl_X0_laysDays_107 a0 x2 x3
    (fun (M_72 : MM) => wp_X0_powerOf M_72 (10 : Int32) (x2 * (x3 + (1 : Int32))) (fun r_75 M_74 => Post (r_75 - (mgL M_74 a0 20)) M_74)) n_71 M_44 (0 : Int32)
def wp_X0_laysDays (M : MM) (a0 : Nat) (x1 : Int32) (x2 : Int32) (x3 : Int32) (x4 : Int32) (Post : Int64 → MM → Prop) : Prop :=
  ∃ b_1, mgR M a0 1 = some b_1 ∧ mkd M b_1 = 3 ∧ ∃ b_4, mgR M b_1 0 = some b_4 ∧ mkd M b_4 = 103 ∧ vp_in x1 (mln M b_4) ∧ ∃ b_8, mgR M b_4 (ix_ x1) = some b_8 ∧ mkd M b_8 = 4 ∧ ∀ M_11, M_11 = msI M a0 14 x1 → ∀ M_13, M_13 = msI M_11 a0 15 x4 → ∀ M_15, M_15 = msI M_13 a0 16 (mgI M_13 b_8 3) → ∀ M_17, M_17 = msI M_15 a0 17 (mn_ x4 (mgI M_15 b_8 2)) → ∃ b_19, mgR M_17 a0 1 = some b_19 ∧ mkd M_17 b_19 = 3 ∧ wp_X3_toldPeople M_17 b_19 (fun r_23 M_22 => ∀ M_25, M_25 = msI M_22 a0 19 r_23 → ∀ M_27, M_27 = msL M_25 a0 20 (0 : Int64) → ∃ b_29, mgR M_27 a0 9 = some b_29 ∧ mkd M_27 b_29 = 109 ∧ wp_X0_clears M_27 a0 b_29 (fun M_32 => ∃ b_35, mgR M_32 a0 9 = some b_35 ∧ mkd M_32 b_35 = 109 ∧ vp_in (mgI M_32 a0 17) (mln M_32 b_35) ∧ ∃ b_39, mgR M_32 b_35 (ix_ (mgI M_32 a0 17)) = some b_39 ∧ mkd M_32 b_39 = 101 ∧ if (mgI M_32 b_8 5) ≤ 0 then (wb_X0_laysDays_102 M_32 a0 x2 x3 b_39 (mgI M_32 b_8 4) Post)
  else (wb_X0_laysDays_102 M_32 a0 x2 x3 b_39 ((10 : Int32) + (mgI M_32 b_8 5)) Post)))
def wl_X0_exactly_62 (a0 : Nat) (x4 : Int32) (X90 : MM → Int64 → Prop) : Nat → MM → Int64 → Int32 → Prop
  | 0, _, _, _ => False
  | n_ + 1, M, x5, x7 =>
  if (20 : Int32) ≤ x7 then (X90 M x5)
  else (∃ b_24, mgR M a0 9 = some b_24 ∧ mkd M b_24 = 109 ∧ vp_in x4 (mln M b_24) ∧ ∃ b_28, mgR M b_24 (ix_ x4) = some b_28 ∧ mkd M b_28 = 101 ∧ vp_in x7 (mln M b_28) ∧ ∀ x5_32, x5_32 = x5 + (mgL M b_28 (ix_ x7)) → ∀ x7_34, x7_34 = x7 + 1 → wl_X0_exactly_62 a0 x4 X90 n_ M x5_32 x7_34)
def wp_X0_exactly (M : MM) (a0 : Nat) (x1 : Int32) (x2 : Int32) (x3 : Int32) (x4 : Int32) (Post : Int64 → MM → Prop) : Prop :=
  wp_X0_canLay M a0 x1 x2 x3 (fun r_2 M_1 => if r_2 = 0 then (Post (-1 : Int64) M_1)
  else (wp_X0_within M_1 x4 (-1 : Int32) (24 : Int32) (fun r_6 M_5 => if r_6 = 0 then (Post (-1 : Int64) M_5)
  else (∃ b_9, mgR M_5 a0 1 = some b_9 ∧ mkd M_5 b_9 = 3 ∧ ∃ b_12, mgR M_5 b_9 0 = some b_12 ∧ mkd M_5 b_12 = 103 ∧ vp_in x1 (mln M_5 b_12) ∧ ∃ b_16, mgR M_5 b_12 (ix_ x1) = some b_16 ∧ mkd M_5 b_16 = 4 ∧ wp_X0_laysDays M_5 a0 x1 x2 x3 (mgI M_5 b_16 1) (fun r_20 M_19 => if x4 = (-1 : Int32) then (Post (mgL M_19 a0 20) M_19)
  else (∃ n_36, wl_X0_exactly_62 a0 x4
    (fun (M_37 : MM) (x5_39 : Int64) => Post x5_39 M_37) n_36 M_19 (0 : Int64) (0 : Int32)))))))
def wl_X0_chance_44 (a0 : Nat) (x1 : Int32) (x2 : Int32) (x3 : Int32) (x4 : Int32) (x5 : Int32) (x6 : Int64) (x8 : Int32) (X65 : MM → Prop) : Nat → MM → Int32 → Prop
  | 0, _, _ => False
  | n_ + 1, M, x9 =>
  if x3 ≤ x9 then (X65 M)
  else (∃ b_11, mgR M a0 12 = some b_11 ∧ mkd M b_11 = 100 ∧ vp_in x9 (mln M b_11) ∧ ∀ M_15, M_15 = msI M b_11 (ix_ x9) x8 → ∀ x9_17, x9_17 = x9 + 1 → wl_X0_chance_44 a0 x1 x2 x3 x4 x5 x6 x8 X65 n_ M_15 x9_17)
def wl_X0_chance_34 (a0 : Nat) (x1 : Int32) (x2 : Int32) (x3 : Int32) (x4 : Int32) (X111 : MM → Int32 → Int64 → Prop) : Nat → MM → Int32 → Int64 → Int32 → Prop
  | 0, _, _, _, _ => False
  | n_ + 1, M, x5, x6, x8 =>
  if (10 : Int32) < x8 then (X111 M x5 x6)
  else (∃ n_19, wl_X0_chance_44 a0 x1 x2 x3 x4 x5 x6 x8
    (fun (M_20 : MM) => ∃ b_22, mgR M_20 a0 1 = some b_22 ∧ mkd M_20 b_22 = 3 ∧ ∃ b_25, mgR M_20 b_22 0 = some b_25 ∧ mkd M_20 b_25 = 103 ∧ vp_in x1 (mln M_20 b_25) ∧ ∃ b_29, mgR M_20 b_25 (ix_ x1) = some b_29 ∧ mkd M_20 b_29 = 4 ∧ wp_X0_laysDays M_20 a0 x1 x2 x3 (mgI M_20 b_29 1) (fun r_33 M_32 => if x6 < r_33 then (∀ x8_36, x8_36 = x8 + 1 → wl_X0_chance_34 a0 x1 x2 x3 x4 X111 n_ M_32 x8 r_33 x8_36)
  else (∀ x8_38, x8_38 = x8 + 1 → wl_X0_chance_34 a0 x1 x2 x3 x4 X111 n_ M_32 x5 x6 x8_38))) n_19 M (0 : Int32))
def wp_X0_chance (M : MM) (a0 : Nat) (x1 : Int32) (x2 : Int32) (x3 : Int32) (x4 : Int32) (Post : Int64 → MM → Prop) : Prop :=
  wp_X0_canLay M a0 x1 x2 x3 (fun r_2 M_1 => if r_2 = 0 then (Post (-1 : Int64) M_1)
  else (wp_X0_in M_1 x4 (2 : Int32) (fun r_6 M_5 => if r_6 = 0 then (Post (-1 : Int64) M_5)
  else (∃ n_40, wl_X0_chance_34 a0 x1 x2 x3 x4
    (fun (M_41 : MM) (x5_43 : Int32) (x6_44 : Int64) => if x4 = 0 then (Post x5_43.toInt64 M_41)
  else (Post x6_44 M_41)) n_40 M_5 (0 : Int32) (-1 : Int64) (0 : Int32)))))
def wb_X0_toAsk_108 (M : MM) (a0 : Nat) (x1 : Int32) (x2 : Int32) (x3 : Int32) (x4 : Int32) (x5 : Int64) (x7 : Int32) (x8 : Int32) (x9 : Int32) (as0 : Nat) (xs1 : Int32) (xs2 : Int32) (R : MM → Int32 → Prop) (X115 : MM → Prop) : Prop :=
  vp_in xs1 (mln M as0) ∧ ∀ M_43, M_43 = msI M as0 (ix_ xs1) xs2 → ∀ x9_45, x9_45 = x9 + 1 → R M_43 x9_45
def wl_X0_toAsk_60 (a0 : Nat) (x1 : Int32) (x2 : Int32) (x3 : Int32) (x4 : Int32) (x5 : Int64) (x7 : Int32) (x8 : Int32) (X115 : MM → Prop) : Nat → MM → Int32 → Prop
  | 0, _, _ => False
  | n_ + 1, M, x9 =>
  if x3 ≤ x9 then (X115 M)
  else (∃ b_24, mgR M a0 12 = some b_24 ∧ mkd M b_24 = 100 ∧ if x9 = x8 then (wb_X0_toAsk_108 M a0 x1 x2 x3 x4 x5 x7 x8 x9 b_24 x9 (10 : Int32) (wl_X0_toAsk_60 a0 x1 x2 x3 x4 x5 x7 x8 X115 n_) X115)
  else (∃ b_28, mgR M a0 1 = some b_28 ∧ mkd M b_28 = 3 ∧ ∃ b_31, mgR M b_28 1 = some b_31 ∧ mkd M b_31 = 104 ∧ ∃ b_34, mgR M a0 11 = some b_34 ∧ mkd M b_34 = 100 ∧ vp_in x9 (mln M b_34) ∧ vp_in (mgI M b_34 (ix_ x9)) (mln M b_31) ∧ ∃ b_39, mgR M b_31 (ix_ (mgI M b_34 (ix_ x9))) = some b_39 ∧ mkd M b_39 = 5 ∧ wb_X0_toAsk_108 M a0 x1 x2 x3 x4 x5 x7 x8 x9 b_24 x9 (mx_ (0 : Int32) ((mgI M b_39 0) - (2 : Int32))) (wl_X0_toAsk_60 a0 x1 x2 x3 x4 x5 x7 x8 X115 n_) X115))
def wl_X0_toAsk_51 (a0 : Nat) (x1 : Int32) (x2 : Int32) (x3 : Int32) (x4 : Int32) (X166 : MM → Int64 → Int32 → Prop) : Nat → MM → Int64 → Int32 → Int32 → Prop
  | 0, _, _, _, _ => False
  | n_ + 1, M, x5, x7, x8 =>
  if x3 ≤ x8 then (X166 M x5 x7)
  else (∃ n_47, wl_X0_toAsk_60 a0 x1 x2 x3 x4 x5 x7 x8
    (fun (M_48 : MM) => ∃ b_50, mgR M_48 a0 1 = some b_50 ∧ mkd M_48 b_50 = 3 ∧ ∃ b_53, mgR M_48 b_50 0 = some b_53 ∧ mkd M_48 b_53 = 103 ∧ vp_in x1 (mln M_48 b_53) ∧ ∃ b_57, mgR M_48 b_53 (ix_ x1) = some b_57 ∧ mkd M_48 b_57 = 4 ∧ wp_X0_laysDays M_48 a0 x1 x2 x3 (mgI M_48 b_57 1) (fun r_61 M_60 => if x5 < r_61 then (∃ b_64, mgR M_60 a0 11 = some b_64 ∧ mkd M_60 b_64 = 100 ∧ vp_in x8 (mln M_60 b_64) ∧ ∀ x7_68, x7_68 = mgI M_60 b_64 (ix_ x8) → ∀ x8_70, x8_70 = x8 + 1 → wl_X0_toAsk_51 a0 x1 x2 x3 x4 X166 n_ M_60 r_61 x7_68 x8_70)
  else (∀ x8_72, x8_72 = x8 + 1 → wl_X0_toAsk_51 a0 x1 x2 x3 x4 X166 n_ M_60 x5 x7 x8_72))) n_47 M (0 : Int32))
def wp_X0_toAsk (M : MM) (a0 : Nat) (x1 : Int32) (x2 : Int32) (x3 : Int32) (x4 : Int32) (Post : Int64 → MM → Prop) : Prop :=
  wp_X0_canLay M a0 x1 x2 x3 (fun r_2 M_1 => if r_2 = 0 then (Post (-1 : Int64) M_1)
  else (wp_X0_in M_1 x4 (2 : Int32) (fun r_6 M_5 => if r_6 = 0 then (Post (-1 : Int64) M_5)
  else (∃ b_9, mgR M_5 a0 1 = some b_9 ∧ mkd M_5 b_9 = 3 ∧ ∃ b_12, mgR M_5 b_9 0 = some b_12 ∧ mkd M_5 b_12 = 103 ∧ vp_in x1 (mln M_5 b_12) ∧ ∃ b_16, mgR M_5 b_12 (ix_ x1) = some b_16 ∧ mkd M_5 b_16 = 4 ∧ wp_X0_laysDays M_5 a0 x1 x2 x3 (mgI M_5 b_16 1) (fun r_20 M_19 => ∃ n_74, wl_X0_toAsk_51 a0 x1 x2 x3 x4
    (fun (M_75 : MM) (x5_77 : Int64) (x7_78 : Int32) => if x4 = 0 then (Post x7_78.toInt64 M_75)
  else (Post x5_77 M_75)) n_74 M_19 r_20 (-2 : Int32) (0 : Int32))))))
def wb_X0_movesOut_102 (M : MM) (a0 : Nat) (x1 : Int32) (x2 : Int32) (x3 : Int32) (x4 : Int32) (x8 : Int32) (x10 : Int64) (R : MM → Int32 → Int64 → Int32 → Prop) (X121 : MM → Int32 → Int64 → Prop) : Prop :=
  ∃ b_42, mgR M a0 11 = some b_42 ∧ mkd M b_42 = 100 ∧ vp_in x8 (mln M b_42) ∧ ∀ x5_46, x5_46 = mgI M b_42 (ix_ x8) → ∀ x8_48, x8_48 = x8 + 1 → R M x5_46 x10 x8_48
def wl_X0_movesOut_32 (a0 : Nat) (x1 : Int32) (x2 : Int32) (x3 : Int32) (x4 : Int32) (X121 : MM → Int32 → Int64 → Prop) : Nat → MM → Int32 → Int64 → Int32 → Prop
  | 0, _, _, _, _ => False
  | n_ + 1, M, x5, x6, x8 =>
  if x3 ≤ x8 then (X121 M x5 x6)
  else (∃ b_10, mgR M a0 12 = some b_10 ∧ mkd M b_10 = 100 ∧ vp_in x8 (mln M b_10) ∧ ∀ x9_14, x9_14 = mgI M b_10 (ix_ x8) → ∃ b_16, mgR M a0 12 = some b_16 ∧ mkd M b_16 = 100 ∧ vp_in x8 (mln M b_16) ∧ ∀ M_20, M_20 = msI M b_16 (ix_ x8) (0 : Int32) → ∃ b_22, mgR M_20 a0 1 = some b_22 ∧ mkd M_20 b_22 = 3 ∧ ∃ b_25, mgR M_20 b_22 0 = some b_25 ∧ mkd M_20 b_25 = 103 ∧ vp_in x1 (mln M_20 b_25) ∧ ∃ b_29, mgR M_20 b_25 (ix_ x1) = some b_29 ∧ mkd M_20 b_29 = 4 ∧ wp_X0_laysDays M_20 a0 x1 x2 x3 (mgI M_20 b_29 1) (fun r_33 M_32 => ∃ b_35, mgR M_32 a0 12 = some b_35 ∧ mkd M_32 b_35 = 100 ∧ vp_in x8 (mln M_32 b_35) ∧ ∀ M_39, M_39 = msI M_32 b_35 (ix_ x8) x9_14 → if x5 = (-1 : Int32) then (wb_X0_movesOut_102 M_39 a0 x1 x2 x3 x4 x8 r_33 (wl_X0_movesOut_32 a0 x1 x2 x3 x4 X121 n_) X121)
  else (if r_33 < x6 then (wb_X0_movesOut_102 M_39 a0 x1 x2 x3 x4 x8 r_33 (wl_X0_movesOut_32 a0 x1 x2 x3 x4 X121 n_) X121)
  else (∀ x8_51, x8_51 = x8 + 1 → wl_X0_movesOut_32 a0 x1 x2 x3 x4 X121 n_ M_39 x5 x6 x8_51))))
def wp_X0_movesOut (M : MM) (a0 : Nat) (x1 : Int32) (x2 : Int32) (x3 : Int32) (x4 : Int32) (Post : Int64 → MM → Prop) : Prop :=
  wp_X0_canLay M a0 x1 x2 x3 (fun r_2 M_1 => if r_2 = 0 then (Post (-1 : Int64) M_1)
  else (wp_X0_in M_1 x4 (2 : Int32) (fun r_6 M_5 => if r_6 = 0 then (Post (-1 : Int64) M_5)
  else (∃ n_53, wl_X0_movesOut_32 a0 x1 x2 x3 x4
    (fun (M_54 : MM) (x5_56 : Int32) (x6_57 : Int64) => if x4 = 0 then (Post x5_56.toInt64 M_54)
  else (Post x6_57 M_54)) n_53 M_5 (-1 : Int32) (0 : Int64) (0 : Int32)))))
def wl_X0_few_26 (a0 : Nat) (x1 : Int32) (x2 : Int32) (x3 : Int32) (x4 : Int32) (X73 : MM → Int32 → Prop) (X82 : MM → Prop) : Nat → MM → Int32 → Prop
  | 0, _, _ => False
  | n_ + 1, M, x5 =>
  if x3 < x5 then (X82 M)
  else (∃ b_10, mgR M a0 1 = some b_10 ∧ mkd M b_10 = 3 ∧ ∃ b_13, mgR M b_10 0 = some b_13 ∧ mkd M b_13 = 103 ∧ vp_in x1 (mln M b_13) ∧ ∃ b_17, mgR M b_13 (ix_ x1) = some b_17 ∧ mkd M b_17 = 4 ∧ wp_X0_laysDays M a0 x1 x2 x5 (mgI M b_17 1) (fun r_21 M_20 => wp_X0_powerOf M_20 (10 : Int32) ((x2 * (x5 + (1 : Int32))) - (1 : Int32)) (fun r_24 M_23 => if r_21 < (x4.toInt64 * r_24) then (∀ x5_27, x5_27 = x5 + 1 → wl_X0_few_26 a0 x1 x2 x3 x4 X73 X82 n_ M_23 x5_27)
  else (X73 M_23 x5))))
def wp_X0_few (M : MM) (a0 : Nat) (x1 : Int32) (x2 : Int32) (x3 : Int32) (x4 : Int32) (Post : Int32 → MM → Prop) : Prop :=
  wp_X0_canLay M a0 x1 x2 x3 (fun r_2 M_1 => if r_2 = 0 then (Post (-1 : Int32) M_1)
  else (wp_X0_within M_1 x4 (0 : Int32) (10 : Int32) (fun r_6 M_5 => if r_6 = 0 then (Post (-1 : Int32) M_5)
  else (∃ n_29, wl_X0_few_26 a0 x1 x2 x3 x4
    (fun (M_30 : MM) (x5_32 : Int32) => Post x5_32 M_30)
    (fun (M_33 : MM) => Post (-2 : Int32) M_33) n_29 M_5 (0 : Int32)))))
def wp_X0_pot (M : MM) (a0 : Nat) (x1 : Int32) (x2 : Int32) (x3 : Int32) (x4 : Int32) (Post : Int64 → MM → Prop) : Prop :=
  wp_X0_canLay M a0 x1 x2 x3 (fun r_2 M_1 => if r_2 = 0 then (Post (-1000000000000 : Int64) M_1)
  else (wp_X0_within M_1 x4 (4 : Int32) (24 : Int32) (fun r_6 M_5 => if r_6 = 0 then (Post (-1000000000000 : Int64) M_5)
  else (wp_X0_laysDays M_5 a0 x1 x2 x3 x4 (fun r_10 M_9 => ∃ b_12, mgR M_9 a0 1 = some b_12 ∧ mkd M_9 b_12 = 3 ∧ ∃ b_15, mgR M_9 b_12 0 = some b_15 ∧ mkd M_9 b_15 = 103 ∧ vp_in x1 (mln M_9 b_15) ∧ ∃ b_19, mgR M_9 b_15 (ix_ x1) = some b_19 ∧ mkd M_9 b_19 = 4 ∧ wp_X0_laysDays M_9 a0 x1 x2 x3 (mgI M_9 b_19 1) (fun r_23 M_22 => Post (r_10 - r_23) M_22))))))
def wl_X0_ruleFor_51 (a0 : Nat) (x1 : Int32) (x2 : Int32) (x3 : Int32) (x5 : Int32) (X110 : MM → Int32 → Int64 → Prop) : Nat → MM → Int32 → Int64 → Int32 → Prop
  | 0, _, _, _, _ => False
  | n_ + 1, M, x6, x7, x9 =>
  if (24 : Int32) < x9 then (X110 M x6 x7)
  else (∀ M_16, M_16 = msI M a0 22 x9 → ∃ b_18, mgR M_16 a0 1 = some b_18 ∧ mkd M_16 b_18 = 3 ∧ ∃ b_21, mgR M_16 b_18 0 = some b_21 ∧ mkd M_16 b_21 = 103 ∧ vp_in x1 (mln M_16 b_21) ∧ ∃ b_25, mgR M_16 b_21 (ix_ x1) = some b_25 ∧ mkd M_16 b_25 = 4 ∧ wp_X0_laysDays M_16 a0 x1 x2 x3 (mgI M_16 b_25 1) (fun r_29 M_28 => if x7 < r_29 then (∀ x9_32, x9_32 = x9 + 1 → wl_X0_ruleFor_51 a0 x1 x2 x3 x5 X110 n_ M_28 x9 r_29 x9_32)
  else (∀ x9_34, x9_34 = x9 + 1 → wl_X0_ruleFor_51 a0 x1 x2 x3 x5 X110 n_ M_28 x6 x7 x9_34)))
def wp_X0_ruleFor (M : MM) (a0 : Nat) (x1 : Int32) (x2 : Int32) (x3 : Int32) (x4 : Int32) (x5 : Int32) (Post : Int64 → MM → Prop) : Prop :=
  wp_X0_canLay M a0 x1 x2 x3 (fun r_2 M_1 => if r_2 = 0 then (Post (-1 : Int64) M_1)
  else (wp_X0_within M_1 x4 (1 : Int32) (9 : Int32) (fun r_6 M_5 => if r_6 = 0 then (Post (-1 : Int64) M_5)
  else (wp_X0_in M_5 x5 (2 : Int32) (fun r_10 M_9 => if r_10 = 0 then (Post (-1 : Int64) M_9)
  else (∀ M_13, M_13 = msI M_9 a0 21 x4 → ∃ n_36, wl_X0_ruleFor_51 a0 x1 x2 x3 x5
    (fun (M_37 : MM) (x6_39 : Int32) (x7_40 : Int64) => ∀ M_41, M_41 = msI M_37 a0 21 (0 : Int32) → if x5 = 0 then (Post x6_39.toInt64 M_41)
  else (Post x7_40 M_41)) n_36 M_13 (0 : Int32) (-1 : Int64) (0 : Int32)))))))
def wl_X0_lastsWith_31 (a0 : Nat) (x1 : Int32) (a3 : Nat) (X97 : MM → Int32 → Prop) : Nat → MM → Int32 → Prop
  | 0, _, _ => False
  | n_ + 1, M, x4 =>
  if (60 : Int32) ≤ x4 then (X97 M x4)
  else (wp_X4_isDead M a3 (fun r_28 M_27 => if r_28 = 0 then (∃ b_31, mgR M_27 a0 2 = some b_31 ∧ mkd M_27 b_31 = 3 ∧ wp_X3_at M_27 b_31 x1 (fun r_35 M_34 => ∃ b_37, r_35 = some b_37 ∧ mkd M_34 b_37 = 2 ∧ wp_X2_tells M_34 b_37 (101 : Int32) (9 : Int32) (fun r_41 M_40 => wp_X4_dayEnds M_40 a3 r_41 (fun M_43 => ∃ b_46, mgR M_43 a0 2 = some b_46 ∧ mkd M_43 b_46 = 3 ∧ ∀ M_49, M_49 = msI M_43 b_46 2 ((mgI M_43 b_46 2) + (1 : Int32)) → wp_X4_isDead M_49 a3 (fun r_52 M_51 => if r_52 = 0 then (∀ x4_55, x4_55 = x4 + (1 : Int32) → wl_X0_lastsWith_31 a0 x1 a3 X97 n_ M_51 x4_55)
  else (∀ x4_57, x4_57 = x4 + (0 : Int32) → wl_X0_lastsWith_31 a0 x1 a3 X97 n_ M_51 x4_57))))))
  else (X97 M_27 x4)))
def wp_X0_lastsWith (M : MM) (a0 : Nat) (x1 : Int32) (x2 : Int32) (Post : Int32 → MM → Prop) : Prop :=
  ∃ b_1, mgR M a0 2 = some b_1 ∧ mkd M b_1 = 3 ∧ ∃ b_4, mgR M a0 1 = some b_4 ∧ mkd M b_4 = 3 ∧ wp_X3_takes M b_1 b_4 (fun r_8 M_7 => ∃ b_10, r_8 = some b_10 ∧ mkd M_7 b_10 = 3 ∧ ∃ b_13, mgR M_7 a0 2 = some b_13 ∧ mkd M_7 b_13 = 3 ∧ ∃ b_16, mgR M_7 b_13 0 = some b_16 ∧ mkd M_7 b_16 = 103 ∧ vp_in x1 (mln M_7 b_16) ∧ ∃ b_20, mgR M_7 b_16 (ix_ x1) = some b_20 ∧ mkd M_7 b_20 = 4 ∧ wp_X4_gets M_7 b_20 x2 (fun r_24 M_23 => ∃ n_59, wl_X0_lastsWith_31 a0 x1 b_20
    (fun (M_60 : MM) (x4_62 : Int32) => Post x4_62 M_60) n_59 M_23 (0 : Int32)))
def wp_X0_lasts (M : MM) (a0 : Nat) (x1 : Int32) (x2 : Int32) (Post : Int32 → MM → Prop) : Prop :=
  wp_X0_isPlant M a0 x1 (fun r_2 M_1 => if r_2 = 0 then (Post (-1 : Int32) M_1)
  else (∃ b_5, mgR M_1 a0 1 = some b_5 ∧ mkd M_1 b_5 = 3 ∧ ∃ b_8, mgR M_1 b_5 0 = some b_8 ∧ mkd M_1 b_8 = 103 ∧ vp_in x1 (mln M_1 b_8) ∧ ∃ b_12, mgR M_1 b_8 (ix_ x1) = some b_12 ∧ mkd M_1 b_12 = 4 ∧ wp_X4_isDead M_1 b_12 (fun r_16 M_15 => if r_16 = 0 then (wp_X0_within M_15 x2 (0 : Int32) (24 : Int32) (fun r_20 M_19 => if r_20 = 0 then (Post (-1 : Int32) M_19)
  else (wp_X0_lastsWith M_19 a0 x1 x2 (fun r_24 M_23 => Post r_24 M_23))))
  else (Post (-1 : Int32) M_15))))
def wl_X0_needs_37 (a0 : Nat) (x1 : Int32) (x2 : Int32) (X53 : MM → Int32 → Prop) (X61 : MM → Prop) : Nat → MM → Int32 → Prop
  | 0, _, _ => False
  | n_ + 1, M, x3 =>
  if (24 : Int32) < x3 then (X61 M)
  else (wp_X0_lastsWith M a0 x1 x3 (fun r_25 M_24 => if r_25 < x2 then (∀ x3_28, x3_28 = x3 + 1 → wl_X0_needs_37 a0 x1 x2 X53 X61 n_ M_24 x3_28)
  else (X53 M_24 x3)))
def wp_X0_needs (M : MM) (a0 : Nat) (x1 : Int32) (x2 : Int32) (Post : Int32 → MM → Prop) : Prop :=
  wp_X0_isPlant M a0 x1 (fun r_2 M_1 => if r_2 = 0 then (Post (-1 : Int32) M_1)
  else (∃ b_5, mgR M_1 a0 1 = some b_5 ∧ mkd M_1 b_5 = 3 ∧ ∃ b_8, mgR M_1 b_5 0 = some b_8 ∧ mkd M_1 b_8 = 103 ∧ vp_in x1 (mln M_1 b_8) ∧ ∃ b_12, mgR M_1 b_8 (ix_ x1) = some b_12 ∧ mkd M_1 b_12 = 4 ∧ wp_X4_isDead M_1 b_12 (fun r_16 M_15 => if r_16 = 0 then (wp_X0_within M_15 x2 (1 : Int32) (60 : Int32) (fun r_20 M_19 => if r_20 = 0 then (Post (-1 : Int32) M_19)
  else (∃ n_30, wl_X0_needs_37 a0 x1 x2
    (fun (M_31 : MM) (x3_33 : Int32) => Post x3_33 M_31)
    (fun (M_34 : MM) => Post (-2 : Int32) M_34) n_30 M_19 (0 : Int32))))
  else (Post (-1 : Int32) M_15))))
def wb_X0_week_63 (M : MM) (a0 : Nat) (x1 : Int32) (x2 : Int32) (x3 : Int32) (Post : Int32 → MM → Prop) : Prop :=
  ∀ M_31, M_31 = msI M a0 25 (8 : Int32) → ∃ b_33, mgR M_31 a0 27 = some b_33 ∧ mkd M_31 b_33 = 108 ∧ 0 < mln M_31 b_33 ∧ ∃ b_37, mgR M_31 b_33 0 = some b_37 ∧ mkd M_31 b_37 = 3 ∧ ∃ b_40, mgR M_31 a0 1 = some b_40 ∧ mkd M_31 b_40 = 3 ∧ wp_X3_takes M_31 b_37 b_40 (fun r_44 M_43 => ∃ b_46, r_44 = some b_46 ∧ mkd M_43 b_46 = 3 ∧ wpK 10 M_43 a0 x1 x2 (0 : Int32) (0 : Int32) (fun M_49 => if (mgI M_49 a0 25) ≤ (7 : Int32) then (if x3 = (10 : Int32) then (Post (mgI M_49 a0 25) M_49)
  else (if x3 = (11 : Int32) then (Post (mgI M_49 a0 26) M_49)
  else (∃ b_55, mgR M_49 a0 24 = some b_55 ∧ mkd M_49 b_55 = 100 ∧ vp_in x3 (mln M_49 b_55) ∧ if (mgI M_49 b_55 (ix_ x3)) = x2 then (Post (-3 : Int32) M_49)
  else (∃ b_60, mgR M_49 a0 11 = some b_60 ∧ mkd M_49 b_60 = 100 ∧ ∃ b_63, mgR M_49 a0 24 = some b_63 ∧ mkd M_49 b_63 = 100 ∧ vp_in x3 (mln M_49 b_63) ∧ vp_in (mgI M_49 b_63 (ix_ x3)) (mln M_49 b_60) ∧ Post (mgI M_49 b_60 (ix_ (mgI M_49 b_63 (ix_ x3)))) M_49))))
  else (Post (-2 : Int32) M_49)))
def wp_X0_week (M : MM) (a0 : Nat) (x1 : Int32) (x2 : Int32) (x3 : Int32) (Post : Int32 → MM → Prop) : Prop :=
  wp_X0_isPlant M a0 x1 (fun r_2 M_1 => if r_2 = 0 then (Post (-1 : Int32) M_1)
  else (∃ b_5, mgR M_1 a0 1 = some b_5 ∧ mkd M_1 b_5 = 3 ∧ ∃ b_8, mgR M_1 b_5 0 = some b_8 ∧ mkd M_1 b_8 = 103 ∧ vp_in x1 (mln M_1 b_8) ∧ ∃ b_12, mgR M_1 b_8 (ix_ x1) = some b_12 ∧ mkd M_1 b_12 = 4 ∧ wp_X4_isDead M_1 b_12 (fun r_16 M_15 => if r_16 = 0 then (wp_X0_within M_15 x2 (1 : Int32) (3 : Int32) (fun r_20 M_19 => if r_20 = 0 then (Post (-1 : Int32) M_19)
  else (wp_X0_takesPeople M_19 a0 x2 (fun r_24 M_23 => if r_24 = 0 then (Post (-1 : Int32) M_23)
  else (wp_X0_in M_23 x3 (7 : Int32) (fun r_28 M_27 => if r_28 = 0 then (if x3 = (10 : Int32) then (wb_X0_week_63 M_27 a0 x1 x2 x3 Post)
  else (if x3 = (11 : Int32) then (wb_X0_week_63 M_27 a0 x1 x2 x3 Post)
  else (Post (-1 : Int32) M_27)))
  else (wb_X0_week_63 M_27 a0 x1 x2 x3 Post)))))))
  else (Post (-1 : Int32) M_15))))
def wl_X0_spread_70 (a0 : Nat) (x1 : Int32) (x2 : Int32) (x3 : Int32) (x4 : Int32) (X100 : MM → Prop) : Nat → MM → Int32 → Prop
  | 0, _, _ => False
  | n_ + 1, M, x5 =>
  if x1 < x5 then (X100 M)
  else (∃ b_28, mgR M a0 28 = some b_28 ∧ mkd M b_28 = 110 ∧ vp_in x4 (mln M b_28) ∧ ∃ b_32, mgR M b_28 (ix_ x4) = some b_32 ∧ mkd M b_32 = 100 ∧ wp_X0_lastsWith M a0 x4 x5 (fun r_36 M_35 => vp_in x5 (mln M_35 b_32) ∧ ∀ M_39, M_39 = msI M_35 b_32 (ix_ x5) r_36 → ∀ x5_41, x5_41 = x5 + 1 → wl_X0_spread_70 a0 x1 x2 x3 x4 X100 n_ M_39 x5_41))
def wl_X0_spread_31 (a0 : Nat) (x1 : Int32) (x2 : Int32) (X106 : MM → Int32 → Prop) : Nat → MM → Int32 → Int32 → Prop
  | 0, _, _, _ => False
  | n_ + 1, M, x3, x4 =>
  if (4 : Int32) ≤ x4 then (X106 M x3)
  else (∃ b_7, mgR M a0 29 = some b_7 ∧ mkd M b_7 = 100 ∧ vp_in x4 (mln M b_7) ∧ ∀ M_11, M_11 = msI M b_7 (ix_ x4) (0 : Int32) → ∃ b_13, mgR M_11 a0 1 = some b_13 ∧ mkd M_11 b_13 = 3 ∧ ∃ b_16, mgR M_11 b_13 0 = some b_16 ∧ mkd M_11 b_16 = 103 ∧ vp_in x4 (mln M_11 b_16) ∧ ∃ b_20, mgR M_11 b_16 (ix_ x4) = some b_20 ∧ mkd M_11 b_20 = 4 ∧ wp_X4_lives M_11 b_20 (fun r_24 M_23 => if r_24 = 0 then (∀ x4_48, x4_48 = x4 + 1 → wl_X0_spread_31 a0 x1 x2 X106 n_ M_23 x3 x4_48)
  else (∃ n_43, wl_X0_spread_70 a0 x1 x2 x4 x4
    (fun (M_44 : MM) => ∀ x4_46, x4_46 = x4 + 1 → wl_X0_spread_31 a0 x1 x2 X106 n_ M_44 x4 x4_46) n_43 M_23 (0 : Int32))))
def wb_X0_spread_26 (M : MM) (a0 : Nat) (x1 : Int32) (x2 : Int32) (Post : Int32 → MM → Prop) : Prop :=
  ∃ n_50, wl_X0_spread_31 a0 x1 x2
    (fun (M_51 : MM) (x3_53 : Int32) => if x3_53 = (-1 : Int32) then (Post (-2 : Int32) M_51)
  else (∀ M_55, M_55 = msI M_51 a0 31 (-1 : Int32) → wpP 10 M_55 a0 (0 : Int32) x1 (60 : Int32) x3_53 (fun M_57 => if x2 = (10 : Int32) then (Post (mgI M_57 a0 31) M_57)
  else (∃ b_61, mgR M_57 a0 30 = some b_61 ∧ mkd M_57 b_61 = 100 ∧ vp_in x2 (mln M_57 b_61) ∧ Post (mgI M_57 b_61 (ix_ x2)) M_57)))) n_50 M (-1 : Int32) (0 : Int32)
def wp_X0_spread (M : MM) (a0 : Nat) (x1 : Int32) (x2 : Int32) (Post : Int32 → MM → Prop) : Prop :=
  wp_X0_within M x1 (0 : Int32) (24 : Int32) (fun r_2 M_1 => if r_2 = 0 then (Post (-1 : Int32) M_1)
  else (if x2 = (10 : Int32) then (wb_X0_spread_26 M_1 a0 x1 x2 Post)
  else (wp_X0_in M_1 x2 (4 : Int32) (fun r_66 M_65 => if r_66 = 0 then (Post (-1 : Int32) M_65)
  else (wb_X0_spread_26 M_65 a0 x1 x2 Post)))))
def wl_X0_comes_48 (a0 : Nat) (x1 : Int32) (x2 : Int32) (x3 : Int32) (X70 : MM → Prop) (X80 : MM → Prop) : Nat → MM → Int32 → Prop
  | 0, _, _ => False
  | n_ + 1, M, x4 =>
  if x1 ≤ x4 then (X80 M)
  else (∃ b_17, mgR M a0 4 = some b_17 ∧ mkd M b_17 = 102 ∧ vp_in x4 (mln M b_17) ∧ wp_X0_within M (mgI M b_17 (ix_ x4)) (0 : Int32) (10 : Int32) (fun r_22 M_21 => if r_22 = 0 then (X70 M_21)
  else (∀ x4_25, x4_25 = x4 + 1 → wl_X0_comes_48 a0 x1 x2 x3 X70 X80 n_ M_21 x4_25)))
def wb_X0_comes_106 (M : MM) (a0 : Nat) (x1 : Int32) (x2 : Int32) (x3 : Int32) (x4 : Int32) (as0 : Nat) (xs1 : Int32) (xs2 : Int64) (R : MM → Int32 → Prop) (X113 : MM → Prop) : Prop :=
  vp_in xs1 (mln M as0) ∧ ∀ M_38, M_38 = msL M as0 (ix_ xs1) xs2 → ∀ x4_40, x4_40 = x4 + 1 → R M_38 x4_40
def wl_X0_comes_83 (a0 : Nat) (x1 : Int32) (x2 : Int32) (x3 : Int32) (X113 : MM → Prop) : Nat → MM → Int32 → Prop
  | 0, _, _ => False
  | n_ + 1, M, x4 =>
  if (12 : Int32) < x4 then (X113 M)
  else (∃ b_33, mgR M a0 32 = some b_33 ∧ mkd M b_33 = 101 ∧ if x4 = 0 then (wb_X0_comes_106 M a0 x1 x2 x3 x4 b_33 x4 (1 : Int64) (wl_X0_comes_83 a0 x1 x2 x3 X113 n_) X113)
  else (wb_X0_comes_106 M a0 x1 x2 x3 x4 b_33 x4 (0 : Int64) (wl_X0_comes_83 a0 x1 x2 x3 X113 n_) X113))
def wb_X0_comes_183 (M : MM) (a0 : Nat) (x1 : Int32) (x2 : Int32) (x3 : Int32) (x4 : Int32) (x5 : Int32) (as0 : Nat) (xs1 : Int32) (xs2 : Int64) (xs3 : Int64) (R : MM → Int32 → Prop) (X191 : MM → Prop) : Prop :=
  vp_in xs1 (mln M as0) ∧ ∀ M_68, M_68 = msL M as0 (ix_ xs1) (xs2 + xs3) → ∀ x5_70, x5_70 = x5 + (-1) → R M_68 x5_70
def wl_X0_comes_126 (a0 : Nat) (x1 : Int32) (x2 : Int32) (x3 : Int32) (x4 : Int32) (X191 : MM → Prop) : Nat → MM → Int32 → Prop
  | 0, _, _ => False
  | n_ + 1, M, x5 =>
  if x5 < 0 then (X191 M)
  else (∃ b_47, mgR M a0 32 = some b_47 ∧ mkd M b_47 = 101 ∧ ∃ b_50, mgR M a0 32 = some b_50 ∧ mkd M b_50 = 101 ∧ vp_in x5 (mln M b_50) ∧ ∃ b_54, mgR M a0 4 = some b_54 ∧ mkd M b_54 = 102 ∧ vp_in x4 (mln M b_54) ∧ if x5 = 0 then (wb_X0_comes_183 M a0 x1 x2 x3 x4 x5 b_47 x5 ((mgL M b_50 (ix_ x5)) * (((10 : Int32) - (mgI M b_54 (ix_ x4))).toInt64)) (0 : Int64) (wl_X0_comes_126 a0 x1 x2 x3 x4 X191 n_) X191)
  else (∃ b_59, mgR M a0 32 = some b_59 ∧ mkd M b_59 = 101 ∧ vp_in (x5 - (1 : Int32)) (mln M b_59) ∧ ∃ b_63, mgR M a0 4 = some b_63 ∧ mkd M b_63 = 102 ∧ vp_in x4 (mln M b_63) ∧ wb_X0_comes_183 M a0 x1 x2 x3 x4 x5 b_47 x5 ((mgL M b_50 (ix_ x5)) * (((10 : Int32) - (mgI M b_54 (ix_ x4))).toInt64)) ((mgL M b_59 (ix_ (x5 - (1 : Int32)))) * ((mgI M b_63 (ix_ x4)).toInt64)) (wl_X0_comes_126 a0 x1 x2 x3 x4 X191 n_) X191))
def wl_X0_comes_116 (a0 : Nat) (x1 : Int32) (x2 : Int32) (x3 : Int32) (X197 : MM → Prop) : Nat → MM → Int32 → Prop
  | 0, _, _ => False
  | n_ + 1, M, x4 =>
  if x1 ≤ x4 then (X197 M)
  else (∃ n_72, wl_X0_comes_126 a0 x1 x2 x3 x4
    (fun (M_73 : MM) => ∀ x4_75, x4_75 = x4 + 1 → wl_X0_comes_116 a0 x1 x2 x3 X197 n_ M_73 x4_75) n_72 M (12 : Int32))
def wp_X0_comes (M : MM) (a0 : Nat) (x1 : Int32) (x2 : Int32) (x3 : Int32) (Post : Int64 → MM → Prop) : Prop :=
  wp_X0_within M x1 (1 : Int32) (12 : Int32) (fun r_2 M_1 => if r_2 = 0 then (Post (-1 : Int64) M_1)
  else (wp_X0_within M_1 x2 (0 : Int32) (12 : Int32) (fun r_6 M_5 => if r_6 = 0 then (Post (-1 : Int64) M_5)
  else (wp_X0_in M_5 x3 (2 : Int32) (fun r_10 M_9 => if r_10 = 0 then (Post (-1 : Int64) M_9)
  else (if x1 ≤ (mgI M_9 a0 7) then (∀ M_14, M_14 = msI M_9 a0 7 (0 : Int32) → ∃ n_27, wl_X0_comes_48 a0 x1 x2 x3
    (fun (M_28 : MM) => Post (-2 : Int64) M_28)
    (fun (M_30 : MM) => ∃ n_42, wl_X0_comes_83 a0 x1 x2 x3
    (fun (M_43 : MM) => ∃ n_77, wl_X0_comes_116 a0 x1 x2 x3
    (fun (M_78 : MM) => wp_X0_powerOf M_78 (10 : Int32) x1 (fun r_81 M_80 => ∃ b_83, mgR M_80 a0 32 = some b_83 ∧ mkd M_80 b_83 = 101 ∧ vp_in x2 (mln M_80 b_83) ∧ wp_X0_divisor M_80 (mgL M_80 b_83 (ix_ x2)) r_81 (fun r_88 M_87 => if x3 = 0 then (∃ b_92, mgR M_87 a0 32 = some b_92 ∧ mkd M_87 b_92 = 101 ∧ vp_in x2 (mln M_87 b_92) ∧ ¬ r_88 = 0 ∧ Post ((mgL M_87 b_92 (ix_ x2)) / r_88) M_87)
  else (¬ r_88 = 0 ∧ Post (r_81 / r_88) M_87)))) n_77 M_43 (0 : Int32)) n_42 M_30 (0 : Int32)) n_27 M_14 (0 : Int32))
  else (Post (-1 : Int64) M_9)))))))
def wb_X0_theOne_51 (M : MM) (a0 : Nat) (x1 : Int32) (x2 : Int32) (xs0 : Int32) (xs1 : Int32) (R : MM → Int32 → Int32 → Prop) (X62 : MM → Int32 → Prop) : Prop :=
  if xs0 ≤ xs1 then (∀ x2_30, x2_30 = x2 + 1 → R M x1 x2_30)
  else (∀ x2_32, x2_32 = x2 + 1 → R M x2 x2_32)
def wl_X0_theOne_5 (a0 : Nat) (X62 : MM → Int32 → Prop) : Nat → MM → Int32 → Int32 → Prop
  | 0, _, _, _ => False
  | n_ + 1, M, x1, x2 =>
  if (8 : Int32) ≤ x2 then (X62 M x1)
  else (wp_X0_isPerson M a0 x2 (fun r_3 M_2 => if r_3 = 0 then (∀ x2_6, x2_6 = x2 + 1 → wl_X0_theOne_5 a0 X62 n_ M_2 x1 x2_6)
  else (∃ b_8, mgR M_2 a0 1 = some b_8 ∧ mkd M_2 b_8 = 3 ∧ ∃ b_11, mgR M_2 b_8 1 = some b_11 ∧ mkd M_2 b_11 = 104 ∧ vp_in x2 (mln M_2 b_11) ∧ ∃ b_15, mgR M_2 b_11 (ix_ x2) = some b_15 ∧ mkd M_2 b_15 = 5 ∧ if 0 ≤ x1 then (∃ b_19, mgR M_2 a0 1 = some b_19 ∧ mkd M_2 b_19 = 3 ∧ ∃ b_22, mgR M_2 b_19 1 = some b_22 ∧ mkd M_2 b_22 = 104 ∧ vp_in x1 (mln M_2 b_22) ∧ ∃ b_26, mgR M_2 b_22 (ix_ x1) = some b_26 ∧ mkd M_2 b_26 = 5 ∧ wb_X0_theOne_51 M_2 a0 x1 x2 (mgI M_2 b_15 2) (mgI M_2 b_26 2) (wl_X0_theOne_5 a0 X62 n_) X62)
  else (wb_X0_theOne_51 M_2 a0 x1 x2 (mgI M_2 b_15 2) (0 : Int32) (wl_X0_theOne_5 a0 X62 n_) X62))))
def wp_X0_theOne (M : MM) (a0 : Nat) (Post : Int32 → MM → Prop) : Prop :=
  ∃ n_34, wl_X0_theOne_5 a0
    (fun (M_35 : MM) (x1_37 : Int32) => Post x1_37 M_35) n_34 M (-2 : Int32) (0 : Int32)
def wl_X0_share_55 (a0 : Nat) (x1 : Int32) (x2 : Int32) (a4 : Nat) (x5 : Int32) (X95 : MM → Int32 → Prop) : Nat → MM → Int32 → Int32 → Prop
  | 0, _, _, _ => False
  | n_ + 1, M, x3, x6 =>
  if x5 ≤ x6 then (X95 M x3)
  else (vp_in x6 (mln M a4) ∧ ∃ b_20, mgR M a4 (ix_ x6) = some b_20 ∧ mkd M b_20 = 5 ∧ if (mgI M b_20 3) = 0 then (∀ x3_24, x3_24 = x3 + (0 : Int32) → ∀ x6_26, x6_26 = x6 + 1 → wl_X0_share_55 a0 x1 x2 a4 x5 X95 n_ M x3_24 x6_26)
  else (∀ x3_28, x3_28 = x3 + (mgI M b_20 2) → ∀ x6_30, x6_30 = x6 + 1 → wl_X0_share_55 a0 x1 x2 a4 x5 X95 n_ M x3_28 x6_30))
def wp_X0_share (M : MM) (a0 : Nat) (x1 : Int32) (x2 : Int32) (Post : Int32 → MM → Prop) : Prop :=
  if x1 = (-1 : Int32) then (if x2 = 0 then (wp_X0_theOne M a0 (fun r_59 M_58 => Post r_59 M_58))
  else (Post (-1 : Int32) M))
  else (wp_X0_isPerson M a0 x1 (fun r_3 M_2 => if r_3 = 0 then (Post (-1 : Int32) M_2)
  else (wp_X0_in M_2 x2 (2 : Int32) (fun r_7 M_6 => if r_7 = 0 then (Post (-1 : Int32) M_6)
  else (∃ b_10, mgR M_6 a0 1 = some b_10 ∧ mkd M_6 b_10 = 3 ∧ ∃ b_13, mgR M_6 b_10 1 = some b_13 ∧ mkd M_6 b_13 = 104 ∧ ∀ x5_16, x5_16 = nI (mln M_6 b_13) → ∃ n_32, wl_X0_share_55 a0 x1 x2 b_13 x5_16
    (fun (M_33 : MM) (x3_35 : Int32) => ∃ b_36, mgR M_33 a0 1 = some b_36 ∧ mkd M_33 b_36 = 3 ∧ ∃ b_39, mgR M_33 b_36 1 = some b_39 ∧ mkd M_33 b_39 = 104 ∧ vp_in x1 (mln M_33 b_39) ∧ ∃ b_43, mgR M_33 b_39 (ix_ x1) = some b_43 ∧ mkd M_33 b_43 = 5 ∧ ∀ x4_46, x4_46 = mgI M_33 b_43 2 → if x3_35 = 0 then (Post x2 M_33)
  else (wp_X0_divisor M_33 x4_46.toInt64 x3_35.toInt64 (fun r_50 M_49 => ∀ x5_52, x5_52 = r_50.toInt32 → if x2 = 0 then (¬ x5_52 = 0 ∧ Post (x4_46 / x5_52) M_49)
  else (¬ x5_52 = 0 ∧ Post (x3_35 / x5_52) M_49)))) n_32 M_6 (0 : Int32) (0 : Int32))))))
def wl_X0_daysOf_5 (a1 : Nat) (x2 : Int32) (X39 : MM → Int32 → Prop) : Nat → MM → Int32 → Int32 → Prop
  | 0, _, _, _ => False
  | n_ + 1, M, x3, x4 =>
  if (mgI M a1 3) ≤ x4 then (X39 M x3)
  else (∃ b_2, mgR M a1 0 = some b_2 ∧ mkd M b_2 = 100 ∧ vp_in x4 (mln M b_2) ∧ if (mgI M b_2 (ix_ x4)) = x2 then (∀ x3_11, x3_11 = x3 + (1 : Int32) → ∀ x4_13, x4_13 = x4 + 1 → wl_X0_daysOf_5 a1 x2 X39 n_ M x3_11 x4_13)
  else (∀ x3_7, x3_7 = x3 + (0 : Int32) → ∀ x4_9, x4_9 = x4 + 1 → wl_X0_daysOf_5 a1 x2 X39 n_ M x3_7 x4_9))
def wp_X0_daysOf (M : MM) (a0 : Nat) (a1 : Nat) (x2 : Int32) (Post : Int32 → MM → Prop) : Prop :=
  ∃ n_15, wl_X0_daysOf_5 a1 x2
    (fun (M_16 : MM) (x3_18 : Int32) => Post x3_18 M_16) n_15 M (0 : Int32) (0 : Int32)
def wb_X0_rota_198 (M : MM) (a0 : Nat) (x1 : Int32) (x3 : Int32) (a4 : Nat) (x5 : Int32) (a6 : Nat) (x7 : Int32) (x8 : Int32) (R : MM → Int32 → Int32 → Prop) (X237 : MM → Int32 → Prop) : Prop :=
  ∃ b_78, mgR M a0 2 = some b_78 ∧ mkd M b_78 = 3 ∧ wp_X3_dayEnds M b_78 x1 (fun M_81 => ∃ b_84, mgR M_81 a0 2 = some b_84 ∧ mkd M_81 b_84 = 3 ∧ ∀ M_87, M_87 = msI M_81 b_84 2 ((mgI M_81 b_84 2) + (1 : Int32)) → wp_X4_isDead M_87 a6 (fun r_90 M_89 => if r_90 = 0 then (∀ x8_93, x8_93 = x8 + 1 → R M_89 x7 x8_93)
  else (∀ x8_95, x8_95 = x8 + 1 → R M_89 x8 x8_95)))
def wl_X0_rota_158 (a0 : Nat) (x1 : Int32) (x3 : Int32) (a4 : Nat) (x5 : Int32) (a6 : Nat) (X237 : MM → Int32 → Prop) : Nat → MM → Int32 → Int32 → Prop
  | 0, _, _, _ => False
  | n_ + 1, M, x7, x8 =>
  if x5 ≤ x8 then (X237 M x7)
  else (if 0 ≤ x7 then (X237 M x7)
  else (∃ b_73, mgR M a4 0 = some b_73 ∧ mkd M b_73 = 100 ∧ vp_in x8 (mln M b_73) ∧ if (mgI M b_73 (ix_ x8)) = (-1 : Int32) then (wb_X0_rota_198 M a0 x1 x3 a4 x5 a6 x7 x8 (wl_X0_rota_158 a0 x1 x3 a4 x5 a6 X237 n_) X237)
  else (∃ b_97, mgR M a0 2 = some b_97 ∧ mkd M b_97 = 3 ∧ ∃ b_100, mgR M a4 0 = some b_100 ∧ mkd M b_100 = 100 ∧ vp_in x8 (mln M b_100) ∧ wp_X3_waters M b_97 (mgI M b_100 (ix_ x8)) x1 (fun M_104 => wb_X0_rota_198 M_104 a0 x1 x3 a4 x5 a6 x7 x8 (wl_X0_rota_158 a0 x1 x3 a4 x5 a6 X237 n_) X237))))
def wb_X0_rota_237 (M : MM) (x3 : Int32) (a6 : Nat) (x7 : Int32) (Post : Int32 → MM → Prop) : Prop :=
  if x3 = (1 : Int32) then (Post x7 M)
  else (Post (mgI M a6 2) M)
def wb_X0_rota_53 (M : MM) (a0 : Nat) (x1 : Int32) (x2 : Int32) (x3 : Int32) (Post : Int32 → MM → Prop) : Prop :=
  ∃ b_27, mgR M a0 1 = some b_27 ∧ mkd M b_27 = 3 ∧ if (9915 : Int32) < (mgI M b_27 2) then (Post (-1 : Int32) M)
  else (if x2 ≤ (mgI M a0 7) then (∀ M_32, M_32 = msI M a0 7 (0 : Int32) → ∀ b_36, b_36 = msz M_32 → ∀ M_38, M_38 = mnw M_32 15 0 → wp_X17_init M_38 b_36 a0 x2 (fun M_40 => wp_X17_read M_40 b_36 (fun r_44 M_43 => if r_44 < 0 then (Post r_44 M_43)
  else (if x3 = 0 then (Post r_44 M_43)
  else (if x3 < (10 : Int32) then (∃ b_49, mgR M_43 a0 2 = some b_49 ∧ mkd M_43 b_49 = 3 ∧ ∃ b_52, mgR M_43 a0 1 = some b_52 ∧ mkd M_43 b_52 = 3 ∧ wp_X3_takes M_43 b_49 b_52 (fun r_56 M_55 => ∃ b_58, r_56 = some b_58 ∧ mkd M_55 b_58 = 3 ∧ ∃ b_61, mgR M_55 a0 2 = some b_61 ∧ mkd M_55 b_61 = 3 ∧ ∃ b_64, mgR M_55 b_61 0 = some b_64 ∧ mkd M_55 b_64 = 103 ∧ vp_in x1 (mln M_55 b_64) ∧ ∃ b_68, mgR M_55 b_64 (ix_ x1) = some b_68 ∧ mkd M_55 b_68 = 4 ∧ ∃ n_107, wl_X0_rota_158 a0 x1 x3 b_36 r_44 b_68
    (fun (M_108 : MM) (x7_110 : Int32) => wb_X0_rota_237 M_108 x3 b_68 x7_110 Post) n_107 M_55 (-2 : Int32) (0 : Int32)))
  else (wp_X0_daysOf M_43 a0 b_36 (x3 - (10 : Int32)) (fun r_113 M_112 => Post r_113 M_112)))))))
  else (Post (-1 : Int32) M))
def wp_X0_rota (M : MM) (a0 : Nat) (x1 : Int32) (x2 : Int32) (x3 : Int32) (Post : Int32 → MM → Prop) : Prop :=
  wp_X0_isPlant M a0 x1 (fun r_2 M_1 => if r_2 = 0 then (Post (-1 : Int32) M_1)
  else (∃ b_5, mgR M_1 a0 1 = some b_5 ∧ mkd M_1 b_5 = 3 ∧ ∃ b_8, mgR M_1 b_5 0 = some b_8 ∧ mkd M_1 b_8 = 103 ∧ vp_in x1 (mln M_1 b_8) ∧ ∃ b_12, mgR M_1 b_8 (ix_ x1) = some b_12 ∧ mkd M_1 b_12 = 4 ∧ wp_X4_isDead M_1 b_12 (fun r_16 M_15 => if r_16 = 0 then (wp_X0_within M_15 x2 (1 : Int32) (90 : Int32) (fun r_20 M_19 => if r_20 = 0 then (Post (-1 : Int32) M_19)
  else (wp_X0_in M_19 x3 (3 : Int32) (fun r_24 M_23 => if r_24 = 0 then (wp_X0_in M_23 (x3 - (10 : Int32)) (8 : Int32) (fun r_116 M_115 => if r_116 = 0 then (Post (-1 : Int32) M_115)
  else (wb_X0_rota_53 M_115 a0 x1 x2 x3 Post)))
  else (wb_X0_rota_53 M_23 a0 x1 x2 x3 Post)))))
  else (Post (-1 : Int32) M_15))))
def wp_X0_costOf (M : MM) (a0 : Nat) (x1 : Int32) (Post : Int32 → MM → Prop) : Prop :=
  ∃ b_1, mgR M a0 0 = some b_1 ∧ mkd M b_1 = 2 ∧ ∃ b_4, mgR M a0 1 = some b_4 ∧ mkd M b_4 = 3 ∧ ∃ b_7, mgR M a0 1 = some b_7 ∧ mkd M b_7 = 3 ∧ wp_X3_toldPeople M b_7 (fun r_11 M_10 => wp_X2_of M_10 b_1 (mgI M b_4 2) r_11 (fun r_14 M_13 => ∃ b_16, r_14 = some b_16 ∧ mkd M_13 b_16 = 2 ∧ wp_X2_by M_13 b_16 x1 (0 : Int32) (0 : Int32) (fun r_20 M_19 => ∃ b_22, r_20 = some b_22 ∧ mkd M_19 b_22 = 2 ∧ wp_X2_tells M_19 b_22 (99 : Int32) (99 : Int32) (fun r_26 M_25 => Post r_26 M_25))))
def wp_X0_worthOf (M : MM) (a0 : Nat) (x1 : Int32) (Post : Int32 → MM → Prop) : Prop :=
  ∃ b_1, mgR M a0 0 = some b_1 ∧ mkd M b_1 = 2 ∧ ∃ b_4, mgR M a0 1 = some b_4 ∧ mkd M b_4 = 3 ∧ ∃ b_7, mgR M a0 1 = some b_7 ∧ mkd M b_7 = 3 ∧ wp_X3_toldPeople M b_7 (fun r_11 M_10 => wp_X2_of M_10 b_1 (mgI M b_4 2) r_11 (fun r_14 M_13 => ∃ b_16, r_14 = some b_16 ∧ mkd M_13 b_16 = 2 ∧ wp_X2_by M_13 b_16 x1 (0 : Int32) (0 : Int32) (fun r_20 M_19 => ∃ b_22, r_20 = some b_22 ∧ mkd M_19 b_22 = 2 ∧ wp_X2_tells M_19 b_22 (98 : Int32) (999 : Int32) (fun r_26 M_25 => Post r_26 M_25))))
def wb_X0_gainOf_13 (M : MM) (a0 : Nat) (x1 : Int32) (x2 : Int32) (xs0 : Int32) (Post : Int32 → MM → Prop) : Prop :=
  wp_X0_has M x1 x2 (fun r_3 M_2 => if r_3 = 0 then (Post (xs0 - (0 : Int32)) M_2)
  else (wp_X0_costOf M_2 a0 x2 (fun r_7 M_6 => Post (xs0 - r_7) M_6)))
def wp_X0_gainOf (M : MM) (a0 : Nat) (x1 : Int32) (x2 : Int32) (Post : Int32 → MM → Prop) : Prop :=
  if x1 = 0 then (wb_X0_gainOf_13 M a0 x1 x2 (0 : Int32) Post)
  else (wp_X0_worthOf M a0 x2 (fun r_10 M_9 => wb_X0_gainOf_13 M_9 a0 x1 x2 r_10 Post))
def wp_X0_isWorth (M : MM) (a0 : Nat) (x1 : Int32) (x2 : Int32) (x3 : Int32) (Post : Int32 → MM → Prop) : Prop :=
  wp_X0_powerOf M (10 : Int32) (x2 - (1 : Int32)) (fun r_2 M_1 => wp_X0_worthOf M_1 a0 x1 (fun r_5 M_4 => wp_X0_costOf M_4 a0 x1 (fun r_8 M_7 => wp_X0_worthOf M_7 a0 x1 (fun r_11 M_10 => wp_X0_powerOf M_10 ((10 : Int32) - x3) (x2 - (1 : Int32)) (fun r_14 M_13 => if (((r_5 - r_8).toInt64) * r_2) < (r_11.toInt64 * (r_2 - r_14)) then (Post (0 : Int32) M_13)
  else (Post (1 : Int32) M_13))))))
def wl_X0_alone_104 (a0 : Nat) (x1 : Int32) (x2 : Int32) (x3 : Int32) (x4 : Int32) (x5 : Int32) (X152 : MM → Int32 → Prop) : Nat → MM → Int32 → Int32 → Prop
  | 0, _, _, _ => False
  | n_ + 1, M, x6, x7 =>
  if x1 ≤ x7 then (X152 M x6)
  else (if x6 = 0 then (X152 M x6)
  else (wp_X0_gainOf M a0 (x5 ^^^ ((1 : Int32) <<< (x7 &&& 31))) x7 (fun r_14 M_13 => wp_X0_gainOf M_13 a0 x5 x7 (fun r_17 M_16 => if r_17 < r_14 then (∀ x7_20, x7_20 = x7 + 1 → wl_X0_alone_104 a0 x1 x2 x3 x4 x5 X152 n_ M_16 (0 : Int32) x7_20)
  else (∀ x7_22, x7_22 = x7 + 1 → wl_X0_alone_104 a0 x1 x2 x3 x4 x5 X152 n_ M_16 (1 : Int32) x7_22)))))
def wb_X0_alone_152 (M : MM) (a0 : Nat) (x1 : Int32) (x2 : Int32) (x3 : Int32) (x4 : Int32) (x5 : Int32) (x6 : Int32) (R : MM → Int32 → Int32 → Int32 → Prop) (X182 : MM → Int32 → Int32 → Prop) : Prop :=
  if x6 = 0 then (∀ x5_38, x5_38 = x5 + 1 → R M x3 x4 x5_38)
  else (if x3 = 0 then (∀ x3_34, x3_34 = x3 + 1 → ∀ x5_36, x5_36 = x5 + 1 → R M x3_34 x5 x5_36)
  else (∀ x3_30, x3_30 = x3 + 1 → ∀ x5_32, x5_32 = x5 + 1 → R M x3_30 x4 x5_32))
def wl_X0_alone_90 (a0 : Nat) (x1 : Int32) (x2 : Int32) (X182 : MM → Int32 → Int32 → Prop) : Nat → MM → Int32 → Int32 → Int32 → Prop
  | 0, _, _, _, _ => False
  | n_ + 1, M, x3, x4, x5 =>
  if ((1 : Int32) <<< (x1 &&& 31)) ≤ x5 then (X182 M x3 x4)
  else (∃ n_24, wl_X0_alone_104 a0 x1 x2 x3 x4 x5
    (fun (M_25 : MM) (x6_27 : Int32) => wb_X0_alone_152 M_25 a0 x1 x2 x3 x4 x5 x6_27 (wl_X0_alone_90 a0 x1 x2 X182 n_) X182) n_24 M (1 : Int32) (0 : Int32))
def wl_X0_alone_38 (a0 : Nat) (x1 : Int32) (x3 : Int32) (X65 : MM → Int32 → Prop) : Nat → MM → Int32 → Int32 → Prop
  | 0, _, _, _ => False
  | n_ + 1, M, x4, x5 =>
  if x1 ≤ x5 then (X65 M x4)
  else (if x4 = 0 then (X65 M x4)
  else (wp_X0_isWorth M a0 x5 x1 x3 (fun r_50 M_49 => ∀ x5_52, x5_52 = x5 + 1 → wl_X0_alone_38 a0 x1 x3 X65 n_ M_49 r_50 x5_52)))
def wb_X0_alone_65 (M : MM) (a0 : Nat) (x1 : Int32) (x3 : Int32) (x4 : Int32) (R : MM → Int32 → Prop) (X70 : MM → Int32 → Prop) (X78 : MM → Prop) : Prop :=
  if x4 = 0 then (∀ x3_59, x3_59 = x3 + (-1) → R M x3_59)
  else (X70 M x3)
def wl_X0_alone_28 (a0 : Nat) (x1 : Int32) (X70 : MM → Int32 → Prop) (X78 : MM → Prop) : Nat → MM → Int32 → Prop
  | 0, _, _ => False
  | n_ + 1, M, x3 =>
  if x3 < 0 then (X78 M)
  else (∃ n_54, wl_X0_alone_38 a0 x1 x3
    (fun (M_55 : MM) (x4_57 : Int32) => wb_X0_alone_65 M_55 a0 x1 x3 x4_57 (wl_X0_alone_28 a0 x1 X70 X78 n_) X70 X78) n_54 M (1 : Int32) (0 : Int32))
def wp_X0_alone (M : MM) (a0 : Nat) (x1 : Int32) (x2 : Int32) (Post : Int32 → MM → Prop) : Prop :=
  wp_X0_within M x1 (2 : Int32) (6 : Int32) (fun r_2 M_1 => if r_2 = 0 then (Post (-1 : Int32) M_1)
  else (wp_X0_in M_1 x2 (3 : Int32) (fun r_6 M_5 => if r_6 = 0 then (Post (-1 : Int32) M_5)
  else (if x2 = (2 : Int32) then (∃ n_61, wl_X0_alone_28 a0 x1
    (fun (M_62 : MM) (x3_64 : Int32) => Post x3_64 M_62)
    (fun (M_65 : MM) => Post (-2 : Int32) M_65) n_61 M_5 (10 : Int32))
  else (∃ n_40, wl_X0_alone_90 a0 x1 x2
    (fun (M_41 : MM) (x3_43 : Int32) (x4_44 : Int32) => if x2 = 0 then (Post x3_43 M_41)
  else (Post x4_44 M_41)) n_40 M_5 (0 : Int32) (-2 : Int32) (0 : Int32))))))
def wp_X0_fits (M : MM) (a0 : Nat) (x1 : Int32) (x2 : Int32) (x3 : Int32) (x4 : Int32) (Post : Int32 → MM → Prop) : Prop :=
  ∃ b_1, mgR M a0 4 = some b_1 ∧ mkd M b_1 = 102 ∧ vp_in x1 (mln M b_1) ∧ wp_J6_bitCount M x2 (fun r_6 M_5 => ∃ b_8, mgR M_5 a0 4 = some b_8 ∧ mkd M_5 b_8 = 102 ∧ vp_in (x1 + (1 : Int32)) (mln M_5 b_8) ∧ if (mx_ (0 : Int32) ((((mgI M b_1 (ix_ x1)) &&& (255 : Int32)) + (x3 * r_6)) - x4)) = ((mgI M_5 b_8 (ix_ (x1 + (1 : Int32)))) &&& (255 : Int32)) then (Post (1 : Int32) M_5)
  else (Post (0 : Int32) M_5))
def wb_X0_setsFor_35 (M : MM) (a0 : Nat) (x1 : Int32) (x2 : Int32) (x3 : Int32) (x4 : Int32) (x5 : Int32) (x6 : Int32) (x7 : Int32) (R : MM → Int32 → Int32 → Prop) (X58 : MM → Int32 → Prop) : Prop :=
  wp_X0_fits M a0 x1 x7 x4 x5 (fun r_7 M_6 => if r_7 = 0 then (∀ x7_10, x7_10 = x7 + 1 → R M_6 x6 x7_10)
  else (∀ x6_12, x6_12 = x6 + 1 → ∀ x7_14, x7_14 = x7 + 1 → R M_6 x6_12 x7_14))
def wl_X0_setsFor_6 (a0 : Nat) (x1 : Int32) (x2 : Int32) (x3 : Int32) (x4 : Int32) (x5 : Int32) (X58 : MM → Int32 → Prop) : Nat → MM → Int32 → Int32 → Prop
  | 0, _, _, _ => False
  | n_ + 1, M, x6, x7 =>
  if x2 < x7 then (X58 M x6)
  else (if (x7 &&& (x2 ^^^ (-1 : Int32))) = 0 then (if x3 = (-1 : Int32) then (wb_X0_setsFor_35 M a0 x1 x2 x3 x4 x5 x6 x7 (wl_X0_setsFor_6 a0 x1 x2 x3 x4 x5 X58 n_) X58)
  else (wp_X0_has M x7 x3 (fun r_17 M_16 => if r_17 = 0 then (wb_X0_setsFor_35 M_16 a0 x1 x2 x3 x4 x5 x6 x7 (wl_X0_setsFor_6 a0 x1 x2 x3 x4 x5 X58 n_) X58)
  else (∀ x7_20, x7_20 = x7 + 1 → wl_X0_setsFor_6 a0 x1 x2 x3 x4 x5 X58 n_ M_16 x6 x7_20))))
  else (∀ x7_3, x7_3 = x7 + 1 → wl_X0_setsFor_6 a0 x1 x2 x3 x4 x5 X58 n_ M x6 x7_3))
def wp_X0_setsFor (M : MM) (a0 : Nat) (x1 : Int32) (x2 : Int32) (x3 : Int32) (x4 : Int32) (x5 : Int32) (Post : Int32 → MM → Prop) : Prop :=
  ∃ n_22, wl_X0_setsFor_6 a0 x1 x2 x3 x4 x5
    (fun (M_23 : MM) (x6_25 : Int32) => Post x6_25 M_23) n_22 M (0 : Int32) (0 : Int32)
def wl_X0_whoDid_91 (a0 : Nat) (x1 : Int32) (x2 : Int32) (x3 : Int32) (x4 : Int32) (x5 : Int32) (X138 : MM → Int64 → Int32 → Prop) : Nat → MM → Int64 → Int32 → Int32 → Prop
  | 0, _, _, _, _ => False
  | n_ + 1, M, x6, x8, x9 =>
  if x1 ≤ x9 then (X138 M x6 x8)
  else (wp_X0_setsFor M a0 x9 x2 (-1 : Int32) x3 x4 (fun r_33 M_32 => ∀ x6_35, x6_35 = x6 * r_33.toInt64 → if r_33 = 0 then (if 0 ≤ x8 then (∀ x9_41, x9_41 = x9 + 1 → wl_X0_whoDid_91 a0 x1 x2 x3 x4 x5 X138 n_ M_32 x6_35 x8 x9_41)
  else (∀ x9_43, x9_43 = x9 + 1 → wl_X0_whoDid_91 a0 x1 x2 x3 x4 x5 X138 n_ M_32 x6_35 x9 x9_43))
  else (∀ x9_38, x9_38 = x9 + 1 → wl_X0_whoDid_91 a0 x1 x2 x3 x4 x5 X138 n_ M_32 x6_35 x8 x9_38)))
def wb_X0_whoDid_219 (M : MM) (a0 : Nat) (x1 : Int32) (x2 : Int32) (x3 : Int32) (x4 : Int32) (x6 : Int64) (x9 : Int32) (x10 : Int32) (x12 : Int32) (R : MM → Int32 → Int32 → Prop) (X232 : MM → Int32 → Prop) : Prop :=
  ∀ x12_55, x12_55 = x12 + 1 → R M (1 : Int32) x12_55
def wl_X0_whoDid_184 (a0 : Nat) (x1 : Int32) (x2 : Int32) (x3 : Int32) (x4 : Int32) (x6 : Int64) (x9 : Int32) (x10 : Int32) (X232 : MM → Int32 → Prop) : Nat → MM → Int32 → Int32 → Prop
  | 0, _, _, _ => False
  | n_ + 1, M, x11, x12 =>
  if x1 ≤ x12 then (X232 M x11)
  else (if x11 = 0 then (wp_X0_has M x2 x10 (fun r_58 M_57 => if r_58 = 0 then (∀ x12_61, x12_61 = x12 + 1 → wl_X0_whoDid_184 a0 x1 x2 x3 x4 x6 x9 x10 X232 n_ M_57 (0 : Int32) x12_61)
  else (wp_X0_setsFor M_57 a0 x12 x2 x10 x3 x4 (fun r_64 M_63 => if r_64 = 0 then (wb_X0_whoDid_219 M_63 a0 x1 x2 x3 x4 x6 x9 x10 x12 (wl_X0_whoDid_184 a0 x1 x2 x3 x4 x6 x9 x10 X232 n_) X232)
  else (∀ x12_67, x12_67 = x12 + 1 → wl_X0_whoDid_184 a0 x1 x2 x3 x4 x6 x9 x10 X232 n_ M_63 (0 : Int32) x12_67)))))
  else (wb_X0_whoDid_219 M a0 x1 x2 x3 x4 x6 x9 x10 x12 (wl_X0_whoDid_184 a0 x1 x2 x3 x4 x6 x9 x10 X232 n_) X232))
def wl_X0_whoDid_164 (a0 : Nat) (x1 : Int32) (x2 : Int32) (x3 : Int32) (x4 : Int32) (x6 : Int64) (X256 : MM → Int32 → Prop) : Nat → MM → Int32 → Int32 → Prop
  | 0, _, _, _ => False
  | n_ + 1, M, x9, x10 =>
  if (8 : Int32) ≤ x10 then (X256 M x9)
  else (if x6 ≤ (0 : Int64) then (X256 M x9)
  else (∃ n_69, wl_X0_whoDid_184 a0 x1 x2 x3 x4 x6 x9 x10
    (fun (M_70 : MM) (x11_72 : Int32) => if x11_72 = 0 then (∀ x9_74, x9_74 = x9 ||| (0 : Int32) → ∀ x10_76, x10_76 = x10 + 1 → wl_X0_whoDid_164 a0 x1 x2 x3 x4 x6 X256 n_ M_70 x9_74 x10_76)
  else (∀ x9_78, x9_78 = x9 ||| ((1 : Int32) <<< (x10 &&& 31)) → ∀ x10_80, x10_80 = x10 + 1 → wl_X0_whoDid_164 a0 x1 x2 x3 x4 x6 X256 n_ M_70 x9_78 x10_80)) n_69 M (0 : Int32) (0 : Int32)))
def wp_X0_whoDid (M : MM) (a0 : Nat) (x1 : Int32) (x2 : Int32) (x3 : Int32) (x4 : Int32) (x5 : Int32) (Post : Int64 → MM → Prop) : Prop :=
  wp_X0_within M x1 (1 : Int32) (6 : Int32) (fun r_2 M_1 => if r_2 = 0 then (Post (-1 : Int64) M_1)
  else (wp_X0_in M_1 x2 (256 : Int32) (fun r_6 M_5 => if r_6 = 0 then (Post (-1 : Int64) M_5)
  else (wp_J6_bitCount M_5 x2 (fun r_10 M_9 => wp_X0_within M_9 r_10 (1 : Int32) (5 : Int32) (fun r_13 M_12 => if r_13 = 0 then (Post (-1 : Int64) M_12)
  else (wp_X0_within M_12 x3 (1 : Int32) (9 : Int32) (fun r_17 M_16 => if r_17 = 0 then (Post (-1 : Int64) M_16)
  else (wp_X0_within M_16 x4 (0 : Int32) (9 : Int32) (fun r_21 M_20 => if r_21 = 0 then (Post (-1 : Int64) M_20)
  else (wp_X0_in M_20 x5 (3 : Int32) (fun r_25 M_24 => if r_25 = 0 then (Post (-1 : Int64) M_24)
  else (if (x1 + (1 : Int32)) ≤ (mgI M_24 a0 7) then (∀ M_29, M_29 = msI M_24 a0 7 (0 : Int32) → ∃ n_45, wl_X0_whoDid_91 a0 x1 x2 x3 x4 x5
    (fun (M_46 : MM) (x6_48 : Int64) (x8_49 : Int32) => if (2 : Int32) ≤ x5 then (∃ n_82, wl_X0_whoDid_164 a0 x1 x2 x3 x4 x6_48
    (fun (M_83 : MM) (x9_85 : Int32) => Post x9_85.toInt64 M_83) n_82 M_46 (0 : Int32) (0 : Int32))
  else (if x5 = 0 then (Post x6_48 M_46)
  else (Post x8_49.toInt64 M_46))) n_45 M_29 (1 : Int64) (-2 : Int32) (0 : Int32))
  else (Post (-1 : Int64) M_24))))))))))))))
def wl_X0_can_59 (a0 : Nat) (x1 : Int32) (x2 : Int32) (x3 : Int32) (x4 : Int32) (X81 : MM → Prop) (X91 : MM → Prop) : Nat → MM → Int32 → Prop
  | 0, _, _ => False
  | n_ + 1, M, x5 =>
  if x1 ≤ x5 then (X91 M)
  else (∃ b_21, mgR M a0 4 = some b_21 ∧ mkd M b_21 = 102 ∧ vp_in x5 (mln M b_21) ∧ wp_X0_within M (mgI M b_21 (ix_ x5)) (0 : Int32) (10 : Int32) (fun r_26 M_25 => if r_26 = 0 then (X81 M_25)
  else (∀ x5_29, x5_29 = x5 + 1 → wl_X0_can_59 a0 x1 x2 x3 x4 X81 X91 n_ M_25 x5_29)))
def wl_X0_can_111 (a0 : Nat) (x1 : Int32) (x2 : Int32) (x3 : Int32) (x4 : Int32) (x5 : Int64) (x7 : Int32) (X160 : MM → Int64 → Prop) : Nat → MM → Int64 → Int32 → Prop
  | 0, _, _, _ => False
  | n_ + 1, M, x8, x10 =>
  if x1 ≤ x10 then (X160 M x8)
  else (wp_X0_has M x7 x10 (fun r_39 M_38 => if r_39 = 0 then (∃ b_42, mgR M_38 a0 4 = some b_42 ∧ mkd M_38 b_42 = 102 ∧ vp_in x10 (mln M_38 b_42) ∧ ∀ x8_46, x8_46 = x8 * (((10 : Int32) - (mgI M_38 b_42 (ix_ x10))).toInt64) → ∀ x10_48, x10_48 = x10 + 1 → wl_X0_can_111 a0 x1 x2 x3 x4 x5 x7 X160 n_ M_38 x8_46 x10_48)
  else (∃ b_50, mgR M_38 a0 4 = some b_50 ∧ mkd M_38 b_50 = 102 ∧ vp_in x10 (mln M_38 b_50) ∧ ∀ x8_54, x8_54 = x8 * ((mgI M_38 b_50 (ix_ x10)).toInt64) → ∀ x10_56, x10_56 = x10 + 1 → wl_X0_can_111 a0 x1 x2 x3 x4 x5 x7 X160 n_ M_38 x8_54 x10_56)))
def wb_X0_can_191 (M : MM) (a0 : Nat) (x1 : Int32) (x2 : Int32) (x3 : Int32) (x4 : Int32) (x5 : Int64) (x7 : Int32) (x8 : Int64) (x10 : Int32) (xs0 : Int32) (R : MM → Int64 → Int32 → Prop) (X213 : MM → Int64 → Prop) : Prop :=
  ∀ x5_68, x5_68 = x5 + (x8 * ((x10 - xs0).toInt64)) → ∀ x7_70, x7_70 = x7 + 1 → R M x5_68 x7_70
def wl_X0_can_97 (a0 : Nat) (x1 : Int32) (x2 : Int32) (x3 : Int32) (x4 : Int32) (X213 : MM → Int64 → Prop) : Nat → MM → Int64 → Int32 → Prop
  | 0, _, _, _ => False
  | n_ + 1, M, x5, x7 =>
  if ((1 : Int32) <<< (x1 &&& 31)) ≤ x7 then (X213 M x5)
  else (∃ n_58, wl_X0_can_111 a0 x1 x2 x3 x4 x5 x7
    (fun (M_59 : MM) (x8_61 : Int64) => wp_J6_bitCount M_59 x7 (fun r_63 M_62 => ∀ x10_65, x10_65 = mx_ (0 : Int32) ((x2 * r_63) - x3) → if x7 = 0 then (wb_X0_can_191 M_62 a0 x1 x2 x3 x4 x5 x7 x8_61 x10_65 (0 : Int32) (wl_X0_can_97 a0 x1 x2 x3 x4 X213 n_) X213)
  else (wb_X0_can_191 M_62 a0 x1 x2 x3 x4 x5 x7 x8_61 x10_65 (mx_ (0 : Int32) (x2 - x3)) (wl_X0_can_97 a0 x1 x2 x3 x4 X213 n_) X213))) n_58 M (1 : Int64) (0 : Int32))
def wp_X0_can (M : MM) (a0 : Nat) (x1 : Int32) (x2 : Int32) (x3 : Int32) (x4 : Int32) (Post : Int64 → MM → Prop) : Prop :=
  wp_X0_within M x1 (1 : Int32) (6 : Int32) (fun r_2 M_1 => if r_2 = 0 then (Post (-1 : Int64) M_1)
  else (wp_X0_within M_1 x2 (1 : Int32) (9 : Int32) (fun r_6 M_5 => if r_6 = 0 then (Post (-1 : Int64) M_5)
  else (wp_X0_within M_5 x3 (0 : Int32) (60 : Int32) (fun r_10 M_9 => if r_10 = 0 then (Post (-1 : Int64) M_9)
  else (wp_X0_in M_9 x4 (2 : Int32) (fun r_14 M_13 => if r_14 = 0 then (Post (-1 : Int64) M_13)
  else (if x1 ≤ (mgI M_13 a0 7) then (∀ M_18, M_18 = msI M_13 a0 7 (0 : Int32) → ∃ n_31, wl_X0_can_59 a0 x1 x2 x3 x4
    (fun (M_32 : MM) => Post (-2 : Int64) M_32)
    (fun (M_34 : MM) => ∃ n_72, wl_X0_can_97 a0 x1 x2 x3 x4
    (fun (M_73 : MM) (x5_75 : Int64) => wp_X0_powerOf M_73 (10 : Int32) x1 (fun r_77 M_76 => wp_X0_divisor M_76 x5_75 r_77 (fun r_80 M_79 => if x4 = 0 then (¬ r_80 = 0 ∧ Post (x5_75 / r_80) M_79)
  else (¬ r_80 = 0 ∧ Post (r_77 / r_80) M_79)))) n_72 M_34 (0 : Int64) (0 : Int32)) n_31 M_18 (0 : Int32))
  else (Post (-1 : Int64) M_13)))))))))
def wp_X0_seed (M : MM) (a0 : Nat) (x1 : Int32) (Post : Int32 → MM → Prop) : Prop :=
  wp_X0_in M x1 (65536 : Int32) (fun r_2 M_1 => if r_2 = 0 then (Post (0 : Int32) M_1)
  else (∃ b_5, mgR M_1 a0 1 = some b_5 ∧ mkd M_1 b_5 = 3 ∧ ∀ M_8, M_8 = msI M_1 b_5 3 x1 → Post (1 : Int32) M_8))
def wl_X0_keep_33 (a2 : Nat) (x3 : Int32) (X71 : MM → Int32 → Prop) : Nat → MM → Int32 → Int32 → Prop
  | 0, _, _, _ => False
  | n_ + 1, M, x1, x4 =>
  if x3 ≤ x4 then (X71 M x1)
  else (vp_in x4 (mln M a2) ∧ ∃ b_25, mgR M a2 (ix_ x4) = some b_25 ∧ mkd M b_25 = 4 ∧ if (mgI M b_25 8) = 0 then (∀ x1_29, x1_29 = x1 + (0 : Int32) → ∀ x4_31, x4_31 = x4 + 1 → wl_X0_keep_33 a2 x3 X71 n_ M x1_29 x4_31)
  else (∀ x1_33, x1_33 = x1 + (mgI M b_25 2) → ∀ x4_35, x4_35 = x4 + 1 → wl_X0_keep_33 a2 x3 X71 n_ M x1_33 x4_35))
def wp_X0_keep (M : MM) (a0 : Nat) (Post : Int32 → MM → Prop) : Prop :=
  ∀ M_1, M_1 = msI M a0 8 (1 : Int32) → ∃ b_3, mgR M_1 a0 3 = some b_3 ∧ mkd M_1 b_3 = 3 ∧ ∃ b_6, mgR M_1 a0 1 = some b_6 ∧ mkd M_1 b_6 = 3 ∧ wp_X3_takes M_1 b_3 b_6 (fun r_10 M_9 => ∃ b_12, r_10 = some b_12 ∧ mkd M_9 b_12 = 3 ∧ ∃ b_15, mgR M_9 a0 1 = some b_15 ∧ mkd M_9 b_15 = 3 ∧ ∃ b_18, mgR M_9 b_15 0 = some b_18 ∧ mkd M_9 b_18 = 103 ∧ ∀ x3_21, x3_21 = nI (mln M_9 b_18) → ∃ n_37, wl_X0_keep_33 b_18 x3_21
    (fun (M_38 : MM) (x1_40 : Int32) => Post x1_40 M_38) n_37 M_9 (0 : Int32) (0 : Int32))
def wp_X0_undo (M : MM) (a0 : Nat) (Post : Int32 → MM → Prop) : Prop :=
  if (mgI M a0 8) = 0 then (Post (0 : Int32) M)
  else (∃ b_2, mgR M a0 1 = some b_2 ∧ mkd M b_2 = 3 ∧ ∃ b_5, mgR M a0 3 = some b_5 ∧ mkd M b_5 = 3 ∧ wp_X3_takes M b_2 b_5 (fun r_9 M_8 => ∃ b_11, r_9 = some b_11 ∧ mkd M_8 b_11 = 3 ∧ Post (1 : Int32) M_8))
def wl_X0_numberAt_4 (a0 : Nat) (x1 : Int32) (X35 : MM → Int32 → Prop) : Nat → MM → Int32 → Int32 → Prop
  | 0, _, _, _ => False
  | n_ + 1, M, x2, x3 =>
  if (4 : Int32) ≤ x3 then (X35 M x2)
  else (∃ b_2, mgR M a0 4 = some b_2 ∧ mkd M b_2 = 102 ∧ vp_in (((4 : Int32) * x1) + x3) (mln M b_2) ∧ ∀ x2_6, x2_6 = (x2 <<< ((8 : Int32) &&& 31)) ||| ((mgI M b_2 (ix_ (((4 : Int32) * x1) + x3))) &&& (255 : Int32)) → ∀ x3_8, x3_8 = x3 + 1 → wl_X0_numberAt_4 a0 x1 X35 n_ M x2_6 x3_8)
def wp_X0_numberAt (M : MM) (a0 : Nat) (x1 : Int32) (Post : Int32 → MM → Prop) : Prop :=
  ∃ n_10, wl_X0_numberAt_4 a0 x1
    (fun (M_11 : MM) (x2_13 : Int32) => Post x2_13 M_11) n_10 M (0 : Int32) (0 : Int32)
def wl_X0_check_38 (a0 : Nat) (x1 : Int32) (x2 : Int32) (X67 : MM → Int32 → Prop) (X75 : MM → Prop) : Nat → MM → Int32 → Prop
  | 0, _, _ => False
  | n_ + 1, M, x3 =>
  if x2 ≤ x3 then (X75 M)
  else (wp_X0_numberAt M a0 x3 (fun r_14 M_13 => ∃ b_16, mgR M_13 a0 1 = some b_16 ∧ mkd M_13 b_16 = 3 ∧ ∃ b_19, mgR M_13 b_16 0 = some b_19 ∧ mkd M_13 b_19 = 103 ∧ vp_in x1 (mln M_13 b_19) ∧ ∃ b_23, mgR M_13 b_19 (ix_ x1) = some b_23 ∧ mkd M_13 b_23 = 4 ∧ wp_X4_looked M_13 b_23 ((6 : Int32) - x3) (fun r_27 M_26 => if r_14 = r_27 then (∀ x3_30, x3_30 = x3 + 1 → wl_X0_check_38 a0 x1 x2 X67 X75 n_ M_26 x3_30)
  else (X67 M_26 x3))))
def wp_X0_check (M : MM) (a0 : Nat) (x1 : Int32) (x2 : Int32) (Post : Int32 → MM → Prop) : Prop :=
  wp_X0_isPlant M a0 x1 (fun r_2 M_1 => if r_2 = 0 then (Post (-2 : Int32) M_1)
  else (wp_X0_within M_1 x2 (0 : Int32) (7 : Int32) (fun r_6 M_5 => if r_6 = 0 then (Post (-2 : Int32) M_5)
  else (if x2 ≤ ((mgI M_5 a0 7) / (4 : Int32)) then (∀ M_10, M_10 = msI M_5 a0 7 (0 : Int32) → ∃ n_32, wl_X0_check_38 a0 x1 x2
    (fun (M_33 : MM) (x3_35 : Int32) => Post x3_35 M_33)
    (fun (M_36 : MM) => Post (-1 : Int32) M_36) n_32 M_10 (0 : Int32))
  else (Post (-2 : Int32) M_5)))))
def wl_X0_toldPeople_4 (a0 : Nat) (X34 : MM → Int32 → Prop) : Nat → MM → Int32 → Int32 → Prop
  | 0, _, _, _ => False
  | n_ + 1, M, x1, x2 =>
  if (8 : Int32) ≤ x2 then (X34 M x1)
  else (wp_X0_isPerson M a0 x2 (fun r_3 M_2 => if r_3 = 0 then (∀ x1_6, x1_6 = x1 ||| (0 : Int32) → ∀ x2_8, x2_8 = x2 + 1 → wl_X0_toldPeople_4 a0 X34 n_ M_2 x1_6 x2_8)
  else (∀ x1_10, x1_10 = x1 ||| ((1 : Int32) <<< (x2 &&& 31)) → ∀ x2_12, x2_12 = x2 + 1 → wl_X0_toldPeople_4 a0 X34 n_ M_2 x1_10 x2_12)))
def wp_X0_toldPeople (M : MM) (a0 : Nat) (Post : Int32 → MM → Prop) : Prop :=
  ∃ n_14, wl_X0_toldPeople_4 a0
    (fun (M_15 : MM) (x1_17 : Int32) => Post x1_17 M_15) n_14 M (0 : Int32) (0 : Int32)
def wl_X0_toldPlants_4 (a0 : Nat) (X33 : MM → Int32 → Prop) : Nat → MM → Int32 → Int32 → Prop
  | 0, _, _, _ => False
  | n_ + 1, M, x1, x2 =>
  if (4 : Int32) ≤ x2 then (X33 M x1)
  else (wp_X0_isPlant M a0 x2 (fun r_3 M_2 => if r_3 = 0 then (∀ x1_6, x1_6 = x1 ||| (0 : Int32) → ∀ x2_8, x2_8 = x2 + 1 → wl_X0_toldPlants_4 a0 X33 n_ M_2 x1_6 x2_8)
  else (∀ x1_10, x1_10 = x1 ||| ((1 : Int32) <<< (x2 &&& 31)) → ∀ x2_12, x2_12 = x2 + 1 → wl_X0_toldPlants_4 a0 X33 n_ M_2 x1_10 x2_12)))
def wp_X0_toldPlants (M : MM) (a0 : Nat) (Post : Int32 → MM → Prop) : Prop :=
  ∃ n_14, wl_X0_toldPlants_4 a0
    (fun (M_15 : MM) (x1_17 : Int32) => Post x1_17 M_15) n_14 M (0 : Int32) (0 : Int32)
def wp_X0_count (M : MM) (a0 : Nat) (x1 : Int32) (Post : Int32 → MM → Prop) : Prop :=
  wp_X0_in M (x1 - (10 : Int32)) (4 : Int32) (fun r_2 M_1 => if r_2 = 0 then (wp_X0_isPerson M_1 a0 (x1 - (20 : Int32)) (fun r_6 M_5 => if r_6 = 0 then (wp_X0_isPerson M_5 a0 (x1 - (30 : Int32)) (fun r_10 M_9 => if r_10 = 0 then (wp_X0_isPerson M_9 a0 (x1 - (40 : Int32)) (fun r_14 M_13 => if r_14 = 0 then (if x1 = 0 then (∃ b_18, mgR M_13 a0 1 = some b_18 ∧ mkd M_13 b_18 = 3 ∧ Post (mgI M_13 b_18 2) M_13)
  else (if x1 = 1 then (wp_X0_toldPlants M_13 a0 (fun r_23 M_22 => Post r_23 M_22))
  else (if x1 = 2 then (∃ b_26, mgR M_13 a0 1 = some b_26 ∧ mkd M_13 b_26 = 3 ∧ wp_X3_dead M_13 b_26 (fun r_30 M_29 => Post r_30 M_29))
  else (if x1 = 3 then (wp_X0_toldPeople M_13 a0 (fun r_34 M_33 => Post r_34 M_33))
  else (if x1 = 4 then (∃ b_37, mgR M_13 a0 6 = some b_37 ∧ mkd M_13 b_37 = 6 ∧ Post (mgI M_13 b_37 3) M_13)
  else (if x1 = 5 then (Post (mgI M_13 a0 7) M_13)
  else (if x1 = 6 then (∃ b_42, mgR M_13 a0 1 = some b_42 ∧ mkd M_13 b_42 = 3 ∧ Post (mgI M_13 b_42 3) M_13)
  else (Post (-1 : Int32) M_13))))))))
  else (∃ b_45, mgR M_13 a0 1 = some b_45 ∧ mkd M_13 b_45 = 3 ∧ ∃ b_48, mgR M_13 b_45 1 = some b_48 ∧ mkd M_13 b_48 = 104 ∧ vp_in (x1 - (40 : Int32)) (mln M_13 b_48) ∧ ∃ b_52, mgR M_13 b_48 (ix_ (x1 - (40 : Int32))) = some b_52 ∧ mkd M_13 b_52 = 5 ∧ Post (mgI M_13 b_52 2) M_13)))
  else (∃ b_55, mgR M_9 a0 1 = some b_55 ∧ mkd M_9 b_55 = 3 ∧ ∃ b_58, mgR M_9 b_55 1 = some b_58 ∧ mkd M_9 b_58 = 104 ∧ vp_in (x1 - (30 : Int32)) (mln M_9 b_58) ∧ ∃ b_62, mgR M_9 b_58 (ix_ (x1 - (30 : Int32))) = some b_62 ∧ mkd M_9 b_62 = 5 ∧ Post (mgI M_9 b_62 1) M_9)))
  else (∃ b_65, mgR M_5 a0 1 = some b_65 ∧ mkd M_5 b_65 = 3 ∧ ∃ b_68, mgR M_5 b_65 1 = some b_68 ∧ mkd M_5 b_68 = 104 ∧ vp_in (x1 - (20 : Int32)) (mln M_5 b_68) ∧ ∃ b_72, mgR M_5 b_68 (ix_ (x1 - (20 : Int32))) = some b_72 ∧ mkd M_5 b_72 = 5 ∧ Post (mgI M_5 b_72 0) M_5)))
  else (∃ b_75, mgR M_1 a0 5 = some b_75 ∧ mkd M_1 b_75 = 105 ∧ vp_in (x1 - (10 : Int32)) (mln M_1 b_75) ∧ if (mgR M_1 b_75 (ix_ (x1 - (10 : Int32)))) = none then (Post (0 : Int32) M_1)
  else (∃ b_80, mgR M_1 a0 5 = some b_80 ∧ mkd M_1 b_80 = 105 ∧ vp_in (x1 - (10 : Int32)) (mln M_1 b_80) ∧ ∃ b_84, (mgR M_1 b_80 (ix_ (x1 - (10 : Int32)))) = some b_84 ∧ mkd M_1 b_84 = 6 ∧ Post (mgI M_1 b_84 3) M_1)))
def SndK (D : DD) (l : Launch) (Rc : KT) (fd ld : Nat) : Prop := 230 ≤ fd ∧ 6000 ≤ ld ∧ ∀ {M : MM} {a : Nat} {x1 x2 x3 x4 : Int32} {P : MM → Prop}, mkd M a = 1 → Rc M a x1 x2 x3 x4 P → mMet D l yX0_laysWeek cX0_laysWeek 7 none { frames := fd, cells := 0, slots := 0, locals := ld } M [.ref a, .int x1, .int x2, .int x3, .int x4] (pV_ P)
def SndP (D : DD) (l : Launch) (Rc : KT) (fd ld : Nat) : Prop := 230 ≤ fd ∧ 6000 ≤ ld ∧ ∀ {M : MM} {a : Nat} {x1 x2 x3 x4 : Int32} {P : MM → Prop}, mkd M a = 1 → Rc M a x1 x2 x3 x4 P → mMet D l yX0_spreads cX0_spreads 8 none { frames := fd, cells := 0, slots := 0, locals := ld } M [.ref a, .int x1, .int x2, .int x3, .int x4] (pV_ P)

theorem hd_X0_laysWeek : mHd yX0_laysWeek 4 := ⟨by decide, by decide, by decide +kernel⟩
theorem hd_X0_spreads : mHd yX0_spreads 4 := ⟨by decide, by decide, by decide +kernel⟩
set_option maxHeartbeats 4000000 in
theorem B_X0_laysWeek_196 {E : mE} {Rc : KT} {fd ld : Nat} {M : MM} {a0 : Nat} {x1 : Int32} {x2 : Int32} {x3 : Int32} {x4 : Int32} {x5 : Int32} {as0 : Nat} {xs1 : Int32} {xs2 : Int32} {xs3 : Int32} {xs4 : Int32} {xs5 : Int32} {R : MM → Int32 → Prop} {X206 : MM → Prop} {Post : MM → Prop} (hRc : SndK E.2.1 E.1.2.1 Rc fd ld) (C : mC E yX0_laysWeek cX0_laysWeek 7 (none) { frames := fd + 2, cells := 0, slots := 0, locals := ld + 60 }) (hE : mEnd E { frames := fd + 2, cells := 0, slots := 0, locals := ld + 60 } (pV_ Post)) (k_a0 : mkd M a0 = 1) (k_as0 : mkd M as0 = 1) (h : wb_X0_laysWeek_196 Rc M a0 x1 x2 x3 x4 x5 as0 xs1 xs2 xs3 xs4 xs5 R X206) (hR : ∀ (M' : MM) (x5' : Int32), mMo M M' → mkd M' a0 = 1 → R M' x5' → mV E M' 0 0 91 [(0, .ref a0), (1, .int x1), (2, .int x2), (3, .int x3), (4, .int x4), (5, .int x5')] []) (hX206 : ∀ (M' : MM), mMo M M' → X206 M' → mV E M' 0 0 206 [] []) : mV E M 0 0 196 [(0, .ref a0), (1, .int x1), (2, .int x2), (3, .int x3), (4, .int x4), (5, .int x5)] [.int xs5, .int xs4, .int xs3, .int xs2, .int xs1, .ref as0] := by
  unfold wb_X0_laysWeek_196 at h
  have hb1 := hRc.1
  have hb2 := hRc.2.1
  refine r_iadd C dX0_laysWeek_196 (pc' := 197) rfl ?_
  refine r_callVv (As := [.int xs1, .int xs2, .int xs3, .int (xs4 + xs5)]) (rest := []) (Cn := RX0) (T := TX0) C k_as0 (by decide) vc_X0 (hRc.2.2 k_as0 h) (lw_V q1040 q1042 qs30 q105 q1043) rfl hd_X0_laysWeek rfl rfl (Nat.le_of_ble_eq_true rfl) (by dsimp only; omega) (by dsimp only; omega) rfl rfl (Nat.le_of_ble_eq_true rfl) (Nat.le_of_ble_eq_true rfl) dX0_laysWeek_197 (pc' := 200) rfl (fun M_71 h m_73 => ?_)
  obtain ⟨x5_74, e_75, h⟩ := bn_ h
  refine r_iinc C (lv' := [(5, .int x5_74), (0, .ref a0), (1, .int x1), (2, .int x2), (3, .int x3), (4, .int x4)]) dX0_laysWeek_200 (pc' := 203) rfl (j := 5) rfl x5_74 (by rw [e_75]; rfl) (Nat.le_of_ble_eq_true rfl) rfl ?_
  refine r_goto C dX0_laysWeek_203 (tgt := 91) (by decide) ?_
  refine r_sub (lv' := [(0, .ref a0), (1, .int x1), (2, .int x2), (3, .int x3), (4, .int x4), (5, .int x5_74)]) [1, 2, 3, 4, 5, 0] rfl ?_
  exact hR M_71 x5_74 m_73 (mMo.kd m_73 k_a0 (by decide)) h
set_option maxHeartbeats 4000000 in
theorem B_X0_laysWeek_143 {E : mE} {Rc : KT} {fd ld : Nat} {M : MM} {a0 : Nat} {x1 : Int32} {x2 : Int32} {x3 : Int32} {x4 : Int32} {x5 : Int32} {a6 : Nat} {R : MM → Int32 → Prop} {X206 : MM → Prop} {Post : MM → Prop} (hRc : SndK E.2.1 E.1.2.1 Rc fd ld) (C : mC E yX0_laysWeek cX0_laysWeek 7 (none) { frames := fd + 2, cells := 0, slots := 0, locals := ld + 60 }) (hE : mEnd E { frames := fd + 2, cells := 0, slots := 0, locals := ld + 60 } (pV_ Post)) (k_a0 : mkd M a0 = 1) (k_a6 : mkd M a6 = 3) (h : wb_X0_laysWeek_143 Rc M a0 x1 x2 x3 x4 x5 a6 R X206) (hR : ∀ (M' : MM) (x5' : Int32), mMo M M' → mkd M' a0 = 1 → R M' x5' → mV E M' 0 0 91 [(0, .ref a0), (1, .int x1), (2, .int x2), (3, .int x3), (4, .int x4), (5, .int x5')] []) (hX206 : ∀ (M' : MM), mMo M M' → X206 M' → mV E M' 0 0 206 [] []) : mV E M 0 0 143 [(0, .ref a0), (1, .int x1), (2, .int x2), (3, .int x3), (4, .int x4), (5, .int x5), (6, .ref a6)] [] := by
  unfold wb_X0_laysWeek_143 at h
  have hb1 := hRc.1
  have hb2 := hRc.2.1
  refine r_aload C dX0_laysWeek_143 (pc' := 145) rfl (j := 6) rfl ?_
  refine r_getfN C (Cn := RX3) (T := TX3) 0 k_a6 (by decide) vc_X3 in_X3 (by decide) (List.mem_of_getElem? (i := 0) rfl) dX0_laysWeek_145 (pc' := 148) rfl (v := va_rf (mgR M a6 0)) rfl ?_
  obtain ⟨b_49, e_50, k_51, h⟩ := h
  refine r_ref [] e_50 ?_
  refine r_iload_n C dX0_laysWeek_148 (pc' := 149) rfl (j := 1) rfl ?_
  obtain ⟨c_52, h⟩ := h
  refine r_aald C (t := 3) (j := (ix_ x1)) k_51 (by decide) rfl rfl c_52 rfl dX0_laysWeek_149 (pc' := 150) rfl ?_
  obtain ⟨b_53, e_54, k_55, h⟩ := h
  refine r_ref [] e_54 ?_
  refine r_aload C dX0_laysWeek_150 (pc' := 152) rfl (j := 6) rfl ?_
  refine r_iload_n C dX0_laysWeek_152 (pc' := 153) rfl (j := 1) rfl ?_
  refine r_callVNq (As := [.int x1]) (rest := [.ref b_53]) (Cn := RX3) (T := TX3) C k_a6 (by decide) vc_X3 (S_X3_at k_a6 h) q809 q108 (List.mem_of_getElem? (i := 1) rfl) q808 qs18 hd_X3_at rfl rfl (Nat.le_of_ble_eq_true rfl) (by dsimp only; omega) (by dsimp only; omega) rfl rfl (Nat.le_of_ble_eq_true rfl) (Nat.le_of_ble_eq_true rfl) dX0_laysWeek_153 (pc' := 156) rfl (fun r_57 M_56 h m_58 => ?_)
  obtain ⟨b_59, e_60, k_61, h⟩ := h
  refine r_ref [] e_60 ?_
  refine r_bipush C dX0_laysWeek_156 (pc' := 158) rfl (v := 101) rfl ?_
  refine r_bipush C dX0_laysWeek_158 (pc' := 160) rfl (v := 9) rfl ?_
  refine r_callVi (As := [.int (101 : Int32), .int (9 : Int32)]) (rest := [.ref b_53]) (Cn := RX2) (T := TX2) C k_61 (by decide) vc_X2 (S_X2_tells k_61 h) (lw_V q991 q893 q894 q107 q895) rfl hd_X2_tells rfl rfl (Nat.le_of_ble_eq_true rfl) (by dsimp only; omega) (by dsimp only; omega) rfl rfl (Nat.le_of_ble_eq_true rfl) (Nat.le_of_ble_eq_true rfl) dX0_laysWeek_160 (pc' := 163) rfl (fun r_63 M_62 h m_64 => ?_)
  refine r_callVv (As := [.int r_63]) (rest := []) (Cn := RX4) (T := TX4) C (mMo.kd m_64 (mMo.kd m_58 k_55 (by decide)) (by decide)) (by decide) vc_X4 (S_X4_dayEnds (mMo.kd m_64 (mMo.kd m_58 k_55 (by decide)) (by decide)) h) (lw_V q1031 q897 q898 q109 q899) rfl hd_X4_dayEnds rfl rfl (Nat.le_of_ble_eq_true rfl) (by dsimp only; omega) (by dsimp only; omega) rfl rfl (Nat.le_of_ble_eq_true rfl) (Nat.le_of_ble_eq_true rfl) dX0_laysWeek_163 (pc' := 166) rfl (fun M_65 h m_67 => ?_)
  refine r_aload C dX0_laysWeek_166 (pc' := 168) rfl (j := 6) rfl ?_
  refine r_dup C dX0_laysWeek_168 (pc' := 169) rfl rfl ?_
  refine r_getfN C (Cn := RX3) (T := TX3) 2 (mMo.kd m_67 (mMo.kd m_64 (mMo.kd m_58 k_a6 (by decide)) (by decide)) (by decide)) (by decide) vc_X3 in_X3 (by decide) (List.mem_of_getElem? (i := 20) rfl) dX0_laysWeek_169 (pc' := 172) rfl (v := .int (mgI M_65 a6 2)) rfl ?_
  refine r_iconst C dX0_laysWeek_172 (pc' := 173) rfl (v := 1) rfl ?_
  refine r_iadd C dX0_laysWeek_173 (pc' := 174) rfl ?_
  obtain ⟨M_68, e_69, h⟩ := bn_ h
  refine r_putIN C (Cn := RX3) (T := TX3) tyX3 2 (mMo.kd m_67 (mMo.kd m_64 (mMo.kd m_58 k_a6 (by decide)) (by decide)) (by decide)) (by decide) vc_X3 in_X3 tyX3_ok nmX3 (by decide) (List.mem_of_getElem? (i := 20) rfl) rfl rfl dX0_laysWeek_174 (pc' := 177) rfl rfl rfl M_68 e_69 ?_
  refine r_aload_n C dX0_laysWeek_177 (pc' := 178) rfl (j := 0) rfl ?_
  refine r_iload_n C dX0_laysWeek_178 (pc' := 179) rfl (j := 1) rfl ?_
  refine r_iload_n C dX0_laysWeek_179 (pc' := 180) rfl (j := 2) rfl ?_
  refine r_iload_n C dX0_laysWeek_180 (pc' := 181) rfl (j := 3) rfl ?_
  refine r_iconst C dX0_laysWeek_181 (pc' := 182) rfl (v := 1) rfl ?_
  refine r_iadd C dX0_laysWeek_182 (pc' := 183) rfl ?_
  refine r_iload C dX0_laysWeek_183 (pc' := 185) rfl (j := 4) rfl ?_
  refine r_iload C dX0_laysWeek_185 (pc' := 187) rfl (j := 5) rfl ?_
  refine r_iload_n C dX0_laysWeek_187 (pc' := 188) rfl (j := 2) rfl ?_
  refine r_icmp_ge C dX0_laysWeek_188 (pc' := 191) rfl (tgt := 195) (by decide) (fun c_70 => ?_) (fun c_70 => ?_)
  · have h := it_t h c_70
    refine r_iconst C dX0_laysWeek_195 (pc' := 196) rfl (v := 0) rfl ?_
    refine r_sub (lv' := [(0, .ref a0), (1, .int x1), (2, .int x2), (3, .int x3), (4, .int x4), (5, .int x5)]) [0, 1, 2, 3, 4, 5] rfl ?_
    exact B_X0_laysWeek_196 hRc C hE (mMo.kd (mo_I e_69) (mMo.kd m_67 (mMo.kd m_64 (mMo.kd m_58 k_a0 (by decide)) (by decide)) (by decide)) (by decide)) (mMo.kd (mo_I e_69) (mMo.kd m_67 (mMo.kd m_64 (mMo.kd m_58 k_a0 (by decide)) (by decide)) (by decide)) (by decide)) h (fun M8 v0 hm8 g0 h8 => hR M8 v0 (mMo.tr (mMo.tr (mMo.tr (mMo.tr m_58 m_64) m_67) (mo_I e_69)) hm8) g0 h8) (fun M9 hm9 h9 => hX206 M9 (mMo.tr (mMo.tr (mMo.tr (mMo.tr m_58 m_64) m_67) (mo_I e_69)) hm9) h9)
  · have h := it_f h c_70
    refine r_iconst C dX0_laysWeek_191 (pc' := 192) rfl (v := 1) rfl ?_
    refine r_goto C dX0_laysWeek_192 (tgt := 196) (by decide) ?_
    refine r_sub (lv' := [(0, .ref a0), (1, .int x1), (2, .int x2), (3, .int x3), (4, .int x4), (5, .int x5)]) [0, 1, 2, 3, 4, 5] rfl ?_
    exact B_X0_laysWeek_196 hRc C hE (mMo.kd (mo_I e_69) (mMo.kd m_67 (mMo.kd m_64 (mMo.kd m_58 k_a0 (by decide)) (by decide)) (by decide)) (by decide)) (mMo.kd (mo_I e_69) (mMo.kd m_67 (mMo.kd m_64 (mMo.kd m_58 k_a0 (by decide)) (by decide)) (by decide)) (by decide)) h (fun M8 v0 hm8 g0 h8 => hR M8 v0 (mMo.tr (mMo.tr (mMo.tr (mMo.tr m_58 m_64) m_67) (mo_I e_69)) hm8) g0 h8) (fun M9 hm9 h9 => hX206 M9 (mMo.tr (mMo.tr (mMo.tr (mMo.tr m_58 m_64) m_67) (mo_I e_69)) hm9) h9)
set_option maxHeartbeats 4000000 in
theorem B_X0_laysWeek_91 {E : mE} {Rc : KT} {fd ld : Nat} {a0 : Nat} {x1 : Int32} {x2 : Int32} {x3 : Int32} {x4 : Int32} {X206 : MM → Prop} {Post : MM → Prop} (hRc : SndK E.2.1 E.1.2.1 Rc fd ld) (C : mC E yX0_laysWeek cX0_laysWeek 7 (none) { frames := fd + 2, cells := 0, slots := 0, locals := ld + 60 }) (hE : mEnd E { frames := fd + 2, cells := 0, slots := 0, locals := ld + 60 } (pV_ Post)) : ∀ (n_ : Nat) (M : MM) (x5 : Int32), mkd M a0 = 1 → wl_X0_laysWeek_91 Rc a0 x1 x2 x3 x4 X206 n_ M x5 → (∀ (M' : MM), mMo M M' → X206 M' → mV E M' 0 0 206 [] []) → mV E M 0 0 91 [(0, .ref a0), (1, .int x1), (2, .int x2), (3, .int x3), (4, .int x4), (5, .int x5)] [] := by
  intro n_
  induction n_ with
  | zero =>
    intro M x5 k_a0 h hX206
    exact absurd h (by rw [wl_X0_laysWeek_91]; exact fun q => q)
  | succ n_ ih =>
    intro M x5 k_a0 h hX206
    rw [wl_X0_laysWeek_91] at h
    have hb1 := hRc.1
    have hb2 := hRc.2.1
    refine r_iload C dX0_laysWeek_91 (pc' := 93) rfl (j := 5) rfl ?_
    refine r_iload_n C dX0_laysWeek_93 (pc' := 94) rfl (j := 2) rfl ?_
    refine r_icmp_gt C dX0_laysWeek_94 (pc' := 97) rfl (tgt := 206) (by decide) (fun c_21 => ?_) (fun c_21 => ?_)
    · have h := it_t h c_21
      refine r_sub (lv' := []) [] rfl ?_
      exact hX206 M mMo.rf h
    · have h := it_f h c_21
      refine r_aload_n C dX0_laysWeek_97 (pc' := 98) rfl (j := 0) rfl ?_
      refine r_getf C (Cn := RX0) (T := TX0) 27 k_a0 (by decide) vc_X0 in_X0 (by decide) q381 dX0_laysWeek_98 (pc' := 101) rfl (v := va_rf (mgR M a0 27)) rfl ?_
      obtain ⟨b_22, e_23, k_24, h⟩ := h
      refine r_ref [] e_23 ?_
      refine r_iload_n C dX0_laysWeek_101 (pc' := 102) rfl (j := 3) rfl ?_
      refine r_iconst C dX0_laysWeek_102 (pc' := 103) rfl (v := 1) rfl ?_
      refine r_iadd C dX0_laysWeek_103 (pc' := 104) rfl ?_
      obtain ⟨c_25, h⟩ := h
      refine r_aald C (t := 8) (j := (ix_ (x3 + (1 : Int32)))) k_24 (by decide) rfl rfl c_25 rfl dX0_laysWeek_104 (pc' := 105) rfl ?_
      obtain ⟨b_26, e_27, k_28, h⟩ := h
      refine r_ref [] e_27 ?_
      refine r_aload_n C dX0_laysWeek_105 (pc' := 106) rfl (j := 0) rfl ?_
      refine r_getf C (Cn := RX0) (T := TX0) 27 k_a0 (by decide) vc_X0 in_X0 (by decide) q381 dX0_laysWeek_106 (pc' := 109) rfl (v := va_rf (mgR M a0 27)) rfl ?_
      obtain ⟨b_29, e_30, k_31, h⟩ := h
      refine r_ref [] e_30 ?_
      refine r_iload_n C dX0_laysWeek_109 (pc' := 110) rfl (j := 3) rfl ?_
      obtain ⟨c_32, h⟩ := h
      refine r_aald C (t := 8) (j := (ix_ x3)) k_31 (by decide) rfl rfl c_32 rfl dX0_laysWeek_110 (pc' := 111) rfl ?_
      obtain ⟨b_33, e_34, k_35, h⟩ := h
      refine r_ref [] e_34 ?_
      refine r_callVq (As := [.ref b_33]) (rest := []) (Cn := RX3) (T := TX3) C k_28 (by decide) vc_X3 (S_X3_takes k_28 k_35 h) (lw_V q908 q909 q910 q108 q911) rfl hd_X3_takes rfl rfl (Nat.le_of_ble_eq_true rfl) (by dsimp only; omega) (by dsimp only; omega) rfl rfl (Nat.le_of_ble_eq_true rfl) (Nat.le_of_ble_eq_true rfl) dX0_laysWeek_111 (pc' := 114) rfl (fun r_37 M_36 h m_38 => ?_)
      obtain ⟨b_39, e_40, k_41, h⟩ := h
      refine r_ref [] e_40 ?_
      refine r_astore C (lv' := [(6, .ref b_39), (0, .ref a0), (1, .int x1), (2, .int x2), (3, .int x3), (4, .int x4), (5, .int x5)]) dX0_laysWeek_114 (pc' := 116) rfl b_39 rfl (Nat.le_of_ble_eq_true rfl) rfl ?_
      refine r_aload_n C dX0_laysWeek_116 (pc' := 117) rfl (j := 1) rfl ?_
      refine r_getf C (Cn := RX0) (T := TX0) 23 (mMo.kd m_38 k_a0 (by decide)) (by decide) vc_X0 in_X0 (by decide) q377 dX0_laysWeek_117 (pc' := 120) rfl (v := va_rf (mgR M_36 a0 23)) rfl ?_
      obtain ⟨b_42, e_43, k_44, h⟩ := h
      refine r_ref [] e_43 ?_
      refine r_iload_n C dX0_laysWeek_120 (pc' := 121) rfl (j := 4) rfl ?_
      refine r_iload C dX0_laysWeek_121 (pc' := 123) rfl (j := 6) rfl ?_
      obtain ⟨c_45, h⟩ := h
      obtain ⟨M_46, e_47, h⟩ := bn_ h
      refine r_iast C (j := (ix_ x3)) k_44 c_45 rfl dX0_laysWeek_123 (pc' := 124) rfl M_46 e_47 ?_
      refine r_iload C dX0_laysWeek_124 (pc' := 126) rfl (j := 6) rfl ?_
      refine r_iload_n C dX0_laysWeek_126 (pc' := 127) rfl (j := 3) rfl ?_
      refine r_icmp_ge C dX0_laysWeek_127 (pc' := 130) rfl (tgt := 143) (by decide) (fun c_48 => ?_) (fun c_48 => ?_)
      · have h := it_t h c_48
        refine r_sub (lv' := [(0, .ref a0), (1, .int x1), (2, .int x2), (3, .int x3), (4, .int x4), (5, .int x5), (6, .ref b_39)]) [1, 2, 3, 4, 5, 6, 0] rfl ?_
        exact B_X0_laysWeek_143 hRc C hE (mMo.kd (mo_I e_47) (mMo.kd m_38 k_a0 (by decide)) (by decide)) (mMo.kd (mo_I e_47) k_41 (by decide)) h (fun M8 v0 hm8 g0 h8 => ih M8 v0 g0 h8 (fun M9 hm9 h9 => hX206 M9 (mMo.tr (mMo.tr (mMo.tr m_38 (mo_I e_47)) hm8) hm9) h9)) (fun M9 hm9 h9 => hX206 M9 (mMo.tr (mMo.tr m_38 (mo_I e_47)) hm9) h9)
      · have h := it_f h c_48
        refine r_aload C dX0_laysWeek_130 (pc' := 132) rfl (j := 0) rfl ?_
        refine r_aload_n C dX0_laysWeek_132 (pc' := 133) rfl (j := 1) rfl ?_
        refine r_getf C (Cn := RX0) (T := TX0) 11 (mMo.kd (mo_I e_47) (mMo.kd m_38 k_a0 (by decide)) (by decide)) (by decide) vc_X0 in_X0 (by decide) q365 dX0_laysWeek_133 (pc' := 136) rfl (v := va_rf (mgR M_46 a0 11)) rfl ?_
        obtain ⟨b_76, e_77, k_78, h⟩ := h
        refine r_ref [] e_77 ?_
        refine r_iload C dX0_laysWeek_136 (pc' := 138) rfl (j := 6) rfl ?_
        obtain ⟨c_79, h⟩ := h
        refine r_iald C (j := (ix_ x5)) k_78 c_79 rfl dX0_laysWeek_138 (pc' := 139) rfl ?_
        refine r_iload_n C dX0_laysWeek_139 (pc' := 140) rfl (j := 2) rfl ?_
        refine r_callVv (As := [.int (mgI M_46 b_76 (ix_ x5)), .int x1]) (rest := []) (Cn := RX3) (T := TX3) C (mMo.kd (mo_I e_47) k_41 (by decide)) (by decide) vc_X3 (S_X3_waters (mMo.kd (mo_I e_47) k_41 (by decide)) h) (lw_V q1044 q798 q799 q108 q800) rfl hd_X3_waters rfl rfl (Nat.le_of_ble_eq_true rfl) (by dsimp only; omega) (by dsimp only; omega) rfl rfl (Nat.le_of_ble_eq_true rfl) (Nat.le_of_ble_eq_true rfl) dX0_laysWeek_140 (pc' := 143) rfl (fun M_80 h m_82 => ?_)
        refine r_sub (lv' := [(0, .ref a0), (1, .int x1), (2, .int x2), (3, .int x3), (4, .int x4), (5, .int x5), (6, .ref b_39)]) [1, 2, 3, 4, 5, 6, 0] rfl ?_
        exact B_X0_laysWeek_143 hRc C hE (mMo.kd m_82 (mMo.kd (mo_I e_47) (mMo.kd m_38 k_a0 (by decide)) (by decide)) (by decide)) (mMo.kd m_82 (mMo.kd (mo_I e_47) k_41 (by decide)) (by decide)) h (fun M8 v0 hm8 g0 h8 => ih M8 v0 g0 h8 (fun M9 hm9 h9 => hX206 M9 (mMo.tr (mMo.tr (mMo.tr (mMo.tr m_38 (mo_I e_47)) m_82) hm8) hm9) h9)) (fun M9 hm9 h9 => hX206 M9 (mMo.tr (mMo.tr (mMo.tr m_38 (mo_I e_47)) m_82) hm9) h9)
set_option maxHeartbeats 4000000 in
theorem B_X0_laysWeek_60 {E : mE} {Rc : KT} {fd ld : Nat} {a0 : Nat} {X87 : MM → Prop} {Post : MM → Prop} (hRc : SndK E.2.1 E.1.2.1 Rc fd ld) (C : mC E yX0_laysWeek cX0_laysWeek 7 (none) { frames := fd + 2, cells := 0, slots := 0, locals := ld + 60 }) (hE : mEnd E { frames := fd + 2, cells := 0, slots := 0, locals := ld + 60 } (pV_ Post)) : ∀ (n_ : Nat) (M : MM) (x5 : Int32), mkd M a0 = 1 → wl_X0_laysWeek_60 Rc a0 X87 n_ M x5 → (∀ (M' : MM), mMo M M' → X87 M' → mV E M' 0 0 87 [] []) → mV E M 0 0 60 [(0, .ref a0), (5, .int x5)] [] := by
  intro n_
  induction n_ with
  | zero =>
    intro M x5 k_a0 h hX87
    exact absurd h (by rw [wl_X0_laysWeek_60]; exact fun q => q)
  | succ n_ ih =>
    intro M x5 k_a0 h hX87
    rw [wl_X0_laysWeek_60] at h
    have hb1 := hRc.1
    have hb2 := hRc.2.1
    refine r_iload C dX0_laysWeek_60 (pc' := 62) rfl (j := 1) rfl ?_
    refine r_bipush C dX0_laysWeek_62 (pc' := 64) rfl (v := 7) rfl ?_
    refine r_icmp_ge C dX0_laysWeek_64 (pc' := 67) rfl (tgt := 87) (by decide) (fun c_104 => ?_) (fun c_104 => ?_)
    · have h := it_t h c_104
      refine r_sub (lv' := []) [] rfl ?_
      exact hX87 M mMo.rf h
    · have h := it_f h c_104
      refine r_aload_n C dX0_laysWeek_67 (pc' := 68) rfl (j := 0) rfl ?_
      refine r_getf C (Cn := RX0) (T := TX0) 24 k_a0 (by decide) vc_X0 in_X0 (by decide) q378 dX0_laysWeek_68 (pc' := 71) rfl (v := va_rf (mgR M a0 24)) rfl ?_
      obtain ⟨b_105, e_106, k_107, h⟩ := h
      refine r_ref [] e_106 ?_
      refine r_iload C dX0_laysWeek_71 (pc' := 73) rfl (j := 1) rfl ?_
      refine r_aload_n C dX0_laysWeek_73 (pc' := 74) rfl (j := 0) rfl ?_
      refine r_getf C (Cn := RX0) (T := TX0) 23 k_a0 (by decide) vc_X0 in_X0 (by decide) q377 dX0_laysWeek_74 (pc' := 77) rfl (v := va_rf (mgR M a0 23)) rfl ?_
      obtain ⟨b_108, e_109, k_110, h⟩ := h
      refine r_ref [] e_109 ?_
      refine r_iload C dX0_laysWeek_77 (pc' := 79) rfl (j := 1) rfl ?_
      obtain ⟨c_111, h⟩ := h
      refine r_iald C (j := (ix_ x5)) k_110 c_111 rfl dX0_laysWeek_79 (pc' := 80) rfl ?_
      obtain ⟨c_112, h⟩ := h
      obtain ⟨M_113, e_114, h⟩ := bn_ h
      refine r_iast C (j := (ix_ x5)) k_107 c_112 rfl dX0_laysWeek_80 (pc' := 81) rfl M_113 e_114 ?_
      obtain ⟨x5_115, e_116, h⟩ := bn_ h
      refine r_iinc C (lv' := [(5, .int x5_115), (0, .ref a0)]) dX0_laysWeek_81 (pc' := 84) rfl (j := 1) rfl x5_115 (by rw [e_116]; rfl) (Nat.le_of_ble_eq_true rfl) rfl ?_
      refine r_goto C dX0_laysWeek_84 (tgt := 60) (by decide) ?_
      refine r_sub (lv' := [(0, .ref a0), (5, .int x5_115)]) [1, 0] rfl ?_
      exact ih M_113 x5_115 (mMo.kd (mo_I e_114) k_a0 (by decide)) h (fun M9 hm9 h9 => hX87 M9 (mMo.tr (mo_I e_114) hm9) h9)
set_option maxHeartbeats 4000000 in
theorem S_X0_laysWeek {D : DD} {l : Launch} {Rc : KT} {fd ld : Nat} (hRc : SndK D l Rc fd ld) {M : MM} {a0 : Nat} {x1 : Int32} {x2 : Int32} {x3 : Int32} {x4 : Int32} {Post : MM → Prop} (k_a0 : mkd M a0 = 1) (h : wp_X0_laysWeek Rc M a0 x1 x2 x3 x4 Post) : mMet D l yX0_laysWeek cX0_laysWeek 7 (none) { frames := fd + 2, cells := 0, slots := 0, locals := ld + 60 } M [.ref a0, .int x1, .int x2, .int x3, .int x4] (pV_ Post) := by
  refine m_of2 [(0, .ref a0), (1, .int x1), (2, .int x2), (3, .int x3), (4, .int x4)] (by decide +kernel) (Nat.le_of_ble_eq_true rfl) rfl (fun E hED hEl C hE => ?_)
  subst hED
  subst hEl
  unfold wp_X0_laysWeek at h
  have hb1 := hRc.1
  have hb2 := hRc.2.1
  refine r_iload C dX0_laysWeek_0 (pc' := 2) rfl (j := 4) rfl ?_
  refine r_aload_n C dX0_laysWeek_2 (pc' := 3) rfl (j := 0) rfl ?_
  refine r_getf C (Cn := RX0) (T := TX0) 25 k_a0 (by decide) vc_X0 in_X0 (by decide) q379 dX0_laysWeek_3 (pc' := 6) rfl (v := .int (mgI M a0 25)) rfl ?_
  refine r_icmp_ge C dX0_laysWeek_6 (pc' := 9) rfl (tgt := 26) (by decide) (fun c_1 => ?_) (fun c_1 => ?_)
  · have h := it_t h c_1
    exact r_vret C hE (Nat.le_of_ble_eq_true rfl) (Nat.le_of_ble_eq_true rfl) dX0_laysWeek_26 ⟨rfl, h⟩
  · have h := it_f h c_1
    refine r_aload_n C dX0_laysWeek_9 (pc' := 10) rfl (j := 0) rfl ?_
    refine r_getf C (Cn := RX0) (T := TX0) 27 k_a0 (by decide) vc_X0 in_X0 (by decide) q381 dX0_laysWeek_10 (pc' := 13) rfl (v := va_rf (mgR M a0 27)) rfl ?_
    obtain ⟨b_2, e_3, k_4, h⟩ := h
    refine r_ref [] e_3 ?_
    refine r_iload_n C dX0_laysWeek_13 (pc' := 14) rfl (j := 3) rfl ?_
    obtain ⟨c_5, h⟩ := h
    refine r_aald C (t := 8) (j := (ix_ x3)) k_4 (by decide) rfl rfl c_5 rfl dX0_laysWeek_14 (pc' := 15) rfl ?_
    obtain ⟨b_6, e_7, k_8, h⟩ := h
    refine r_ref [] e_7 ?_
    refine r_getfN C (Cn := RX3) (T := TX3) 0 k_8 (by decide) vc_X3 in_X3 (by decide) (List.mem_of_getElem? (i := 0) rfl) dX0_laysWeek_15 (pc' := 18) rfl (v := va_rf (mgR M b_6 0)) rfl ?_
    obtain ⟨b_9, e_10, k_11, h⟩ := h
    refine r_ref [] e_10 ?_
    refine r_iload_n C dX0_laysWeek_18 (pc' := 19) rfl (j := 1) rfl ?_
    obtain ⟨c_12, h⟩ := h
    refine r_aald C (t := 3) (j := (ix_ x1)) k_11 (by decide) rfl rfl c_12 rfl dX0_laysWeek_19 (pc' := 20) rfl ?_
    obtain ⟨b_13, e_14, k_15, h⟩ := h
    refine r_ref [] e_14 ?_
    refine r_callVi (As := []) (rest := []) (Cn := RX4) (T := TX4) C k_15 (by decide) vc_X4 (S_X4_isDead k_15 h) (lw_V q481 q482 q483 q109 q484) rfl hd_X4_isDead rfl rfl (Nat.le_of_ble_eq_true rfl) (by dsimp only; omega) (by dsimp only; omega) rfl rfl (Nat.le_of_ble_eq_true rfl) (Nat.le_of_ble_eq_true rfl) dX0_laysWeek_20 (pc' := 23) rfl (fun r_17 M_16 h m_18 => ?_)
    refine r_if_eq C dX0_laysWeek_23 (pc' := 26) rfl (tgt := 27) (by decide) (fun c_19 => ?_) (fun c_19 => ?_)
    · have h := it_t h c_19
      refine r_iload_n C dX0_laysWeek_27 (pc' := 28) rfl (j := 3) rfl ?_
      refine r_bipush C dX0_laysWeek_28 (pc' := 30) rfl (v := 7) rfl ?_
      refine r_icmp_ne C dX0_laysWeek_30 (pc' := 33) rfl (tgt := 88) (by decide) (fun c_20 => ?_) (fun c_20 => ?_)
      · have h := it_f h c_20
        refine r_iconst C dX0_laysWeek_88 (pc' := 89) rfl (v := 0) rfl ?_
        refine r_istore C (lv' := [(5, .int (0 : Int32)), (0, .ref a0), (1, .int x1), (2, .int x2), (3, .int x3), (4, .int x4)]) dX0_laysWeek_89 (pc' := 91) rfl (0 : Int32) rfl (Nat.le_of_ble_eq_true rfl) rfl ?_
        obtain ⟨n_83, h⟩ := h
        refine r_sub (lv' := [(0, .ref a0), (1, .int x1), (2, .int x2), (3, .int x3), (4, .int x4), (5, .int (0 : Int32))]) [1, 2, 3, 4, 5, 0] rfl ?_
        refine B_X0_laysWeek_91 hRc C hE n_83 M_16 (0 : Int32) (mMo.kd m_18 k_a0 (by decide)) h (fun M_84 m_85 h => ?_)
        exact r_vret C hE (Nat.le_of_ble_eq_true rfl) (Nat.le_of_ble_eq_true rfl) dX0_laysWeek_206 ⟨rfl, h⟩
      · have h := it_t h c_20
        refine r_aload_n C dX0_laysWeek_33 (pc' := 34) rfl (j := 0) rfl ?_
        refine r_iload C dX0_laysWeek_34 (pc' := 36) rfl (j := 4) rfl ?_
        obtain ⟨M_86, e_87, h⟩ := bn_ h
        refine r_putI C (Cn := RX0) (T := TX0) tyX0 25 (mMo.kd m_18 k_a0 (by decide)) (by decide) vc_X0 in_X0 tyX0_ok nmX0 (by decide) q379 rfl rfl dX0_laysWeek_36 (pc' := 39) rfl rfl rfl M_86 e_87 ?_
        refine r_aload_n C dX0_laysWeek_39 (pc' := 40) rfl (j := 0) rfl ?_
        refine r_aload_n C dX0_laysWeek_40 (pc' := 41) rfl (j := 0) rfl ?_
        refine r_getf C (Cn := RX0) (T := TX0) 27 (mMo.kd (mo_I e_87) (mMo.kd m_18 k_a0 (by decide)) (by decide)) (by decide) vc_X0 in_X0 (by decide) q381 dX0_laysWeek_41 (pc' := 44) rfl (v := va_rf (mgR M_86 a0 27)) rfl ?_
        obtain ⟨b_88, e_89, k_90, h⟩ := h
        refine r_ref [] e_89 ?_
        refine r_iload_n C dX0_laysWeek_44 (pc' := 45) rfl (j := 3) rfl ?_
        obtain ⟨c_91, h⟩ := h
        refine r_aald C (t := 8) (j := (ix_ x3)) k_90 (by decide) rfl rfl c_91 rfl dX0_laysWeek_45 (pc' := 46) rfl ?_
        obtain ⟨b_92, e_93, k_94, h⟩ := h
        refine r_ref [] e_93 ?_
        refine r_getfN C (Cn := RX3) (T := TX3) 0 k_94 (by decide) vc_X3 in_X3 (by decide) (List.mem_of_getElem? (i := 0) rfl) dX0_laysWeek_46 (pc' := 49) rfl (v := va_rf (mgR M_86 b_92 0)) rfl ?_
        obtain ⟨b_95, e_96, k_97, h⟩ := h
        refine r_ref [] e_96 ?_
        refine r_iload_n C dX0_laysWeek_49 (pc' := 50) rfl (j := 1) rfl ?_
        obtain ⟨c_98, h⟩ := h
        refine r_aald C (t := 3) (j := (ix_ x1)) k_97 (by decide) rfl rfl c_98 rfl dX0_laysWeek_50 (pc' := 51) rfl ?_
        obtain ⟨b_99, e_100, k_101, h⟩ := h
        refine r_ref [] e_100 ?_
        refine r_getfN C (Cn := RX4) (T := TX4) 2 k_101 (by decide) vc_X4 in_X4 (by decide) (List.mem_of_getElem? (i := 7) rfl) dX0_laysWeek_51 (pc' := 54) rfl (v := .int (mgI M_86 b_99 2)) rfl ?_
        obtain ⟨M_102, e_103, h⟩ := bn_ h
        refine r_putI C (Cn := RX0) (T := TX0) tyX0 26 (mMo.kd (mo_I e_87) (mMo.kd m_18 k_a0 (by decide)) (by decide)) (by decide) vc_X0 in_X0 tyX0_ok nmX0 (by decide) q380 rfl rfl dX0_laysWeek_54 (pc' := 57) rfl rfl rfl M_102 e_103 ?_
        refine r_iconst C dX0_laysWeek_57 (pc' := 58) rfl (v := 0) rfl ?_
        refine r_istore C (lv' := [(5, .int (0 : Int32)), (0, .ref a0), (1, .int x1), (2, .int x2), (3, .int x3), (4, .int x4)]) dX0_laysWeek_58 (pc' := 60) rfl (0 : Int32) rfl (Nat.le_of_ble_eq_true rfl) rfl ?_
        obtain ⟨n_117, h⟩ := h
        refine r_sub (lv' := [(0, .ref a0), (5, .int (0 : Int32))]) [1, 0] rfl ?_
        refine B_X0_laysWeek_60 hRc C hE n_117 M_102 (0 : Int32) (mMo.kd (mo_I e_103) (mMo.kd (mo_I e_87) (mMo.kd m_18 k_a0 (by decide)) (by decide)) (by decide)) h (fun M_118 m_119 h => ?_)
        exact r_vret C hE (Nat.le_of_ble_eq_true rfl) (Nat.le_of_ble_eq_true rfl) dX0_laysWeek_87 ⟨rfl, h⟩
    · have h := it_f h c_19
      exact r_vret C hE (Nat.le_of_ble_eq_true rfl) (Nat.le_of_ble_eq_true rfl) dX0_laysWeek_26 ⟨rfl, h⟩
set_option maxHeartbeats 4000000 in
theorem B_X0_spreads_133 {E : mE} {Rc : KT} {fd ld : Nat} {M : MM} {a0 : Nat} {x1 : Int32} {x2 : Int32} {x3 : Int32} {x4 : Int32} {x5 : Int32} {x7 : Int32} {as0 : Nat} {xs1 : Int32} {xs2 : Int32} {xs3 : Int32} {R : MM → Int32 → Prop} {X144 : MM → Prop} {Post : MM → Prop} (hRc : SndP E.2.1 E.1.2.1 Rc fd ld) (C : mC E yX0_spreads cX0_spreads 8 (none) { frames := fd + 2, cells := 0, slots := 0, locals := ld + 60 }) (hE : mEnd E { frames := fd + 2, cells := 0, slots := 0, locals := ld + 60 } (pV_ Post)) (k_a0 : mkd M a0 = 1) (k_as0 : mkd M as0 = 1) (h : wb_X0_spreads_133 Rc M a0 x1 x2 x3 x4 x5 x7 as0 xs1 xs2 xs3 R X144) (hR : ∀ (M' : MM) (x7' : Int32), mMo M M' → mkd M' a0 = 1 → R M' x7' → mV E M' 0 0 80 [(0, .ref a0), (1, .int x1), (2, .int x2), (3, .int x3), (4, .int x4), (5, .int x5), (7, .int x7')] []) (hX144 : ∀ (M' : MM), mMo M M' → X144 M' → mV E M' 0 0 144 [] []) : mV E M 0 0 133 [(0, .ref a0), (1, .int x1), (2, .int x2), (3, .int x3), (4, .int x4), (5, .int x5), (7, .int x7)] [.int xs3, .int xs2, .int xs1, .ref as0] := by
  unfold wb_X0_spreads_133 at h
  have hb1 := hRc.1
  have hb2 := hRc.2.1
  refine r_iload C dX0_spreads_133 (pc' := 135) rfl (j := 4) rfl ?_
  refine r_callVv (As := [.int xs1, .int xs2, .int xs3, .int x4]) (rest := []) (Cn := RX0) (T := TX0) C k_as0 (by decide) vc_X0 (hRc.2.2 k_as0 h) (lw_V q1050 q1052 qs31 q105 q1053) rfl hd_X0_spreads rfl rfl (Nat.le_of_ble_eq_true rfl) (by dsimp only; omega) (by dsimp only; omega) rfl rfl (Nat.le_of_ble_eq_true rfl) (Nat.le_of_ble_eq_true rfl) dX0_spreads_135 (pc' := 138) rfl (fun M_25 h m_27 => ?_)
  obtain ⟨x7_28, e_29, h⟩ := bn_ h
  refine r_iinc C (lv' := [(7, .int x7_28), (0, .ref a0), (1, .int x1), (2, .int x2), (3, .int x3), (4, .int x4), (5, .int x5)]) dX0_spreads_138 (pc' := 141) rfl (j := 6) rfl x7_28 (by rw [e_29]; rfl) (Nat.le_of_ble_eq_true rfl) rfl ?_
  refine r_goto C dX0_spreads_141 (tgt := 80) (by decide) ?_
  refine r_sub (lv' := [(0, .ref a0), (1, .int x1), (2, .int x2), (3, .int x3), (4, .int x4), (5, .int x5), (7, .int x7_28)]) [1, 2, 3, 4, 5, 6, 0] rfl ?_
  exact hR M_25 x7_28 m_27 (mMo.kd m_27 k_a0 (by decide)) h
set_option maxHeartbeats 4000000 in
theorem B_X0_spreads_92 {E : mE} {Rc : KT} {fd ld : Nat} {M : MM} {a0 : Nat} {x1 : Int32} {x2 : Int32} {x3 : Int32} {x4 : Int32} {x5 : Int32} {x7 : Int32} {xs0 : Int32} {xs1 : Int32} {R : MM → Int32 → Prop} {X144 : MM → Prop} {Post : MM → Prop} (hRc : SndP E.2.1 E.1.2.1 Rc fd ld) (C : mC E yX0_spreads cX0_spreads 8 (none) { frames := fd + 2, cells := 0, slots := 0, locals := ld + 60 }) (hE : mEnd E { frames := fd + 2, cells := 0, slots := 0, locals := ld + 60 } (pV_ Post)) (k_a0 : mkd M a0 = 1) (h : wb_X0_spreads_92 Rc M a0 x1 x2 x3 x4 x5 x7 xs0 xs1 R X144) (hR : ∀ (M' : MM) (x7' : Int32), mMo M M' → mkd M' a0 = 1 → R M' x7' → mV E M' 0 0 80 [(0, .ref a0), (1, .int x1), (2, .int x2), (3, .int x3), (4, .int x4), (5, .int x5), (7, .int x7')] []) (hX144 : ∀ (M' : MM), mMo M M' → X144 M' → mV E M' 0 0 144 [] []) : mV E M 0 0 92 [(0, .ref a0), (1, .int x1), (2, .int x2), (3, .int x3), (4, .int x4), (5, .int x5), (7, .int x7)] [.int xs1, .int xs0] := by
  unfold wb_X0_spreads_92 at h
  have hb1 := hRc.1
  have hb2 := hRc.2.1
  refine r_icmp_gt C dX0_spreads_92 (pc' := 95) rfl (tgt := 144) (by decide) (fun c_17 => ?_) (fun c_17 => ?_)
  · have h := it_t h c_17
    refine r_sub (lv' := []) [] rfl ?_
    exact hX144 M mMo.rf h
  · have h := it_f h c_17
    refine r_aload_n C dX0_spreads_95 (pc' := 96) rfl (j := 0) rfl ?_
    refine r_getf C (Cn := RX0) (T := TX0) 29 k_a0 (by decide) vc_X0 in_X0 (by decide) q383 dX0_spreads_96 (pc' := 99) rfl (v := va_rf (mgR M a0 29)) rfl ?_
    obtain ⟨b_18, e_19, k_20, h⟩ := h
    refine r_ref [] e_19 ?_
    refine r_iload_n C dX0_spreads_99 (pc' := 100) rfl (j := 1) rfl ?_
    refine r_iload C dX0_spreads_100 (pc' := 102) rfl (j := 6) rfl ?_
    obtain ⟨c_21, h⟩ := h
    obtain ⟨M_22, e_23, h⟩ := bn_ h
    refine r_iast C (j := (ix_ x1)) k_20 c_21 rfl dX0_spreads_102 (pc' := 103) rfl M_22 e_23 ?_
    refine r_aload_n C dX0_spreads_103 (pc' := 104) rfl (j := 0) rfl ?_
    refine r_iload_n C dX0_spreads_104 (pc' := 105) rfl (j := 1) rfl ?_
    refine r_iconst C dX0_spreads_105 (pc' := 106) rfl (v := 1) rfl ?_
    refine r_iadd C dX0_spreads_106 (pc' := 107) rfl ?_
    refine r_iload_n C dX0_spreads_107 (pc' := 108) rfl (j := 2) rfl ?_
    refine r_iload C dX0_spreads_108 (pc' := 110) rfl (j := 6) rfl ?_
    refine r_isub C dX0_spreads_110 (pc' := 111) rfl ?_
    refine r_iload C dX0_spreads_111 (pc' := 113) rfl (j := 5) rfl ?_
    refine r_if_eq C dX0_spreads_113 (pc' := 116) rfl (tgt := 132) (by decide) (fun c_24 => ?_) (fun c_24 => ?_)
    · have h := it_t h c_24
      refine r_iload_n C dX0_spreads_132 (pc' := 133) rfl (j := 3) rfl ?_
      refine r_sub (lv' := [(0, .ref a0), (1, .int x1), (2, .int x2), (3, .int x3), (4, .int x4), (5, .int x5), (7, .int x7)]) [0, 1, 2, 3, 4, 5, 6] rfl ?_
      exact B_X0_spreads_133 hRc C hE (mMo.kd (mo_I e_23) k_a0 (by decide)) (mMo.kd (mo_I e_23) k_a0 (by decide)) h (fun M8 v0 hm8 g0 h8 => hR M8 v0 (mMo.tr (mo_I e_23) hm8) g0 h8) (fun M9 hm9 h9 => hX144 M9 (mMo.tr (mo_I e_23) hm9) h9)
    · have h := it_f h c_24
      refine r_iload_n C dX0_spreads_116 (pc' := 117) rfl (j := 3) rfl ?_
      refine r_aload_n C dX0_spreads_117 (pc' := 118) rfl (j := 0) rfl ?_
      refine r_getf C (Cn := RX0) (T := TX0) 28 (mMo.kd (mo_I e_23) k_a0 (by decide)) (by decide) vc_X0 in_X0 (by decide) q382 dX0_spreads_118 (pc' := 121) rfl (v := va_rf (mgR M_22 a0 28)) rfl ?_
      obtain ⟨b_30, e_31, k_32, h⟩ := h
      refine r_ref [] e_31 ?_
      refine r_iload_n C dX0_spreads_121 (pc' := 122) rfl (j := 1) rfl ?_
      obtain ⟨c_33, h⟩ := h
      refine r_aald C (t := 10) (j := (ix_ x1)) k_32 (by decide) rfl rfl c_33 rfl dX0_spreads_122 (pc' := 123) rfl ?_
      obtain ⟨b_34, e_35, k_36, h⟩ := h
      refine r_ref [] e_35 ?_
      refine r_iload C dX0_spreads_123 (pc' := 125) rfl (j := 6) rfl ?_
      obtain ⟨c_37, h⟩ := h
      refine r_iald C (j := (ix_ x7)) k_36 c_37 rfl dX0_spreads_125 (pc' := 126) rfl ?_
      refine r_mmin C q885 q585 q113 q586 (by dsimp only; omega) (by simp only [List.map_cons, List.map_nil, List.sum_cons, List.sum_nil, Value.category]; omega) (Nat.le_of_ble_eq_true rfl) (Nat.le_of_ble_eq_true rfl) dX0_spreads_126 (pc' := 129) rfl ?_
      refine r_goto C dX0_spreads_129 (tgt := 133) (by decide) ?_
      refine r_sub (lv' := [(0, .ref a0), (1, .int x1), (2, .int x2), (3, .int x3), (4, .int x4), (5, .int x5), (7, .int x7)]) [0, 1, 2, 3, 4, 5, 6] rfl ?_
      exact B_X0_spreads_133 hRc C hE (mMo.kd (mo_I e_23) k_a0 (by decide)) (mMo.kd (mo_I e_23) k_a0 (by decide)) h (fun M8 v0 hm8 g0 h8 => hR M8 v0 (mMo.tr (mo_I e_23) hm8) g0 h8) (fun M9 hm9 h9 => hX144 M9 (mMo.tr (mo_I e_23) hm9) h9)
set_option maxHeartbeats 4000000 in
theorem B_X0_spreads_80 {E : mE} {Rc : KT} {fd ld : Nat} {a0 : Nat} {x1 : Int32} {x2 : Int32} {x3 : Int32} {x4 : Int32} {x5 : Int32} {X144 : MM → Prop} {Post : MM → Prop} (hRc : SndP E.2.1 E.1.2.1 Rc fd ld) (C : mC E yX0_spreads cX0_spreads 8 (none) { frames := fd + 2, cells := 0, slots := 0, locals := ld + 60 }) (hE : mEnd E { frames := fd + 2, cells := 0, slots := 0, locals := ld + 60 } (pV_ Post)) : ∀ (n_ : Nat) (M : MM) (x7 : Int32), mkd M a0 = 1 → wl_X0_spreads_80 Rc a0 x1 x2 x3 x4 x5 X144 n_ M x7 → (∀ (M' : MM), mMo M M' → X144 M' → mV E M' 0 0 144 [] []) → mV E M 0 0 80 [(0, .ref a0), (1, .int x1), (2, .int x2), (3, .int x3), (4, .int x4), (5, .int x5), (7, .int x7)] [] := by
  intro n_
  induction n_ with
  | zero =>
    intro M x7 k_a0 h hX144
    exact absurd h (by rw [wl_X0_spreads_80]; exact fun q => q)
  | succ n_ ih =>
    intro M x7 k_a0 h hX144
    rw [wl_X0_spreads_80] at h
    have hb1 := hRc.1
    have hb2 := hRc.2.1
    refine r_iload C dX0_spreads_80 (pc' := 82) rfl (j := 6) rfl ?_
    refine r_iload C dX0_spreads_82 (pc' := 84) rfl (j := 5) rfl ?_
    refine r_if_eq C dX0_spreads_84 (pc' := 87) rfl (tgt := 91) (by decide) (fun c_16 => ?_) (fun c_16 => ?_)
    · have h := it_t h c_16
      refine r_iconst C dX0_spreads_91 (pc' := 92) rfl (v := 0) rfl ?_
      refine r_sub (lv' := [(0, .ref a0), (1, .int x1), (2, .int x2), (3, .int x3), (4, .int x4), (5, .int x5), (7, .int x7)]) [0, 1, 2, 3, 4, 5, 6] rfl ?_
      exact B_X0_spreads_92 hRc C hE k_a0 h (fun M8 v0 hm8 g0 h8 => ih M8 v0 g0 h8 (fun M9 hm9 h9 => hX144 M9 (mMo.tr hm8 hm9) h9)) (fun M9 hm9 h9 => hX144 M9 hm9 h9)
    · have h := it_f h c_16
      refine r_iload_n C dX0_spreads_87 (pc' := 88) rfl (j := 2) rfl ?_
      refine r_goto C dX0_spreads_88 (tgt := 92) (by decide) ?_
      refine r_sub (lv' := [(0, .ref a0), (1, .int x1), (2, .int x2), (3, .int x3), (4, .int x4), (5, .int x5), (7, .int x7)]) [0, 1, 2, 3, 4, 5, 6] rfl ?_
      exact B_X0_spreads_92 hRc C hE k_a0 h (fun M8 v0 hm8 g0 h8 => ih M8 v0 g0 h8 (fun M9 hm9 h9 => hX144 M9 (mMo.tr hm8 hm9) h9)) (fun M9 hm9 h9 => hX144 M9 hm9 h9)
set_option maxHeartbeats 4000000 in
theorem B_X0_spreads_22 {E : mE} {Rc : KT} {fd ld : Nat} {a0 : Nat} {X48 : MM → Prop} {Post : MM → Prop} (hRc : SndP E.2.1 E.1.2.1 Rc fd ld) (C : mC E yX0_spreads cX0_spreads 8 (none) { frames := fd + 2, cells := 0, slots := 0, locals := ld + 60 }) (hE : mEnd E { frames := fd + 2, cells := 0, slots := 0, locals := ld + 60 } (pV_ Post)) : ∀ (n_ : Nat) (M : MM) (x5 : Int32), mkd M a0 = 1 → wl_X0_spreads_22 Rc a0 X48 n_ M x5 → (∀ (M' : MM), mMo M M' → X48 M' → mV E M' 0 0 48 [] []) → mV E M 0 0 22 [(0, .ref a0), (5, .int x5)] [] := by
  intro n_
  induction n_ with
  | zero =>
    intro M x5 k_a0 h hX48
    exact absurd h (by rw [wl_X0_spreads_22]; exact fun q => q)
  | succ n_ ih =>
    intro M x5 k_a0 h hX48
    rw [wl_X0_spreads_22] at h
    have hb1 := hRc.1
    have hb2 := hRc.2.1
    refine r_iload C dX0_spreads_22 (pc' := 24) rfl (j := 1) rfl ?_
    refine r_iconst C dX0_spreads_24 (pc' := 25) rfl (v := 4) rfl ?_
    refine r_icmp_ge C dX0_spreads_25 (pc' := 28) rfl (tgt := 48) (by decide) (fun c_47 => ?_) (fun c_47 => ?_)
    · have h := it_t h c_47
      refine r_sub (lv' := []) [] rfl ?_
      exact hX48 M mMo.rf h
    · have h := it_f h c_47
      refine r_aload_n C dX0_spreads_28 (pc' := 29) rfl (j := 0) rfl ?_
      refine r_getf C (Cn := RX0) (T := TX0) 30 k_a0 (by decide) vc_X0 in_X0 (by decide) q384 dX0_spreads_29 (pc' := 32) rfl (v := va_rf (mgR M a0 30)) rfl ?_
      obtain ⟨b_48, e_49, k_50, h⟩ := h
      refine r_ref [] e_49 ?_
      refine r_iload C dX0_spreads_32 (pc' := 34) rfl (j := 1) rfl ?_
      refine r_aload_n C dX0_spreads_34 (pc' := 35) rfl (j := 0) rfl ?_
      refine r_getf C (Cn := RX0) (T := TX0) 29 k_a0 (by decide) vc_X0 in_X0 (by decide) q383 dX0_spreads_35 (pc' := 38) rfl (v := va_rf (mgR M a0 29)) rfl ?_
      obtain ⟨b_51, e_52, k_53, h⟩ := h
      refine r_ref [] e_52 ?_
      refine r_iload C dX0_spreads_38 (pc' := 40) rfl (j := 1) rfl ?_
      obtain ⟨c_54, h⟩ := h
      refine r_iald C (j := (ix_ x5)) k_53 c_54 rfl dX0_spreads_40 (pc' := 41) rfl ?_
      obtain ⟨c_55, h⟩ := h
      obtain ⟨M_56, e_57, h⟩ := bn_ h
      refine r_iast C (j := (ix_ x5)) k_50 c_55 rfl dX0_spreads_41 (pc' := 42) rfl M_56 e_57 ?_
      obtain ⟨x5_58, e_59, h⟩ := bn_ h
      refine r_iinc C (lv' := [(5, .int x5_58), (0, .ref a0)]) dX0_spreads_42 (pc' := 45) rfl (j := 1) rfl x5_58 (by rw [e_59]; rfl) (Nat.le_of_ble_eq_true rfl) rfl ?_
      refine r_goto C dX0_spreads_45 (tgt := 22) (by decide) ?_
      refine r_sub (lv' := [(0, .ref a0), (5, .int x5_58)]) [1, 0] rfl ?_
      exact ih M_56 x5_58 (mMo.kd (mo_I e_57) k_a0 (by decide)) h (fun M9 hm9 h9 => hX48 M9 (mMo.tr (mo_I e_57) hm9) h9)
set_option maxHeartbeats 4000000 in
theorem S_X0_spreads {D : DD} {l : Launch} {Rc : KT} {fd ld : Nat} (hRc : SndP D l Rc fd ld) {M : MM} {a0 : Nat} {x1 : Int32} {x2 : Int32} {x3 : Int32} {x4 : Int32} {Post : MM → Prop} (k_a0 : mkd M a0 = 1) (h : wp_X0_spreads Rc M a0 x1 x2 x3 x4 Post) : mMet D l yX0_spreads cX0_spreads 8 (none) { frames := fd + 2, cells := 0, slots := 0, locals := ld + 60 } M [.ref a0, .int x1, .int x2, .int x3, .int x4] (pV_ Post) := by
  refine m_of2 [(0, .ref a0), (1, .int x1), (2, .int x2), (3, .int x3), (4, .int x4)] (by decide +kernel) (Nat.le_of_ble_eq_true rfl) rfl (fun E hED hEl C hE => ?_)
  subst hED
  subst hEl
  unfold wp_X0_spreads at h
  have hb1 := hRc.1
  have hb2 := hRc.2.1
  refine r_iload_n C dX0_spreads_0 (pc' := 1) rfl (j := 1) rfl ?_
  refine r_iconst C dX0_spreads_1 (pc' := 2) rfl (v := 4) rfl ?_
  refine r_icmp_ne C dX0_spreads_2 (pc' := 5) rfl (tgt := 49) (by decide) (fun c_1 => ?_) (fun c_1 => ?_)
  · have h := it_f h c_1
    refine r_aload_n C dX0_spreads_49 (pc' := 50) rfl (j := 0) rfl ?_
    refine r_getf C (Cn := RX0) (T := TX0) 1 k_a0 (by decide) vc_X0 in_X0 (by decide) q351 dX0_spreads_50 (pc' := 53) rfl (v := va_rf (mgR M a0 1)) rfl ?_
    obtain ⟨b_2, e_3, k_4, h⟩ := h
    refine r_ref [] e_3 ?_
    refine r_getfN C (Cn := RX3) (T := TX3) 0 k_4 (by decide) vc_X3 in_X3 (by decide) (List.mem_of_getElem? (i := 0) rfl) dX0_spreads_53 (pc' := 56) rfl (v := va_rf (mgR M b_2 0)) rfl ?_
    obtain ⟨b_5, e_6, k_7, h⟩ := h
    refine r_ref [] e_6 ?_
    refine r_iload_n C dX0_spreads_56 (pc' := 57) rfl (j := 1) rfl ?_
    obtain ⟨c_8, h⟩ := h
    refine r_aald C (t := 3) (j := (ix_ x1)) k_7 (by decide) rfl rfl c_8 rfl dX0_spreads_57 (pc' := 58) rfl ?_
    obtain ⟨b_9, e_10, k_11, h⟩ := h
    refine r_ref [] e_10 ?_
    refine r_callVi (As := []) (rest := []) (Cn := RX4) (T := TX4) C k_11 (by decide) vc_X4 (S_X4_lives k_11 h) (lw_V q1049 q793 q794 q109 q795) rfl hd_X4_lives rfl rfl (Nat.le_of_ble_eq_true rfl) (by dsimp only; omega) (by dsimp only; omega) rfl rfl (Nat.le_of_ble_eq_true rfl) (Nat.le_of_ble_eq_true rfl) dX0_spreads_58 (pc' := 61) rfl (fun r_13 M_12 h m_14 => ?_)
    refine r_istore C (lv' := [(5, .int r_13), (0, .ref a0), (1, .int x1), (2, .int x2), (3, .int x3), (4, .int x4)]) dX0_spreads_61 (pc' := 63) rfl r_13 rfl (Nat.le_of_ble_eq_true rfl) rfl ?_
    refine r_iload_n C dX0_spreads_63 (pc' := 64) rfl (j := 2) rfl ?_
    refine r_iload C dX0_spreads_64 (pc' := 66) rfl (j := 5) rfl ?_
    refine r_icmp_ne C dX0_spreads_66 (pc' := 69) rfl (tgt := 73) (by decide) (fun c_15 => ?_) (fun c_15 => ?_)
    · have h := it_f h c_15
      refine r_iconst C dX0_spreads_73 (pc' := 74) rfl (v := 0) rfl ?_
      refine r_istore C (lv' := [(6, .int (0 : Int32)), (5, .int r_13), (0, .ref a0), (1, .int x1), (2, .int x2), (3, .int x3), (4, .int x4)]) dX0_spreads_74 (pc' := 76) rfl (0 : Int32) rfl (Nat.le_of_ble_eq_true rfl) rfl ?_
      refine r_iload C dX0_spreads_76 (pc' := 78) rfl (j := 0) rfl ?_
      refine r_istore C (lv' := [(7, .int (0 : Int32)), (6, .int (0 : Int32)), (5, .int r_13), (0, .ref a0), (1, .int x1), (2, .int x2), (3, .int x3), (4, .int x4)]) dX0_spreads_78 (pc' := 80) rfl (0 : Int32) rfl (Nat.le_of_ble_eq_true rfl) rfl ?_
      obtain ⟨n_38, h⟩ := h
      refine r_sub (lv' := [(0, .ref a0), (1, .int x1), (2, .int x2), (3, .int x3), (4, .int x4), (5, .int r_13), (7, .int (0 : Int32))]) [3, 4, 5, 6, 7, 2, 0] rfl ?_
      refine B_X0_spreads_80 hRc C hE n_38 M_12 (0 : Int32) (mMo.kd m_14 k_a0 (by decide)) h (fun M_39 m_40 h => ?_)
      exact r_vret C hE (Nat.le_of_ble_eq_true rfl) (Nat.le_of_ble_eq_true rfl) dX0_spreads_144 ⟨rfl, h⟩
    · have h := it_t h c_15
      refine r_iload_n C dX0_spreads_69 (pc' := 70) rfl (j := 3) rfl ?_
      refine r_goto C dX0_spreads_70 (tgt := 74) (by decide) ?_
      refine r_istore C (lv' := [(6, .int x2), (5, .int r_13), (0, .ref a0), (1, .int x1), (2, .int x2), (3, .int x3), (4, .int x4)]) dX0_spreads_74 (pc' := 76) rfl x2 rfl (Nat.le_of_ble_eq_true rfl) rfl ?_
      refine r_iload C dX0_spreads_76 (pc' := 78) rfl (j := 0) rfl ?_
      refine r_istore C (lv' := [(7, .int x2), (6, .int x2), (5, .int r_13), (0, .ref a0), (1, .int x1), (2, .int x2), (3, .int x3), (4, .int x4)]) dX0_spreads_78 (pc' := 80) rfl x2 rfl (Nat.le_of_ble_eq_true rfl) rfl ?_
      obtain ⟨n_41, h⟩ := h
      refine r_sub (lv' := [(0, .ref a0), (1, .int x1), (2, .int x2), (3, .int x3), (4, .int x4), (5, .int r_13), (7, .int x2)]) [3, 4, 5, 6, 7, 2, 0] rfl ?_
      refine B_X0_spreads_80 hRc C hE n_41 M_12 x2 (mMo.kd m_14 k_a0 (by decide)) h (fun M_42 m_43 h => ?_)
      exact r_vret C hE (Nat.le_of_ble_eq_true rfl) (Nat.le_of_ble_eq_true rfl) dX0_spreads_144 ⟨rfl, h⟩
  · have h := it_t h c_1
    refine r_iload_n C dX0_spreads_5 (pc' := 6) rfl (j := 3) rfl ?_
    refine r_aload_n C dX0_spreads_6 (pc' := 7) rfl (j := 0) rfl ?_
    refine r_getf C (Cn := RX0) (T := TX0) 31 k_a0 (by decide) vc_X0 in_X0 (by decide) q385 dX0_spreads_7 (pc' := 10) rfl (v := .int (mgI M a0 31)) rfl ?_
    refine r_icmp_gt C dX0_spreads_10 (pc' := 13) rfl (tgt := 14) (by decide) (fun c_44 => ?_) (fun c_44 => ?_)
    · have h := it_t h c_44
      refine r_aload_n C dX0_spreads_14 (pc' := 15) rfl (j := 0) rfl ?_
      refine r_iload_n C dX0_spreads_15 (pc' := 16) rfl (j := 3) rfl ?_
      obtain ⟨M_45, e_46, h⟩ := bn_ h
      refine r_putI C (Cn := RX0) (T := TX0) tyX0 31 k_a0 (by decide) vc_X0 in_X0 tyX0_ok nmX0 (by decide) q385 rfl rfl dX0_spreads_16 (pc' := 19) rfl rfl rfl M_45 e_46 ?_
      refine r_iconst C dX0_spreads_19 (pc' := 20) rfl (v := 0) rfl ?_
      refine r_istore C (lv' := [(5, .int (0 : Int32)), (0, .ref a0), (1, .int x1), (2, .int x2), (3, .int x3), (4, .int x4)]) dX0_spreads_20 (pc' := 22) rfl (0 : Int32) rfl (Nat.le_of_ble_eq_true rfl) rfl ?_
      obtain ⟨n_60, h⟩ := h
      refine r_sub (lv' := [(0, .ref a0), (5, .int (0 : Int32))]) [1, 0] rfl ?_
      refine B_X0_spreads_22 hRc C hE n_60 M_45 (0 : Int32) (mMo.kd (mo_I e_46) k_a0 (by decide)) h (fun M_61 m_62 h => ?_)
      exact r_vret C hE (Nat.le_of_ble_eq_true rfl) (Nat.le_of_ble_eq_true rfl) dX0_spreads_48 ⟨rfl, h⟩
    · have h := it_f h c_44
      exact r_vret C hE (Nat.le_of_ble_eq_true rfl) (Nat.le_of_ble_eq_true rfl) dX0_spreads_13 ⟨rfl, h⟩
theorem sndK {D : DD} {l : Launch} : ∀ d, SndK D l (wpK d) (230 + 2 * d) (6000 + 60 * d) := by
  intro d
  induction d with
  | zero => exact ⟨by omega, by omega, fun _ h => absurd h (fun q => q)⟩
  | succ d ih => exact ⟨by omega, by omega, fun hk h => S_X0_laysWeek ih hk h⟩

theorem sndP {D : DD} {l : Launch} : ∀ d, SndP D l (wpP d) (230 + 2 * d) (6000 + 60 * d) := by
  intro d
  induction d with
  | zero => exact ⟨by omega, by omega, fun _ h => absurd h (fun q => q)⟩
  | succ d ih => exact ⟨by omega, by omega, fun hk h => S_X0_spreads ih hk h⟩

theorem hd_X0_init : mHd yX0_init 0 := ⟨by decide, by decide, by decide +kernel⟩
theorem hd_X0_plant : mHd yX0_plant 4 := ⟨by decide, by decide, by decide +kernel⟩
theorem hd_X0_person : mHd yX0_person 3 := ⟨by decide, by decide, by decide +kernel⟩
theorem hd_X0_card : mHd yX0_card 2 := ⟨by decide, by decide, by decide +kernel⟩
theorem hd_X0_pour : mHd yX0_pour 2 := ⟨by decide, by decide, by decide +kernel⟩
theorem hd_X0_push : mHd yX0_push 1 := ⟨by decide, by decide, by decide +kernel⟩
theorem hd_X0_feed : mHd yX0_feed 5 := ⟨by decide, by decide, by decide +kernel⟩
theorem hd_X0_law : mHd yX0_law 1 := ⟨by decide, by decide, by decide +kernel⟩
theorem hd_X0_rule : mHd yX0_rule 2 := ⟨by decide, by decide, by decide +kernel⟩
theorem hd_X0_days : mHd yX0_days 1 := ⟨by decide, by decide, by decide +kernel⟩
theorem hd_X0_tried : mHd yX0_tried 2 := ⟨by decide, by decide, by decide +kernel⟩
theorem hd_X0_plantIs : mHd yX0_plantIs 2 := ⟨by decide, by decide, by decide +kernel⟩
theorem hd_X0_gives : mHd yX0_gives 2 := ⟨by decide, by decide, by decide +kernel⟩
theorem hd_X0_takesPeople : mHd yX0_takesPeople 1 := ⟨by decide, by decide, by decide +kernel⟩
theorem hd_X0_canLay : mHd yX0_canLay 3 := ⟨by decide, by decide, by decide +kernel⟩
theorem hd_X0_clears : mHd yX0_clears 1 := ⟨by decide, by decide, by decide +kernel⟩
theorem hd_X0_takesComes : mHd yX0_takesComes 0 := ⟨by decide, by decide, by decide +kernel⟩
theorem hd_X0_thenAt : mHd yX0_thenAt 2 := ⟨by decide, by decide, by decide +kernel⟩
theorem hd_X0_personComes : mHd yX0_personComes 1 := ⟨by decide, by decide, by decide +kernel⟩
theorem hd_X0_endsBy : mHd yX0_endsBy 4 := ⟨by decide, by decide, by decide +kernel⟩
theorem hd_X0_sunComes : mHd yX0_sunComes 0 := ⟨by decide, by decide, by decide +kernel⟩
theorem hd_X0_laysDays : mHd yX0_laysDays 4 := ⟨by decide, by decide, by decide +kernel⟩
theorem hd_X0_exactly : mHd yX0_exactly 4 := ⟨by decide, by decide, by decide +kernel⟩
theorem hd_X0_chance : mHd yX0_chance 4 := ⟨by decide, by decide, by decide +kernel⟩
theorem hd_X0_toAsk : mHd yX0_toAsk 4 := ⟨by decide, by decide, by decide +kernel⟩
theorem hd_X0_movesOut : mHd yX0_movesOut 4 := ⟨by decide, by decide, by decide +kernel⟩
theorem hd_X0_few : mHd yX0_few 4 := ⟨by decide, by decide, by decide +kernel⟩
theorem hd_X0_pot : mHd yX0_pot 4 := ⟨by decide, by decide, by decide +kernel⟩
theorem hd_X0_ruleFor : mHd yX0_ruleFor 5 := ⟨by decide, by decide, by decide +kernel⟩
theorem hd_X0_lastsWith : mHd yX0_lastsWith 2 := ⟨by decide, by decide, by decide +kernel⟩
theorem hd_X0_lasts : mHd yX0_lasts 2 := ⟨by decide, by decide, by decide +kernel⟩
theorem hd_X0_needs : mHd yX0_needs 2 := ⟨by decide, by decide, by decide +kernel⟩
theorem hd_X0_week : mHd yX0_week 3 := ⟨by decide, by decide, by decide +kernel⟩
theorem hd_X0_spread : mHd yX0_spread 2 := ⟨by decide, by decide, by decide +kernel⟩
theorem hd_X0_comes : mHd yX0_comes 3 := ⟨by decide, by decide, by decide +kernel⟩
theorem hd_X0_theOne : mHd yX0_theOne 0 := ⟨by decide, by decide, by decide +kernel⟩
theorem hd_X0_share : mHd yX0_share 2 := ⟨by decide, by decide, by decide +kernel⟩
theorem hd_X0_daysOf : mHd yX0_daysOf 2 := ⟨by decide, by decide, by decide +kernel⟩
theorem hd_X0_rota : mHd yX0_rota 3 := ⟨by decide, by decide, by decide +kernel⟩
theorem hd_X0_costOf : mHd yX0_costOf 1 := ⟨by decide, by decide, by decide +kernel⟩
theorem hd_X0_worthOf : mHd yX0_worthOf 1 := ⟨by decide, by decide, by decide +kernel⟩
theorem hd_X0_gainOf : mHd yX0_gainOf 2 := ⟨by decide, by decide, by decide +kernel⟩
theorem hd_X0_isWorth : mHd yX0_isWorth 3 := ⟨by decide, by decide, by decide +kernel⟩
theorem hd_X0_alone : mHd yX0_alone 2 := ⟨by decide, by decide, by decide +kernel⟩
theorem hd_X0_fits : mHd yX0_fits 4 := ⟨by decide, by decide, by decide +kernel⟩
theorem hd_X0_setsFor : mHd yX0_setsFor 5 := ⟨by decide, by decide, by decide +kernel⟩
theorem hd_X0_whoDid : mHd yX0_whoDid 5 := ⟨by decide, by decide, by decide +kernel⟩
theorem hd_X0_can : mHd yX0_can 4 := ⟨by decide, by decide, by decide +kernel⟩
theorem hd_X0_seed : mHd yX0_seed 1 := ⟨by decide, by decide, by decide +kernel⟩
theorem hd_X0_keep : mHd yX0_keep 0 := ⟨by decide, by decide, by decide +kernel⟩
theorem hd_X0_undo : mHd yX0_undo 0 := ⟨by decide, by decide, by decide +kernel⟩
theorem hd_X0_numberAt : mHd yX0_numberAt 1 := ⟨by decide, by decide, by decide +kernel⟩
theorem hd_X0_check : mHd yX0_check 2 := ⟨by decide, by decide, by decide +kernel⟩
theorem hd_X0_toldPeople : mHd yX0_toldPeople 0 := ⟨by decide, by decide, by decide +kernel⟩
theorem hd_X0_toldPlants : mHd yX0_toldPlants 0 := ⟨by decide, by decide, by decide +kernel⟩
theorem hd_X0_count : mHd yX0_count 1 := ⟨by decide, by decide, by decide +kernel⟩
set_option maxHeartbeats 4000000 in
theorem S_X0_init {D : DD} {l : Launch} {M : MM} {a0 : Nat} {Post : MM → Prop} (k_a0 : mkd M a0 = 1) (h : wp_X0_init M a0 Post) : mMet D l yX0_init cX0_init 1 (none) { frames := 3, cells := 281, slots := 2807, locals := 54 } M [.ref a0] (pV_ Post) := by
  refine m_of2 [(0, .ref a0)] (by decide +kernel) (Nat.le_of_ble_eq_true rfl) rfl (fun E hED hEl C hE => ?_)
  subst hED
  subst hEl
  unfold wp_X0_init at h
  refine r_aload_n C dX0_init_0 (pc' := 1) rfl (j := 0) rfl ?_
  refine r_objInit C (a := a0) q135 q136 q137 (Nat.le_of_ble_eq_true rfl) (Nat.le_of_ble_eq_true rfl) dX0_init_1 (pc' := 4) rfl ?_
  refine r_aload_n C dX0_init_4 (pc' := 5) rfl (j := 0) rfl ?_
  obtain ⟨b_3, e_4, h⟩ := bn_ h
  obtain ⟨M_5, e_6, h⟩ := bn_ h
  refine r_new C (Cn := RX2) (T := TX2) tyX2 (by decide) vc_X2 in_X2 tyX2_ok df_X2 q138 q139 q107 (Nat.le_of_ble_eq_true rfl) (Nat.le_of_ble_eq_true rfl) dX0_init_5 (pc' := 8) rfl b_3 e_4 M_5 e_6 (fun m_1 k_2 => ?_)
  refine r_dup C dX0_init_8 (pc' := 9) rfl rfl ?_
  refine r_aload_n C dX0_init_9 (pc' := 10) rfl (j := 0) rfl ?_
  refine r_callINv (As := [.ref a0]) (rest := [.ref b_3, .ref a0]) C (S_X2_init k_2 (mMo.kd m_1 k_a0 (by decide)) h) q142 q107 (List.mem_of_getElem? (i := 0) rfl) q141 rfl rfl hd_X2_init rfl rfl (Nat.le_of_ble_eq_true rfl) (Nat.le_of_ble_eq_true rfl) (Nat.le_of_ble_eq_true rfl) rfl rfl (Nat.le_of_ble_eq_true rfl) (Nat.le_of_ble_eq_true rfl) dX0_init_10 (pc' := 13) rfl (fun M_7 h m_9 => ?_)
  obtain ⟨M_10, e_11, h⟩ := bn_ h
  refine r_putRF C (Cn := RX0) (T := TX0) (x := (some b_3)) tyX0 0 (mMo.kd m_9 (mMo.kd m_1 k_a0 (by decide)) (by decide)) (by decide) vc_X0 in_X0 tyX0_ok nmX0 (by decide) q350 rfl rfl rfl rfl dX0_init_13 (pc' := 16) rfl (nO_ _) (fO_ _) M_10 e_11 ?_
  refine r_aload_n C dX0_init_16 (pc' := 17) rfl (j := 0) rfl ?_
  obtain ⟨b_14, e_15, h⟩ := bn_ h
  obtain ⟨M_16, e_17, h⟩ := bn_ h
  refine r_new C (Cn := RX3) (T := TX3) tyX3 (by decide) vc_X3 in_X3 tyX3_ok df_X3 q192 q193 q108 (Nat.le_of_ble_eq_true rfl) (Nat.le_of_ble_eq_true rfl) dX0_init_17 (pc' := 20) rfl b_14 e_15 M_16 e_17 (fun m_12 k_13 => ?_)
  refine r_dup C dX0_init_20 (pc' := 21) rfl rfl ?_
  refine r_aload_n C dX0_init_21 (pc' := 22) rfl (j := 0) rfl ?_
  refine r_callIv (As := [.ref a0]) (rest := [.ref b_14, .ref a0]) C (S_X3_init k_13 (mMo.kd m_12 (mMo.kd (mo_R e_11) (mMo.kd m_9 (mMo.kd m_1 k_a0 (by decide)) (by decide)) (by decide)) (by decide)) h) q196 q108 q194 q195 rfl rfl hd_X3_init rfl rfl (Nat.le_of_ble_eq_true rfl) (Nat.le_of_ble_eq_true rfl) (Nat.le_of_ble_eq_true rfl) rfl rfl (Nat.le_of_ble_eq_true rfl) (Nat.le_of_ble_eq_true rfl) dX0_init_22 (pc' := 25) rfl (fun M_18 h m_20 => ?_)
  obtain ⟨M_21, e_22, h⟩ := bn_ h
  refine r_putRF C (Cn := RX0) (T := TX0) (x := (some b_14)) tyX0 1 (mMo.kd m_20 (mMo.kd m_12 (mMo.kd (mo_R e_11) (mMo.kd m_9 (mMo.kd m_1 k_a0 (by decide)) (by decide)) (by decide)) (by decide)) (by decide)) (by decide) vc_X0 in_X0 tyX0_ok nmX0 (by decide) q351 rfl rfl rfl rfl dX0_init_25 (pc' := 28) rfl (nO_ _) (fO_ _) M_21 e_22 ?_
  refine r_aload_n C dX0_init_28 (pc' := 29) rfl (j := 0) rfl ?_
  obtain ⟨b_25, e_26, h⟩ := bn_ h
  obtain ⟨M_27, e_28, h⟩ := bn_ h
  refine r_new C (Cn := RX3) (T := TX3) tyX3 (by decide) vc_X3 in_X3 tyX3_ok df_X3 q192 q193 q108 (Nat.le_of_ble_eq_true rfl) (Nat.le_of_ble_eq_true rfl) dX0_init_29 (pc' := 32) rfl b_25 e_26 M_27 e_28 (fun m_23 k_24 => ?_)
  refine r_dup C dX0_init_32 (pc' := 33) rfl rfl ?_
  refine r_aload_n C dX0_init_33 (pc' := 34) rfl (j := 0) rfl ?_
  refine r_callIv (As := [.ref a0]) (rest := [.ref b_25, .ref a0]) C (S_X3_init k_24 (mMo.kd m_23 (mMo.kd (mo_R e_22) (mMo.kd m_20 (mMo.kd m_12 (mMo.kd (mo_R e_11) (mMo.kd m_9 (mMo.kd m_1 k_a0 (by decide)) (by decide)) (by decide)) (by decide)) (by decide)) (by decide)) (by decide)) h) q196 q108 q194 q195 rfl rfl hd_X3_init rfl rfl (Nat.le_of_ble_eq_true rfl) (Nat.le_of_ble_eq_true rfl) (Nat.le_of_ble_eq_true rfl) rfl rfl (Nat.le_of_ble_eq_true rfl) (Nat.le_of_ble_eq_true rfl) dX0_init_34 (pc' := 37) rfl (fun M_29 h m_31 => ?_)
  obtain ⟨M_32, e_33, h⟩ := bn_ h
  refine r_putRF C (Cn := RX0) (T := TX0) (x := (some b_25)) tyX0 2 (mMo.kd m_31 (mMo.kd m_23 (mMo.kd (mo_R e_22) (mMo.kd m_20 (mMo.kd m_12 (mMo.kd (mo_R e_11) (mMo.kd m_9 (mMo.kd m_1 k_a0 (by decide)) (by decide)) (by decide)) (by decide)) (by decide)) (by decide)) (by decide)) (by decide)) (by decide) vc_X0 in_X0 tyX0_ok nmX0 (by decide) q352 rfl rfl rfl rfl dX0_init_37 (pc' := 40) rfl (nO_ _) (fO_ _) M_32 e_33 ?_
  refine r_aload_n C dX0_init_40 (pc' := 41) rfl (j := 0) rfl ?_
  obtain ⟨b_36, e_37, h⟩ := bn_ h
  obtain ⟨M_38, e_39, h⟩ := bn_ h
  refine r_new C (Cn := RX3) (T := TX3) tyX3 (by decide) vc_X3 in_X3 tyX3_ok df_X3 q192 q193 q108 (Nat.le_of_ble_eq_true rfl) (Nat.le_of_ble_eq_true rfl) dX0_init_41 (pc' := 44) rfl b_36 e_37 M_38 e_39 (fun m_34 k_35 => ?_)
  refine r_dup C dX0_init_44 (pc' := 45) rfl rfl ?_
  refine r_aload_n C dX0_init_45 (pc' := 46) rfl (j := 0) rfl ?_
  refine r_callIv (As := [.ref a0]) (rest := [.ref b_36, .ref a0]) C (S_X3_init k_35 (mMo.kd m_34 (mMo.kd (mo_R e_33) (mMo.kd m_31 (mMo.kd m_23 (mMo.kd (mo_R e_22) (mMo.kd m_20 (mMo.kd m_12 (mMo.kd (mo_R e_11) (mMo.kd m_9 (mMo.kd m_1 k_a0 (by decide)) (by decide)) (by decide)) (by decide)) (by decide)) (by decide)) (by decide)) (by decide)) (by decide)) (by decide)) h) q196 q108 q194 q195 rfl rfl hd_X3_init rfl rfl (Nat.le_of_ble_eq_true rfl) (Nat.le_of_ble_eq_true rfl) (Nat.le_of_ble_eq_true rfl) rfl rfl (Nat.le_of_ble_eq_true rfl) (Nat.le_of_ble_eq_true rfl) dX0_init_46 (pc' := 49) rfl (fun M_40 h m_42 => ?_)
  obtain ⟨M_43, e_44, h⟩ := bn_ h
  refine r_putRF C (Cn := RX0) (T := TX0) (x := (some b_36)) tyX0 3 (mMo.kd m_42 (mMo.kd m_34 (mMo.kd (mo_R e_33) (mMo.kd m_31 (mMo.kd m_23 (mMo.kd (mo_R e_22) (mMo.kd m_20 (mMo.kd m_12 (mMo.kd (mo_R e_11) (mMo.kd m_9 (mMo.kd m_1 k_a0 (by decide)) (by decide)) (by decide)) (by decide)) (by decide)) (by decide)) (by decide)) (by decide)) (by decide)) (by decide)) (by decide)) (by decide) vc_X0 in_X0 tyX0_ok nmX0 (by decide) q353 rfl rfl rfl rfl dX0_init_49 (pc' := 52) rfl (nO_ _) (fO_ _) M_43 e_44 ?_
  refine r_aload_n C dX0_init_52 (pc' := 53) rfl (j := 0) rfl ?_
  refine r_sipush C dX0_init_53 (pc' := 56) rfl (v := 220) rfl ?_
  obtain ⟨b_47, e_48, h⟩ := bn_ h
  obtain ⟨M_49, e_50, h⟩ := bn_ h
  refine r_newB C 220 (by decide) (by decide) (by decide) q343 (Nat.le_of_ble_eq_true rfl) (Nat.le_of_ble_eq_true rfl) dX0_init_56 (pc' := 58) rfl b_47 e_48 M_49 e_50 (fun m_45 k_46 => ?_)
  obtain ⟨M_51, e_52, h⟩ := bn_ h
  refine r_putRF C (Cn := RX0) (T := TX0) (x := (some b_47)) tyX0 4 (mMo.kd m_45 (mMo.kd (mo_R e_44) (mMo.kd m_42 (mMo.kd m_34 (mMo.kd (mo_R e_33) (mMo.kd m_31 (mMo.kd m_23 (mMo.kd (mo_R e_22) (mMo.kd m_20 (mMo.kd m_12 (mMo.kd (mo_R e_11) (mMo.kd m_9 (mMo.kd m_1 k_a0 (by decide)) (by decide)) (by decide)) (by decide)) (by decide)) (by decide)) (by decide)) (by decide)) (by decide)) (by decide)) (by decide)) (by decide)) (by decide)) (by decide) vc_X0 in_X0 tyX0_ok nmX0 (by decide) q356 rfl rfl rfl rfl dX0_init_58 (pc' := 61) rfl (nA_ _) (fA_ _) M_51 e_52 ?_
  refine r_aload_n C dX0_init_61 (pc' := 62) rfl (j := 0) rfl ?_
  refine r_iconst C dX0_init_62 (pc' := 63) rfl (v := 4) rfl ?_
  obtain ⟨b_55, e_56, h⟩ := bn_ h
  obtain ⟨M_57, e_58, h⟩ := bn_ h
  refine r_newQ C (t := 5) 4 (by decide) (by decide) (by decide) (by decide) q314 (List.mem_of_getElem? (i := 2) rfl) (Nat.le_of_ble_eq_true rfl) (Nat.le_of_ble_eq_true rfl) dX0_init_63 (pc' := 66) rfl b_55 e_56 M_57 e_58 (fun m_53 k_54 => ?_)
  obtain ⟨M_59, e_60, h⟩ := bn_ h
  refine r_putRF C (Cn := RX0) (T := TX0) (x := (some b_55)) tyX0 5 (mMo.kd m_53 (mMo.kd (mo_R e_52) (mMo.kd m_45 (mMo.kd (mo_R e_44) (mMo.kd m_42 (mMo.kd m_34 (mMo.kd (mo_R e_33) (mMo.kd m_31 (mMo.kd m_23 (mMo.kd (mo_R e_22) (mMo.kd m_20 (mMo.kd m_12 (mMo.kd (mo_R e_11) (mMo.kd m_9 (mMo.kd m_1 k_a0 (by decide)) (by decide)) (by decide)) (by decide)) (by decide)) (by decide)) (by decide)) (by decide)) (by decide)) (by decide)) (by decide)) (by decide)) (by decide)) (by decide)) (by decide)) (by decide) vc_X0 in_X0 tyX0_ok nmX0 (by decide) q358 rfl rfl rfl rfl dX0_init_66 (pc' := 69) rfl (nA_ _) (fA_ _) M_59 e_60 ?_
  refine r_aload_n C dX0_init_69 (pc' := 70) rfl (j := 0) rfl ?_
  obtain ⟨b_63, e_64, h⟩ := bn_ h
  obtain ⟨M_65, e_66, h⟩ := bn_ h
  refine r_new C (Cn := RX6) (T := TX6) tyX6 (by decide) vc_X6 in_X6 tyX6_ok df_X6 q314 q316 q111 (Nat.le_of_ble_eq_true rfl) (Nat.le_of_ble_eq_true rfl) dX0_init_70 (pc' := 73) rfl b_63 e_64 M_65 e_66 (fun m_61 k_62 => ?_)
  refine r_dup C dX0_init_73 (pc' := 74) rfl rfl ?_
  refine r_callINv (As := []) (rest := [.ref b_63, .ref a0]) C (S_X6_init k_62 h) q319 q111 (List.mem_of_getElem? (i := 2) rfl) q318 rfl rfl hd_X6_init rfl rfl (Nat.le_of_ble_eq_true rfl) (Nat.le_of_ble_eq_true rfl) (Nat.le_of_ble_eq_true rfl) rfl rfl (Nat.le_of_ble_eq_true rfl) (Nat.le_of_ble_eq_true rfl) dX0_init_74 (pc' := 77) rfl (fun M_67 h m_69 => ?_)
  obtain ⟨M_70, e_71, h⟩ := bn_ h
  refine r_putR C (Cn := RX0) (T := TX0) (x := (some b_63)) tyX0 6 (mMo.kd m_69 (mMo.kd m_61 (mMo.kd (mo_R e_60) (mMo.kd m_53 (mMo.kd (mo_R e_52) (mMo.kd m_45 (mMo.kd (mo_R e_44) (mMo.kd m_42 (mMo.kd m_34 (mMo.kd (mo_R e_33) (mMo.kd m_31 (mMo.kd m_23 (mMo.kd (mo_R e_22) (mMo.kd m_20 (mMo.kd m_12 (mMo.kd (mo_R e_11) (mMo.kd m_9 (mMo.kd m_1 k_a0 (by decide)) (by decide)) (by decide)) (by decide)) (by decide)) (by decide)) (by decide)) (by decide)) (by decide)) (by decide)) (by decide)) (by decide)) (by decide)) (by decide)) (by decide)) (by decide)) (by decide)) (by decide)) (by decide) vc_X0 in_X0 tyX0_ok nmX0 (by decide) q360 rfl rfl dX0_init_77 (pc' := 80) rfl (nO_ _) (fO_ _) M_70 e_71 ?_
  refine r_aload_n C dX0_init_80 (pc' := 81) rfl (j := 0) rfl ?_
  refine r_bipush C dX0_init_81 (pc' := 83) rfl (v := 25) rfl ?_
  refine r_bipush C dX0_init_83 (pc' := 85) rfl (v := 20) rfl ?_
  obtain ⟨b_74, e_75, h⟩ := bn_ h
  obtain ⟨M_76, e_77, h⟩ := bn_ h
  refine r_mnew C (t := 9) (u := 1) 25 20 (Or.inl ⟨rfl, rfl⟩) (by decide) (by decide) (by decide) (by decide) (by decide) (by decide) q344 q454 (Nat.le_of_ble_eq_true rfl) (Nat.le_of_ble_eq_true rfl) dX0_init_85 (pc' := 89) rfl b_74 e_75 M_76 e_77 (fun m_72 k_73 => ?_)
  obtain ⟨M_78, e_79, h⟩ := bn_ h
  refine r_putRF C (Cn := RX0) (T := TX0) (x := (some b_74)) tyX0 9 (mMo.kd m_72 (mMo.kd (mo_R e_71) (mMo.kd m_69 (mMo.kd m_61 (mMo.kd (mo_R e_60) (mMo.kd m_53 (mMo.kd (mo_R e_52) (mMo.kd m_45 (mMo.kd (mo_R e_44) (mMo.kd m_42 (mMo.kd m_34 (mMo.kd (mo_R e_33) (mMo.kd m_31 (mMo.kd m_23 (mMo.kd (mo_R e_22) (mMo.kd m_20 (mMo.kd m_12 (mMo.kd (mo_R e_11) (mMo.kd m_9 (mMo.kd m_1 k_a0 (by decide)) (by decide)) (by decide)) (by decide)) (by decide)) (by decide)) (by decide)) (by decide)) (by decide)) (by decide)) (by decide)) (by decide)) (by decide)) (by decide)) (by decide)) (by decide)) (by decide)) (by decide)) (by decide)) (by decide)) (by decide) vc_X0 in_X0 tyX0_ok nmX0 (by decide) q363 rfl rfl rfl rfl dX0_init_89 (pc' := 92) rfl (nA_ _) (fA_ _) M_78 e_79 ?_
  refine r_aload_n C dX0_init_92 (pc' := 93) rfl (j := 0) rfl ?_
  refine r_bipush C dX0_init_93 (pc' := 95) rfl (v := 25) rfl ?_
  refine r_bipush C dX0_init_95 (pc' := 97) rfl (v := 20) rfl ?_
  obtain ⟨b_82, e_83, h⟩ := bn_ h
  obtain ⟨M_84, e_85, h⟩ := bn_ h
  refine r_mnew C (t := 9) (u := 1) 25 20 (Or.inl ⟨rfl, rfl⟩) (by decide) (by decide) (by decide) (by decide) (by decide) (by decide) q344 q454 (Nat.le_of_ble_eq_true rfl) (Nat.le_of_ble_eq_true rfl) dX0_init_97 (pc' := 101) rfl b_82 e_83 M_84 e_85 (fun m_80 k_81 => ?_)
  obtain ⟨M_86, e_87, h⟩ := bn_ h
  refine r_putRF C (Cn := RX0) (T := TX0) (x := (some b_82)) tyX0 10 (mMo.kd m_80 (mMo.kd (mo_R e_79) (mMo.kd m_72 (mMo.kd (mo_R e_71) (mMo.kd m_69 (mMo.kd m_61 (mMo.kd (mo_R e_60) (mMo.kd m_53 (mMo.kd (mo_R e_52) (mMo.kd m_45 (mMo.kd (mo_R e_44) (mMo.kd m_42 (mMo.kd m_34 (mMo.kd (mo_R e_33) (mMo.kd m_31 (mMo.kd m_23 (mMo.kd (mo_R e_22) (mMo.kd m_20 (mMo.kd m_12 (mMo.kd (mo_R e_11) (mMo.kd m_9 (mMo.kd m_1 k_a0 (by decide)) (by decide)) (by decide)) (by decide)) (by decide)) (by decide)) (by decide)) (by decide)) (by decide)) (by decide)) (by decide)) (by decide)) (by decide)) (by decide)) (by decide)) (by decide)) (by decide)) (by decide)) (by decide)) (by decide)) (by decide)) (by decide)) (by decide) vc_X0 in_X0 tyX0_ok nmX0 (by decide) q364 rfl rfl rfl rfl dX0_init_101 (pc' := 104) rfl (nA_ _) (fA_ _) M_86 e_87 ?_
  refine r_aload_n C dX0_init_104 (pc' := 105) rfl (j := 0) rfl ?_
  refine r_iconst C dX0_init_105 (pc' := 106) rfl (v := 3) rfl ?_
  obtain ⟨b_90, e_91, h⟩ := bn_ h
  obtain ⟨M_92, e_93, h⟩ := bn_ h
  refine r_newI C 3 (by decide) (by decide) (by decide) q255 (Nat.le_of_ble_eq_true rfl) (Nat.le_of_ble_eq_true rfl) dX0_init_106 (pc' := 108) rfl b_90 e_91 M_92 e_93 (fun m_88 k_89 => ?_)
  obtain ⟨M_94, e_95, h⟩ := bn_ h
  refine r_putRF C (Cn := RX0) (T := TX0) (x := (some b_90)) tyX0 11 (mMo.kd m_88 (mMo.kd (mo_R e_87) (mMo.kd m_80 (mMo.kd (mo_R e_79) (mMo.kd m_72 (mMo.kd (mo_R e_71) (mMo.kd m_69 (mMo.kd m_61 (mMo.kd (mo_R e_60) (mMo.kd m_53 (mMo.kd (mo_R e_52) (mMo.kd m_45 (mMo.kd (mo_R e_44) (mMo.kd m_42 (mMo.kd m_34 (mMo.kd (mo_R e_33) (mMo.kd m_31 (mMo.kd m_23 (mMo.kd (mo_R e_22) (mMo.kd m_20 (mMo.kd m_12 (mMo.kd (mo_R e_11) (mMo.kd m_9 (mMo.kd m_1 k_a0 (by decide)) (by decide)) (by decide)) (by decide)) (by decide)) (by decide)) (by decide)) (by decide)) (by decide)) (by decide)) (by decide)) (by decide)) (by decide)) (by decide)) (by decide)) (by decide)) (by decide)) (by decide)) (by decide)) (by decide)) (by decide)) (by decide)) (by decide)) (by decide)) (by decide) vc_X0 in_X0 tyX0_ok nmX0 (by decide) q365 rfl rfl rfl rfl dX0_init_108 (pc' := 111) rfl (nA_ _) (fA_ _) M_94 e_95 ?_
  refine r_aload_n C dX0_init_111 (pc' := 112) rfl (j := 0) rfl ?_
  refine r_iconst C dX0_init_112 (pc' := 113) rfl (v := 3) rfl ?_
  obtain ⟨b_98, e_99, h⟩ := bn_ h
  obtain ⟨M_100, e_101, h⟩ := bn_ h
  refine r_newI C 3 (by decide) (by decide) (by decide) q255 (Nat.le_of_ble_eq_true rfl) (Nat.le_of_ble_eq_true rfl) dX0_init_113 (pc' := 115) rfl b_98 e_99 M_100 e_101 (fun m_96 k_97 => ?_)
  obtain ⟨M_102, e_103, h⟩ := bn_ h
  refine r_putRF C (Cn := RX0) (T := TX0) (x := (some b_98)) tyX0 12 (mMo.kd m_96 (mMo.kd (mo_R e_95) (mMo.kd m_88 (mMo.kd (mo_R e_87) (mMo.kd m_80 (mMo.kd (mo_R e_79) (mMo.kd m_72 (mMo.kd (mo_R e_71) (mMo.kd m_69 (mMo.kd m_61 (mMo.kd (mo_R e_60) (mMo.kd m_53 (mMo.kd (mo_R e_52) (mMo.kd m_45 (mMo.kd (mo_R e_44) (mMo.kd m_42 (mMo.kd m_34 (mMo.kd (mo_R e_33) (mMo.kd m_31 (mMo.kd m_23 (mMo.kd (mo_R e_22) (mMo.kd m_20 (mMo.kd m_12 (mMo.kd (mo_R e_11) (mMo.kd m_9 (mMo.kd m_1 k_a0 (by decide)) (by decide)) (by decide)) (by decide)) (by decide)) (by decide)) (by decide)) (by decide)) (by decide)) (by decide)) (by decide)) (by decide)) (by decide)) (by decide)) (by decide)) (by decide)) (by decide)) (by decide)) (by decide)) (by decide)) (by decide)) (by decide)) (by decide)) (by decide)) (by decide)) (by decide)) (by decide) vc_X0 in_X0 tyX0_ok nmX0 (by decide) q366 rfl rfl rfl rfl dX0_init_115 (pc' := 118) rfl (nA_ _) (fA_ _) M_102 e_103 ?_
  refine r_aload_n C dX0_init_118 (pc' := 119) rfl (j := 0) rfl ?_
  refine r_bipush C dX0_init_119 (pc' := 121) rfl (v := 7) rfl ?_
  obtain ⟨b_106, e_107, h⟩ := bn_ h
  obtain ⟨M_108, e_109, h⟩ := bn_ h
  refine r_newI C 7 (by decide) (by decide) (by decide) q255 (Nat.le_of_ble_eq_true rfl) (Nat.le_of_ble_eq_true rfl) dX0_init_121 (pc' := 123) rfl b_106 e_107 M_108 e_109 (fun m_104 k_105 => ?_)
  obtain ⟨M_110, e_111, h⟩ := bn_ h
  refine r_putRF C (Cn := RX0) (T := TX0) (x := (some b_106)) tyX0 23 (mMo.kd m_104 (mMo.kd (mo_R e_103) (mMo.kd m_96 (mMo.kd (mo_R e_95) (mMo.kd m_88 (mMo.kd (mo_R e_87) (mMo.kd m_80 (mMo.kd (mo_R e_79) (mMo.kd m_72 (mMo.kd (mo_R e_71) (mMo.kd m_69 (mMo.kd m_61 (mMo.kd (mo_R e_60) (mMo.kd m_53 (mMo.kd (mo_R e_52) (mMo.kd m_45 (mMo.kd (mo_R e_44) (mMo.kd m_42 (mMo.kd m_34 (mMo.kd (mo_R e_33) (mMo.kd m_31 (mMo.kd m_23 (mMo.kd (mo_R e_22) (mMo.kd m_20 (mMo.kd m_12 (mMo.kd (mo_R e_11) (mMo.kd m_9 (mMo.kd m_1 k_a0 (by decide)) (by decide)) (by decide)) (by decide)) (by decide)) (by decide)) (by decide)) (by decide)) (by decide)) (by decide)) (by decide)) (by decide)) (by decide)) (by decide)) (by decide)) (by decide)) (by decide)) (by decide)) (by decide)) (by decide)) (by decide)) (by decide)) (by decide)) (by decide)) (by decide)) (by decide)) (by decide)) (by decide)) (by decide) vc_X0 in_X0 tyX0_ok nmX0 (by decide) q377 rfl rfl rfl rfl dX0_init_123 (pc' := 126) rfl (nA_ _) (fA_ _) M_110 e_111 ?_
  refine r_aload_n C dX0_init_126 (pc' := 127) rfl (j := 0) rfl ?_
  refine r_bipush C dX0_init_127 (pc' := 129) rfl (v := 7) rfl ?_
  obtain ⟨b_114, e_115, h⟩ := bn_ h
  obtain ⟨M_116, e_117, h⟩ := bn_ h
  refine r_newI C 7 (by decide) (by decide) (by decide) q255 (Nat.le_of_ble_eq_true rfl) (Nat.le_of_ble_eq_true rfl) dX0_init_129 (pc' := 131) rfl b_114 e_115 M_116 e_117 (fun m_112 k_113 => ?_)
  obtain ⟨M_118, e_119, h⟩ := bn_ h
  refine r_putRF C (Cn := RX0) (T := TX0) (x := (some b_114)) tyX0 24 (mMo.kd m_112 (mMo.kd (mo_R e_111) (mMo.kd m_104 (mMo.kd (mo_R e_103) (mMo.kd m_96 (mMo.kd (mo_R e_95) (mMo.kd m_88 (mMo.kd (mo_R e_87) (mMo.kd m_80 (mMo.kd (mo_R e_79) (mMo.kd m_72 (mMo.kd (mo_R e_71) (mMo.kd m_69 (mMo.kd m_61 (mMo.kd (mo_R e_60) (mMo.kd m_53 (mMo.kd (mo_R e_52) (mMo.kd m_45 (mMo.kd (mo_R e_44) (mMo.kd m_42 (mMo.kd m_34 (mMo.kd (mo_R e_33) (mMo.kd m_31 (mMo.kd m_23 (mMo.kd (mo_R e_22) (mMo.kd m_20 (mMo.kd m_12 (mMo.kd (mo_R e_11) (mMo.kd m_9 (mMo.kd m_1 k_a0 (by decide)) (by decide)) (by decide)) (by decide)) (by decide)) (by decide)) (by decide)) (by decide)) (by decide)) (by decide)) (by decide)) (by decide)) (by decide)) (by decide)) (by decide)) (by decide)) (by decide)) (by decide)) (by decide)) (by decide)) (by decide)) (by decide)) (by decide)) (by decide)) (by decide)) (by decide)) (by decide)) (by decide)) (by decide)) (by decide)) (by decide) vc_X0 in_X0 tyX0_ok nmX0 (by decide) q378 rfl rfl rfl rfl dX0_init_131 (pc' := 134) rfl (nA_ _) (fA_ _) M_118 e_119 ?_
  refine r_aload_n C dX0_init_134 (pc' := 135) rfl (j := 0) rfl ?_
  refine r_bipush C dX0_init_135 (pc' := 137) rfl (v := 8) rfl ?_
  obtain ⟨b_122, e_123, h⟩ := bn_ h
  obtain ⟨M_124, e_125, h⟩ := bn_ h
  refine r_newQ C (t := 8) 8 (by decide) (by decide) (by decide) (by decide) q192 (List.mem_of_getElem? (i := 5) rfl) (Nat.le_of_ble_eq_true rfl) (Nat.le_of_ble_eq_true rfl) dX0_init_137 (pc' := 140) rfl b_122 e_123 M_124 e_125 (fun m_120 k_121 => ?_)
  refine r_dup C dX0_init_140 (pc' := 141) rfl rfl ?_
  refine r_iconst C dX0_init_141 (pc' := 142) rfl (v := 0) rfl ?_
  obtain ⟨b_128, e_129, h⟩ := bn_ h
  obtain ⟨M_130, e_131, h⟩ := bn_ h
  refine r_new C (Cn := RX3) (T := TX3) tyX3 (by decide) vc_X3 in_X3 tyX3_ok df_X3 q192 q193 q108 (Nat.le_of_ble_eq_true rfl) (Nat.le_of_ble_eq_true rfl) dX0_init_142 (pc' := 145) rfl b_128 e_129 M_130 e_131 (fun m_126 k_127 => ?_)
  refine r_dup C dX0_init_145 (pc' := 146) rfl rfl ?_
  refine r_aload_n C dX0_init_146 (pc' := 147) rfl (j := 0) rfl ?_
  refine r_callIv (As := [.ref a0]) (rest := [.ref b_128, .int (0 : Int32), .ref b_122, .ref b_122, .ref a0]) C (S_X3_init k_127 (mMo.kd m_126 (mMo.kd m_120 (mMo.kd (mo_R e_119) (mMo.kd m_112 (mMo.kd (mo_R e_111) (mMo.kd m_104 (mMo.kd (mo_R e_103) (mMo.kd m_96 (mMo.kd (mo_R e_95) (mMo.kd m_88 (mMo.kd (mo_R e_87) (mMo.kd m_80 (mMo.kd (mo_R e_79) (mMo.kd m_72 (mMo.kd (mo_R e_71) (mMo.kd m_69 (mMo.kd m_61 (mMo.kd (mo_R e_60) (mMo.kd m_53 (mMo.kd (mo_R e_52) (mMo.kd m_45 (mMo.kd (mo_R e_44) (mMo.kd m_42 (mMo.kd m_34 (mMo.kd (mo_R e_33) (mMo.kd m_31 (mMo.kd m_23 (mMo.kd (mo_R e_22) (mMo.kd m_20 (mMo.kd m_12 (mMo.kd (mo_R e_11) (mMo.kd m_9 (mMo.kd m_1 k_a0 (by decide)) (by decide)) (by decide)) (by decide)) (by decide)) (by decide)) (by decide)) (by decide)) (by decide)) (by decide)) (by decide)) (by decide)) (by decide)) (by decide)) (by decide)) (by decide)) (by decide)) (by decide)) (by decide)) (by decide)) (by decide)) (by decide)) (by decide)) (by decide)) (by decide)) (by decide)) (by decide)) (by decide)) (by decide)) (by decide)) (by decide)) (by decide)) (by decide)) h) q196 q108 q194 q195 rfl rfl hd_X3_init rfl rfl (Nat.le_of_ble_eq_true rfl) (Nat.le_of_ble_eq_true rfl) (Nat.le_of_ble_eq_true rfl) rfl rfl (Nat.le_of_ble_eq_true rfl) (Nat.le_of_ble_eq_true rfl) dX0_init_147 (pc' := 150) rfl (fun M_132 h m_134 => ?_)
  obtain ⟨c_135, h⟩ := h
  obtain ⟨M_136, e_137, h⟩ := bn_ h
  refine r_aast C (o := (some b_128)) (t := 8) (j := 0) (mMo.kd m_134 (mMo.kd m_126 k_121 (by decide)) (by decide)) (by decide) (vp_l (by decide) (by decide) c_135) (by decide) (fun v hv => by cases hv; rw [(mMo.kd m_134 k_127 (by decide))]; exact ⟨rfl, by decide⟩) dX0_init_150 (pc' := 151) rfl M_136 e_137 ?_
  refine r_dup C dX0_init_151 (pc' := 152) rfl rfl ?_
  refine r_iconst C dX0_init_152 (pc' := 153) rfl (v := 1) rfl ?_
  obtain ⟨b_140, e_141, h⟩ := bn_ h
  obtain ⟨M_142, e_143, h⟩ := bn_ h
  refine r_new C (Cn := RX3) (T := TX3) tyX3 (by decide) vc_X3 in_X3 tyX3_ok df_X3 q192 q193 q108 (Nat.le_of_ble_eq_true rfl) (Nat.le_of_ble_eq_true rfl) dX0_init_153 (pc' := 156) rfl b_140 e_141 M_142 e_143 (fun m_138 k_139 => ?_)
  refine r_dup C dX0_init_156 (pc' := 157) rfl rfl ?_
  refine r_aload_n C dX0_init_157 (pc' := 158) rfl (j := 0) rfl ?_
  refine r_callIv (As := [.ref a0]) (rest := [.ref b_140, .int (1 : Int32), .ref b_122, .ref b_122, .ref a0]) C (S_X3_init k_139 (mMo.kd m_138 (mMo.kd (mo_R e_137) (mMo.kd m_134 (mMo.kd m_126 (mMo.kd m_120 (mMo.kd (mo_R e_119) (mMo.kd m_112 (mMo.kd (mo_R e_111) (mMo.kd m_104 (mMo.kd (mo_R e_103) (mMo.kd m_96 (mMo.kd (mo_R e_95) (mMo.kd m_88 (mMo.kd (mo_R e_87) (mMo.kd m_80 (mMo.kd (mo_R e_79) (mMo.kd m_72 (mMo.kd (mo_R e_71) (mMo.kd m_69 (mMo.kd m_61 (mMo.kd (mo_R e_60) (mMo.kd m_53 (mMo.kd (mo_R e_52) (mMo.kd m_45 (mMo.kd (mo_R e_44) (mMo.kd m_42 (mMo.kd m_34 (mMo.kd (mo_R e_33) (mMo.kd m_31 (mMo.kd m_23 (mMo.kd (mo_R e_22) (mMo.kd m_20 (mMo.kd m_12 (mMo.kd (mo_R e_11) (mMo.kd m_9 (mMo.kd m_1 k_a0 (by decide)) (by decide)) (by decide)) (by decide)) (by decide)) (by decide)) (by decide)) (by decide)) (by decide)) (by decide)) (by decide)) (by decide)) (by decide)) (by decide)) (by decide)) (by decide)) (by decide)) (by decide)) (by decide)) (by decide)) (by decide)) (by decide)) (by decide)) (by decide)) (by decide)) (by decide)) (by decide)) (by decide)) (by decide)) (by decide)) (by decide)) (by decide)) (by decide)) (by decide)) (by decide)) (by decide)) h) q196 q108 q194 q195 rfl rfl hd_X3_init rfl rfl (Nat.le_of_ble_eq_true rfl) (Nat.le_of_ble_eq_true rfl) (Nat.le_of_ble_eq_true rfl) rfl rfl (Nat.le_of_ble_eq_true rfl) (Nat.le_of_ble_eq_true rfl) dX0_init_158 (pc' := 161) rfl (fun M_144 h m_146 => ?_)
  obtain ⟨c_147, h⟩ := h
  obtain ⟨M_148, e_149, h⟩ := bn_ h
  refine r_aast C (o := (some b_140)) (t := 8) (j := 1) (mMo.kd m_146 (mMo.kd m_138 (mMo.kd (mo_R e_137) (mMo.kd m_134 (mMo.kd m_126 k_121 (by decide)) (by decide)) (by decide)) (by decide)) (by decide)) (by decide) (vp_l (by decide) (by decide) c_147) (by decide) (fun v hv => by cases hv; rw [(mMo.kd m_146 k_139 (by decide))]; exact ⟨rfl, by decide⟩) dX0_init_161 (pc' := 162) rfl M_148 e_149 ?_
  refine r_dup C dX0_init_162 (pc' := 163) rfl rfl ?_
  refine r_iconst C dX0_init_163 (pc' := 164) rfl (v := 2) rfl ?_
  obtain ⟨b_152, e_153, h⟩ := bn_ h
  obtain ⟨M_154, e_155, h⟩ := bn_ h
  refine r_new C (Cn := RX3) (T := TX3) tyX3 (by decide) vc_X3 in_X3 tyX3_ok df_X3 q192 q193 q108 (Nat.le_of_ble_eq_true rfl) (Nat.le_of_ble_eq_true rfl) dX0_init_164 (pc' := 167) rfl b_152 e_153 M_154 e_155 (fun m_150 k_151 => ?_)
  refine r_dup C dX0_init_167 (pc' := 168) rfl rfl ?_
  refine r_aload_n C dX0_init_168 (pc' := 169) rfl (j := 0) rfl ?_
  refine r_callIv (As := [.ref a0]) (rest := [.ref b_152, .int (2 : Int32), .ref b_122, .ref b_122, .ref a0]) C (S_X3_init k_151 (mMo.kd m_150 (mMo.kd (mo_R e_149) (mMo.kd m_146 (mMo.kd m_138 (mMo.kd (mo_R e_137) (mMo.kd m_134 (mMo.kd m_126 (mMo.kd m_120 (mMo.kd (mo_R e_119) (mMo.kd m_112 (mMo.kd (mo_R e_111) (mMo.kd m_104 (mMo.kd (mo_R e_103) (mMo.kd m_96 (mMo.kd (mo_R e_95) (mMo.kd m_88 (mMo.kd (mo_R e_87) (mMo.kd m_80 (mMo.kd (mo_R e_79) (mMo.kd m_72 (mMo.kd (mo_R e_71) (mMo.kd m_69 (mMo.kd m_61 (mMo.kd (mo_R e_60) (mMo.kd m_53 (mMo.kd (mo_R e_52) (mMo.kd m_45 (mMo.kd (mo_R e_44) (mMo.kd m_42 (mMo.kd m_34 (mMo.kd (mo_R e_33) (mMo.kd m_31 (mMo.kd m_23 (mMo.kd (mo_R e_22) (mMo.kd m_20 (mMo.kd m_12 (mMo.kd (mo_R e_11) (mMo.kd m_9 (mMo.kd m_1 k_a0 (by decide)) (by decide)) (by decide)) (by decide)) (by decide)) (by decide)) (by decide)) (by decide)) (by decide)) (by decide)) (by decide)) (by decide)) (by decide)) (by decide)) (by decide)) (by decide)) (by decide)) (by decide)) (by decide)) (by decide)) (by decide)) (by decide)) (by decide)) (by decide)) (by decide)) (by decide)) (by decide)) (by decide)) (by decide)) (by decide)) (by decide)) (by decide)) (by decide)) (by decide)) (by decide)) (by decide)) (by decide)) (by decide)) (by decide)) h) q196 q108 q194 q195 rfl rfl hd_X3_init rfl rfl (Nat.le_of_ble_eq_true rfl) (Nat.le_of_ble_eq_true rfl) (Nat.le_of_ble_eq_true rfl) rfl rfl (Nat.le_of_ble_eq_true rfl) (Nat.le_of_ble_eq_true rfl) dX0_init_169 (pc' := 172) rfl (fun M_156 h m_158 => ?_)
  obtain ⟨c_159, h⟩ := h
  obtain ⟨M_160, e_161, h⟩ := bn_ h
  refine r_aast C (o := (some b_152)) (t := 8) (j := 2) (mMo.kd m_158 (mMo.kd m_150 (mMo.kd (mo_R e_149) (mMo.kd m_146 (mMo.kd m_138 (mMo.kd (mo_R e_137) (mMo.kd m_134 (mMo.kd m_126 k_121 (by decide)) (by decide)) (by decide)) (by decide)) (by decide)) (by decide)) (by decide)) (by decide)) (by decide) (vp_l (by decide) (by decide) c_159) (by decide) (fun v hv => by cases hv; rw [(mMo.kd m_158 k_151 (by decide))]; exact ⟨rfl, by decide⟩) dX0_init_172 (pc' := 173) rfl M_160 e_161 ?_
  refine r_dup C dX0_init_173 (pc' := 174) rfl rfl ?_
  refine r_iconst C dX0_init_174 (pc' := 175) rfl (v := 3) rfl ?_
  obtain ⟨b_164, e_165, h⟩ := bn_ h
  obtain ⟨M_166, e_167, h⟩ := bn_ h
  refine r_new C (Cn := RX3) (T := TX3) tyX3 (by decide) vc_X3 in_X3 tyX3_ok df_X3 q192 q193 q108 (Nat.le_of_ble_eq_true rfl) (Nat.le_of_ble_eq_true rfl) dX0_init_175 (pc' := 178) rfl b_164 e_165 M_166 e_167 (fun m_162 k_163 => ?_)
  refine r_dup C dX0_init_178 (pc' := 179) rfl rfl ?_
  refine r_aload_n C dX0_init_179 (pc' := 180) rfl (j := 0) rfl ?_
  refine r_callIv (As := [.ref a0]) (rest := [.ref b_164, .int (3 : Int32), .ref b_122, .ref b_122, .ref a0]) C (S_X3_init k_163 (mMo.kd m_162 (mMo.kd (mo_R e_161) (mMo.kd m_158 (mMo.kd m_150 (mMo.kd (mo_R e_149) (mMo.kd m_146 (mMo.kd m_138 (mMo.kd (mo_R e_137) (mMo.kd m_134 (mMo.kd m_126 (mMo.kd m_120 (mMo.kd (mo_R e_119) (mMo.kd m_112 (mMo.kd (mo_R e_111) (mMo.kd m_104 (mMo.kd (mo_R e_103) (mMo.kd m_96 (mMo.kd (mo_R e_95) (mMo.kd m_88 (mMo.kd (mo_R e_87) (mMo.kd m_80 (mMo.kd (mo_R e_79) (mMo.kd m_72 (mMo.kd (mo_R e_71) (mMo.kd m_69 (mMo.kd m_61 (mMo.kd (mo_R e_60) (mMo.kd m_53 (mMo.kd (mo_R e_52) (mMo.kd m_45 (mMo.kd (mo_R e_44) (mMo.kd m_42 (mMo.kd m_34 (mMo.kd (mo_R e_33) (mMo.kd m_31 (mMo.kd m_23 (mMo.kd (mo_R e_22) (mMo.kd m_20 (mMo.kd m_12 (mMo.kd (mo_R e_11) (mMo.kd m_9 (mMo.kd m_1 k_a0 (by decide)) (by decide)) (by decide)) (by decide)) (by decide)) (by decide)) (by decide)) (by decide)) (by decide)) (by decide)) (by decide)) (by decide)) (by decide)) (by decide)) (by decide)) (by decide)) (by decide)) (by decide)) (by decide)) (by decide)) (by decide)) (by decide)) (by decide)) (by decide)) (by decide)) (by decide)) (by decide)) (by decide)) (by decide)) (by decide)) (by decide)) (by decide)) (by decide)) (by decide)) (by decide)) (by decide)) (by decide)) (by decide)) (by decide)) (by decide)) (by decide)) (by decide)) h) q196 q108 q194 q195 rfl rfl hd_X3_init rfl rfl (Nat.le_of_ble_eq_true rfl) (Nat.le_of_ble_eq_true rfl) (Nat.le_of_ble_eq_true rfl) rfl rfl (Nat.le_of_ble_eq_true rfl) (Nat.le_of_ble_eq_true rfl) dX0_init_180 (pc' := 183) rfl (fun M_168 h m_170 => ?_)
  obtain ⟨c_171, h⟩ := h
  obtain ⟨M_172, e_173, h⟩ := bn_ h
  refine r_aast C (o := (some b_164)) (t := 8) (j := 3) (mMo.kd m_170 (mMo.kd m_162 (mMo.kd (mo_R e_161) (mMo.kd m_158 (mMo.kd m_150 (mMo.kd (mo_R e_149) (mMo.kd m_146 (mMo.kd m_138 (mMo.kd (mo_R e_137) (mMo.kd m_134 (mMo.kd m_126 k_121 (by decide)) (by decide)) (by decide)) (by decide)) (by decide)) (by decide)) (by decide)) (by decide)) (by decide)) (by decide)) (by decide)) (by decide) (vp_l (by decide) (by decide) c_171) (by decide) (fun v hv => by cases hv; rw [(mMo.kd m_170 k_163 (by decide))]; exact ⟨rfl, by decide⟩) dX0_init_183 (pc' := 184) rfl M_172 e_173 ?_
  refine r_dup C dX0_init_184 (pc' := 185) rfl rfl ?_
  refine r_iconst C dX0_init_185 (pc' := 186) rfl (v := 4) rfl ?_
  obtain ⟨b_176, e_177, h⟩ := bn_ h
  obtain ⟨M_178, e_179, h⟩ := bn_ h
  refine r_new C (Cn := RX3) (T := TX3) tyX3 (by decide) vc_X3 in_X3 tyX3_ok df_X3 q192 q193 q108 (Nat.le_of_ble_eq_true rfl) (Nat.le_of_ble_eq_true rfl) dX0_init_186 (pc' := 189) rfl b_176 e_177 M_178 e_179 (fun m_174 k_175 => ?_)
  refine r_dup C dX0_init_189 (pc' := 190) rfl rfl ?_
  refine r_aload_n C dX0_init_190 (pc' := 191) rfl (j := 0) rfl ?_
  refine r_callIv (As := [.ref a0]) (rest := [.ref b_176, .int (4 : Int32), .ref b_122, .ref b_122, .ref a0]) C (S_X3_init k_175 (mMo.kd m_174 (mMo.kd (mo_R e_173) (mMo.kd m_170 (mMo.kd m_162 (mMo.kd (mo_R e_161) (mMo.kd m_158 (mMo.kd m_150 (mMo.kd (mo_R e_149) (mMo.kd m_146 (mMo.kd m_138 (mMo.kd (mo_R e_137) (mMo.kd m_134 (mMo.kd m_126 (mMo.kd m_120 (mMo.kd (mo_R e_119) (mMo.kd m_112 (mMo.kd (mo_R e_111) (mMo.kd m_104 (mMo.kd (mo_R e_103) (mMo.kd m_96 (mMo.kd (mo_R e_95) (mMo.kd m_88 (mMo.kd (mo_R e_87) (mMo.kd m_80 (mMo.kd (mo_R e_79) (mMo.kd m_72 (mMo.kd (mo_R e_71) (mMo.kd m_69 (mMo.kd m_61 (mMo.kd (mo_R e_60) (mMo.kd m_53 (mMo.kd (mo_R e_52) (mMo.kd m_45 (mMo.kd (mo_R e_44) (mMo.kd m_42 (mMo.kd m_34 (mMo.kd (mo_R e_33) (mMo.kd m_31 (mMo.kd m_23 (mMo.kd (mo_R e_22) (mMo.kd m_20 (mMo.kd m_12 (mMo.kd (mo_R e_11) (mMo.kd m_9 (mMo.kd m_1 k_a0 (by decide)) (by decide)) (by decide)) (by decide)) (by decide)) (by decide)) (by decide)) (by decide)) (by decide)) (by decide)) (by decide)) (by decide)) (by decide)) (by decide)) (by decide)) (by decide)) (by decide)) (by decide)) (by decide)) (by decide)) (by decide)) (by decide)) (by decide)) (by decide)) (by decide)) (by decide)) (by decide)) (by decide)) (by decide)) (by decide)) (by decide)) (by decide)) (by decide)) (by decide)) (by decide)) (by decide)) (by decide)) (by decide)) (by decide)) (by decide)) (by decide)) (by decide)) (by decide)) (by decide)) (by decide)) h) q196 q108 q194 q195 rfl rfl hd_X3_init rfl rfl (Nat.le_of_ble_eq_true rfl) (Nat.le_of_ble_eq_true rfl) (Nat.le_of_ble_eq_true rfl) rfl rfl (Nat.le_of_ble_eq_true rfl) (Nat.le_of_ble_eq_true rfl) dX0_init_191 (pc' := 194) rfl (fun M_180 h m_182 => ?_)
  obtain ⟨c_183, h⟩ := h
  obtain ⟨M_184, e_185, h⟩ := bn_ h
  refine r_aast C (o := (some b_176)) (t := 8) (j := 4) (mMo.kd m_182 (mMo.kd m_174 (mMo.kd (mo_R e_173) (mMo.kd m_170 (mMo.kd m_162 (mMo.kd (mo_R e_161) (mMo.kd m_158 (mMo.kd m_150 (mMo.kd (mo_R e_149) (mMo.kd m_146 (mMo.kd m_138 (mMo.kd (mo_R e_137) (mMo.kd m_134 (mMo.kd m_126 k_121 (by decide)) (by decide)) (by decide)) (by decide)) (by decide)) (by decide)) (by decide)) (by decide)) (by decide)) (by decide)) (by decide)) (by decide)) (by decide)) (by decide)) (by decide) (vp_l (by decide) (by decide) c_183) (by decide) (fun v hv => by cases hv; rw [(mMo.kd m_182 k_175 (by decide))]; exact ⟨rfl, by decide⟩) dX0_init_194 (pc' := 195) rfl M_184 e_185 ?_
  refine r_dup C dX0_init_195 (pc' := 196) rfl rfl ?_
  refine r_iconst C dX0_init_196 (pc' := 197) rfl (v := 5) rfl ?_
  obtain ⟨b_188, e_189, h⟩ := bn_ h
  obtain ⟨M_190, e_191, h⟩ := bn_ h
  refine r_new C (Cn := RX3) (T := TX3) tyX3 (by decide) vc_X3 in_X3 tyX3_ok df_X3 q192 q193 q108 (Nat.le_of_ble_eq_true rfl) (Nat.le_of_ble_eq_true rfl) dX0_init_197 (pc' := 200) rfl b_188 e_189 M_190 e_191 (fun m_186 k_187 => ?_)
  refine r_dup C dX0_init_200 (pc' := 201) rfl rfl ?_
  refine r_aload_n C dX0_init_201 (pc' := 202) rfl (j := 0) rfl ?_
  refine r_callIv (As := [.ref a0]) (rest := [.ref b_188, .int (5 : Int32), .ref b_122, .ref b_122, .ref a0]) C (S_X3_init k_187 (mMo.kd m_186 (mMo.kd (mo_R e_185) (mMo.kd m_182 (mMo.kd m_174 (mMo.kd (mo_R e_173) (mMo.kd m_170 (mMo.kd m_162 (mMo.kd (mo_R e_161) (mMo.kd m_158 (mMo.kd m_150 (mMo.kd (mo_R e_149) (mMo.kd m_146 (mMo.kd m_138 (mMo.kd (mo_R e_137) (mMo.kd m_134 (mMo.kd m_126 (mMo.kd m_120 (mMo.kd (mo_R e_119) (mMo.kd m_112 (mMo.kd (mo_R e_111) (mMo.kd m_104 (mMo.kd (mo_R e_103) (mMo.kd m_96 (mMo.kd (mo_R e_95) (mMo.kd m_88 (mMo.kd (mo_R e_87) (mMo.kd m_80 (mMo.kd (mo_R e_79) (mMo.kd m_72 (mMo.kd (mo_R e_71) (mMo.kd m_69 (mMo.kd m_61 (mMo.kd (mo_R e_60) (mMo.kd m_53 (mMo.kd (mo_R e_52) (mMo.kd m_45 (mMo.kd (mo_R e_44) (mMo.kd m_42 (mMo.kd m_34 (mMo.kd (mo_R e_33) (mMo.kd m_31 (mMo.kd m_23 (mMo.kd (mo_R e_22) (mMo.kd m_20 (mMo.kd m_12 (mMo.kd (mo_R e_11) (mMo.kd m_9 (mMo.kd m_1 k_a0 (by decide)) (by decide)) (by decide)) (by decide)) (by decide)) (by decide)) (by decide)) (by decide)) (by decide)) (by decide)) (by decide)) (by decide)) (by decide)) (by decide)) (by decide)) (by decide)) (by decide)) (by decide)) (by decide)) (by decide)) (by decide)) (by decide)) (by decide)) (by decide)) (by decide)) (by decide)) (by decide)) (by decide)) (by decide)) (by decide)) (by decide)) (by decide)) (by decide)) (by decide)) (by decide)) (by decide)) (by decide)) (by decide)) (by decide)) (by decide)) (by decide)) (by decide)) (by decide)) (by decide)) (by decide)) (by decide)) (by decide)) (by decide)) h) q196 q108 q194 q195 rfl rfl hd_X3_init rfl rfl (Nat.le_of_ble_eq_true rfl) (Nat.le_of_ble_eq_true rfl) (Nat.le_of_ble_eq_true rfl) rfl rfl (Nat.le_of_ble_eq_true rfl) (Nat.le_of_ble_eq_true rfl) dX0_init_202 (pc' := 205) rfl (fun M_192 h m_194 => ?_)
  obtain ⟨c_195, h⟩ := h
  obtain ⟨M_196, e_197, h⟩ := bn_ h
  refine r_aast C (o := (some b_188)) (t := 8) (j := 5) (mMo.kd m_194 (mMo.kd m_186 (mMo.kd (mo_R e_185) (mMo.kd m_182 (mMo.kd m_174 (mMo.kd (mo_R e_173) (mMo.kd m_170 (mMo.kd m_162 (mMo.kd (mo_R e_161) (mMo.kd m_158 (mMo.kd m_150 (mMo.kd (mo_R e_149) (mMo.kd m_146 (mMo.kd m_138 (mMo.kd (mo_R e_137) (mMo.kd m_134 (mMo.kd m_126 k_121 (by decide)) (by decide)) (by decide)) (by decide)) (by decide)) (by decide)) (by decide)) (by decide)) (by decide)) (by decide)) (by decide)) (by decide)) (by decide)) (by decide)) (by decide)) (by decide)) (by decide)) (by decide) (vp_l (by decide) (by decide) c_195) (by decide) (fun v hv => by cases hv; rw [(mMo.kd m_194 k_187 (by decide))]; exact ⟨rfl, by decide⟩) dX0_init_205 (pc' := 206) rfl M_196 e_197 ?_
  refine r_dup C dX0_init_206 (pc' := 207) rfl rfl ?_
  refine r_bipush C dX0_init_207 (pc' := 209) rfl (v := 6) rfl ?_
  obtain ⟨b_200, e_201, h⟩ := bn_ h
  obtain ⟨M_202, e_203, h⟩ := bn_ h
  refine r_new C (Cn := RX3) (T := TX3) tyX3 (by decide) vc_X3 in_X3 tyX3_ok df_X3 q192 q193 q108 (Nat.le_of_ble_eq_true rfl) (Nat.le_of_ble_eq_true rfl) dX0_init_209 (pc' := 212) rfl b_200 e_201 M_202 e_203 (fun m_198 k_199 => ?_)
  refine r_dup C dX0_init_212 (pc' := 213) rfl rfl ?_
  refine r_aload_n C dX0_init_213 (pc' := 214) rfl (j := 0) rfl ?_
  refine r_callIv (As := [.ref a0]) (rest := [.ref b_200, .int (6 : Int32), .ref b_122, .ref b_122, .ref a0]) C (S_X3_init k_199 (mMo.kd m_198 (mMo.kd (mo_R e_197) (mMo.kd m_194 (mMo.kd m_186 (mMo.kd (mo_R e_185) (mMo.kd m_182 (mMo.kd m_174 (mMo.kd (mo_R e_173) (mMo.kd m_170 (mMo.kd m_162 (mMo.kd (mo_R e_161) (mMo.kd m_158 (mMo.kd m_150 (mMo.kd (mo_R e_149) (mMo.kd m_146 (mMo.kd m_138 (mMo.kd (mo_R e_137) (mMo.kd m_134 (mMo.kd m_126 (mMo.kd m_120 (mMo.kd (mo_R e_119) (mMo.kd m_112 (mMo.kd (mo_R e_111) (mMo.kd m_104 (mMo.kd (mo_R e_103) (mMo.kd m_96 (mMo.kd (mo_R e_95) (mMo.kd m_88 (mMo.kd (mo_R e_87) (mMo.kd m_80 (mMo.kd (mo_R e_79) (mMo.kd m_72 (mMo.kd (mo_R e_71) (mMo.kd m_69 (mMo.kd m_61 (mMo.kd (mo_R e_60) (mMo.kd m_53 (mMo.kd (mo_R e_52) (mMo.kd m_45 (mMo.kd (mo_R e_44) (mMo.kd m_42 (mMo.kd m_34 (mMo.kd (mo_R e_33) (mMo.kd m_31 (mMo.kd m_23 (mMo.kd (mo_R e_22) (mMo.kd m_20 (mMo.kd m_12 (mMo.kd (mo_R e_11) (mMo.kd m_9 (mMo.kd m_1 k_a0 (by decide)) (by decide)) (by decide)) (by decide)) (by decide)) (by decide)) (by decide)) (by decide)) (by decide)) (by decide)) (by decide)) (by decide)) (by decide)) (by decide)) (by decide)) (by decide)) (by decide)) (by decide)) (by decide)) (by decide)) (by decide)) (by decide)) (by decide)) (by decide)) (by decide)) (by decide)) (by decide)) (by decide)) (by decide)) (by decide)) (by decide)) (by decide)) (by decide)) (by decide)) (by decide)) (by decide)) (by decide)) (by decide)) (by decide)) (by decide)) (by decide)) (by decide)) (by decide)) (by decide)) (by decide)) (by decide)) (by decide)) (by decide)) (by decide)) (by decide)) (by decide)) h) q196 q108 q194 q195 rfl rfl hd_X3_init rfl rfl (Nat.le_of_ble_eq_true rfl) (Nat.le_of_ble_eq_true rfl) (Nat.le_of_ble_eq_true rfl) rfl rfl (Nat.le_of_ble_eq_true rfl) (Nat.le_of_ble_eq_true rfl) dX0_init_214 (pc' := 217) rfl (fun M_204 h m_206 => ?_)
  obtain ⟨c_207, h⟩ := h
  obtain ⟨M_208, e_209, h⟩ := bn_ h
  refine r_aast C (o := (some b_200)) (t := 8) (j := 6) (mMo.kd m_206 (mMo.kd m_198 (mMo.kd (mo_R e_197) (mMo.kd m_194 (mMo.kd m_186 (mMo.kd (mo_R e_185) (mMo.kd m_182 (mMo.kd m_174 (mMo.kd (mo_R e_173) (mMo.kd m_170 (mMo.kd m_162 (mMo.kd (mo_R e_161) (mMo.kd m_158 (mMo.kd m_150 (mMo.kd (mo_R e_149) (mMo.kd m_146 (mMo.kd m_138 (mMo.kd (mo_R e_137) (mMo.kd m_134 (mMo.kd m_126 k_121 (by decide)) (by decide)) (by decide)) (by decide)) (by decide)) (by decide)) (by decide)) (by decide)) (by decide)) (by decide)) (by decide)) (by decide)) (by decide)) (by decide)) (by decide)) (by decide)) (by decide)) (by decide)) (by decide)) (by decide)) (by decide) (vp_l (by decide) (by decide) c_207) (by decide) (fun v hv => by cases hv; rw [(mMo.kd m_206 k_199 (by decide))]; exact ⟨rfl, by decide⟩) dX0_init_217 (pc' := 218) rfl M_208 e_209 ?_
  refine r_dup C dX0_init_218 (pc' := 219) rfl rfl ?_
  refine r_bipush C dX0_init_219 (pc' := 221) rfl (v := 7) rfl ?_
  obtain ⟨b_212, e_213, h⟩ := bn_ h
  obtain ⟨M_214, e_215, h⟩ := bn_ h
  refine r_new C (Cn := RX3) (T := TX3) tyX3 (by decide) vc_X3 in_X3 tyX3_ok df_X3 q192 q193 q108 (Nat.le_of_ble_eq_true rfl) (Nat.le_of_ble_eq_true rfl) dX0_init_221 (pc' := 224) rfl b_212 e_213 M_214 e_215 (fun m_210 k_211 => ?_)
  refine r_dup C dX0_init_224 (pc' := 225) rfl rfl ?_
  refine r_aload_n C dX0_init_225 (pc' := 226) rfl (j := 0) rfl ?_
  refine r_callIv (As := [.ref a0]) (rest := [.ref b_212, .int (7 : Int32), .ref b_122, .ref b_122, .ref a0]) C (S_X3_init k_211 (mMo.kd m_210 (mMo.kd (mo_R e_209) (mMo.kd m_206 (mMo.kd m_198 (mMo.kd (mo_R e_197) (mMo.kd m_194 (mMo.kd m_186 (mMo.kd (mo_R e_185) (mMo.kd m_182 (mMo.kd m_174 (mMo.kd (mo_R e_173) (mMo.kd m_170 (mMo.kd m_162 (mMo.kd (mo_R e_161) (mMo.kd m_158 (mMo.kd m_150 (mMo.kd (mo_R e_149) (mMo.kd m_146 (mMo.kd m_138 (mMo.kd (mo_R e_137) (mMo.kd m_134 (mMo.kd m_126 (mMo.kd m_120 (mMo.kd (mo_R e_119) (mMo.kd m_112 (mMo.kd (mo_R e_111) (mMo.kd m_104 (mMo.kd (mo_R e_103) (mMo.kd m_96 (mMo.kd (mo_R e_95) (mMo.kd m_88 (mMo.kd (mo_R e_87) (mMo.kd m_80 (mMo.kd (mo_R e_79) (mMo.kd m_72 (mMo.kd (mo_R e_71) (mMo.kd m_69 (mMo.kd m_61 (mMo.kd (mo_R e_60) (mMo.kd m_53 (mMo.kd (mo_R e_52) (mMo.kd m_45 (mMo.kd (mo_R e_44) (mMo.kd m_42 (mMo.kd m_34 (mMo.kd (mo_R e_33) (mMo.kd m_31 (mMo.kd m_23 (mMo.kd (mo_R e_22) (mMo.kd m_20 (mMo.kd m_12 (mMo.kd (mo_R e_11) (mMo.kd m_9 (mMo.kd m_1 k_a0 (by decide)) (by decide)) (by decide)) (by decide)) (by decide)) (by decide)) (by decide)) (by decide)) (by decide)) (by decide)) (by decide)) (by decide)) (by decide)) (by decide)) (by decide)) (by decide)) (by decide)) (by decide)) (by decide)) (by decide)) (by decide)) (by decide)) (by decide)) (by decide)) (by decide)) (by decide)) (by decide)) (by decide)) (by decide)) (by decide)) (by decide)) (by decide)) (by decide)) (by decide)) (by decide)) (by decide)) (by decide)) (by decide)) (by decide)) (by decide)) (by decide)) (by decide)) (by decide)) (by decide)) (by decide)) (by decide)) (by decide)) (by decide)) (by decide)) (by decide)) (by decide)) (by decide)) (by decide)) (by decide)) h) q196 q108 q194 q195 rfl rfl hd_X3_init rfl rfl (Nat.le_of_ble_eq_true rfl) (Nat.le_of_ble_eq_true rfl) (Nat.le_of_ble_eq_true rfl) rfl rfl (Nat.le_of_ble_eq_true rfl) (Nat.le_of_ble_eq_true rfl) dX0_init_226 (pc' := 229) rfl (fun M_216 h m_218 => ?_)
  obtain ⟨c_219, h⟩ := h
  obtain ⟨M_220, e_221, h⟩ := bn_ h
  refine r_aast C (o := (some b_212)) (t := 8) (j := 7) (mMo.kd m_218 (mMo.kd m_210 (mMo.kd (mo_R e_209) (mMo.kd m_206 (mMo.kd m_198 (mMo.kd (mo_R e_197) (mMo.kd m_194 (mMo.kd m_186 (mMo.kd (mo_R e_185) (mMo.kd m_182 (mMo.kd m_174 (mMo.kd (mo_R e_173) (mMo.kd m_170 (mMo.kd m_162 (mMo.kd (mo_R e_161) (mMo.kd m_158 (mMo.kd m_150 (mMo.kd (mo_R e_149) (mMo.kd m_146 (mMo.kd m_138 (mMo.kd (mo_R e_137) (mMo.kd m_134 (mMo.kd m_126 k_121 (by decide)) (by decide)) (by decide)) (by decide)) (by decide)) (by decide)) (by decide)) (by decide)) (by decide)) (by decide)) (by decide)) (by decide)) (by decide)) (by decide)) (by decide)) (by decide)) (by decide)) (by decide)) (by decide)) (by decide)) (by decide)) (by decide)) (by decide)) (by decide) (vp_l (by decide) (by decide) c_219) (by decide) (fun v hv => by cases hv; rw [(mMo.kd m_218 k_211 (by decide))]; exact ⟨rfl, by decide⟩) dX0_init_229 (pc' := 230) rfl M_220 e_221 ?_
  obtain ⟨M_222, e_223, h⟩ := bn_ h
  refine r_putRF C (Cn := RX0) (T := TX0) (x := (some b_122)) tyX0 27 (mMo.kd (mo_R e_221) (mMo.kd m_218 (mMo.kd m_210 (mMo.kd (mo_R e_209) (mMo.kd m_206 (mMo.kd m_198 (mMo.kd (mo_R e_197) (mMo.kd m_194 (mMo.kd m_186 (mMo.kd (mo_R e_185) (mMo.kd m_182 (mMo.kd m_174 (mMo.kd (mo_R e_173) (mMo.kd m_170 (mMo.kd m_162 (mMo.kd (mo_R e_161) (mMo.kd m_158 (mMo.kd m_150 (mMo.kd (mo_R e_149) (mMo.kd m_146 (mMo.kd m_138 (mMo.kd (mo_R e_137) (mMo.kd m_134 (mMo.kd m_126 (mMo.kd m_120 (mMo.kd (mo_R e_119) (mMo.kd m_112 (mMo.kd (mo_R e_111) (mMo.kd m_104 (mMo.kd (mo_R e_103) (mMo.kd m_96 (mMo.kd (mo_R e_95) (mMo.kd m_88 (mMo.kd (mo_R e_87) (mMo.kd m_80 (mMo.kd (mo_R e_79) (mMo.kd m_72 (mMo.kd (mo_R e_71) (mMo.kd m_69 (mMo.kd m_61 (mMo.kd (mo_R e_60) (mMo.kd m_53 (mMo.kd (mo_R e_52) (mMo.kd m_45 (mMo.kd (mo_R e_44) (mMo.kd m_42 (mMo.kd m_34 (mMo.kd (mo_R e_33) (mMo.kd m_31 (mMo.kd m_23 (mMo.kd (mo_R e_22) (mMo.kd m_20 (mMo.kd m_12 (mMo.kd (mo_R e_11) (mMo.kd m_9 (mMo.kd m_1 k_a0 (by decide)) (by decide)) (by decide)) (by decide)) (by decide)) (by decide)) (by decide)) (by decide)) (by decide)) (by decide)) (by decide)) (by decide)) (by decide)) (by decide)) (by decide)) (by decide)) (by decide)) (by decide)) (by decide)) (by decide)) (by decide)) (by decide)) (by decide)) (by decide)) (by decide)) (by decide)) (by decide)) (by decide)) (by decide)) (by decide)) (by decide)) (by decide)) (by decide)) (by decide)) (by decide)) (by decide)) (by decide)) (by decide)) (by decide)) (by decide)) (by decide)) (by decide)) (by decide)) (by decide)) (by decide)) (by decide)) (by decide)) (by decide)) (by decide)) (by decide)) (by decide)) (by decide)) (by decide)) (by decide)) (by decide)) (by decide)) (by decide) vc_X0 in_X0 tyX0_ok nmX0 (by decide) q381 rfl rfl rfl rfl dX0_init_230 (pc' := 233) rfl (nA_ _) (fA_ _) M_222 e_223 ?_
  refine r_aload_n C dX0_init_233 (pc' := 234) rfl (j := 0) rfl ?_
  refine r_iconst C dX0_init_234 (pc' := 235) rfl (v := 4) rfl ?_
  refine r_bipush C dX0_init_235 (pc' := 237) rfl (v := 25) rfl ?_
  obtain ⟨b_226, e_227, h⟩ := bn_ h
  obtain ⟨M_228, e_229, h⟩ := bn_ h
  refine r_mnew C (t := 10) (u := 0) 4 25 (Or.inr ⟨rfl, rfl⟩) (by decide) (by decide) (by decide) (by decide) (by decide) (by decide) q347 q255 (Nat.le_of_ble_eq_true rfl) (Nat.le_of_ble_eq_true rfl) dX0_init_237 (pc' := 241) rfl b_226 e_227 M_228 e_229 (fun m_224 k_225 => ?_)
  obtain ⟨M_230, e_231, h⟩ := bn_ h
  refine r_putRF C (Cn := RX0) (T := TX0) (x := (some b_226)) tyX0 28 (mMo.kd m_224 (mMo.kd (mo_R e_223) (mMo.kd (mo_R e_221) (mMo.kd m_218 (mMo.kd m_210 (mMo.kd (mo_R e_209) (mMo.kd m_206 (mMo.kd m_198 (mMo.kd (mo_R e_197) (mMo.kd m_194 (mMo.kd m_186 (mMo.kd (mo_R e_185) (mMo.kd m_182 (mMo.kd m_174 (mMo.kd (mo_R e_173) (mMo.kd m_170 (mMo.kd m_162 (mMo.kd (mo_R e_161) (mMo.kd m_158 (mMo.kd m_150 (mMo.kd (mo_R e_149) (mMo.kd m_146 (mMo.kd m_138 (mMo.kd (mo_R e_137) (mMo.kd m_134 (mMo.kd m_126 (mMo.kd m_120 (mMo.kd (mo_R e_119) (mMo.kd m_112 (mMo.kd (mo_R e_111) (mMo.kd m_104 (mMo.kd (mo_R e_103) (mMo.kd m_96 (mMo.kd (mo_R e_95) (mMo.kd m_88 (mMo.kd (mo_R e_87) (mMo.kd m_80 (mMo.kd (mo_R e_79) (mMo.kd m_72 (mMo.kd (mo_R e_71) (mMo.kd m_69 (mMo.kd m_61 (mMo.kd (mo_R e_60) (mMo.kd m_53 (mMo.kd (mo_R e_52) (mMo.kd m_45 (mMo.kd (mo_R e_44) (mMo.kd m_42 (mMo.kd m_34 (mMo.kd (mo_R e_33) (mMo.kd m_31 (mMo.kd m_23 (mMo.kd (mo_R e_22) (mMo.kd m_20 (mMo.kd m_12 (mMo.kd (mo_R e_11) (mMo.kd m_9 (mMo.kd m_1 k_a0 (by decide)) (by decide)) (by decide)) (by decide)) (by decide)) (by decide)) (by decide)) (by decide)) (by decide)) (by decide)) (by decide)) (by decide)) (by decide)) (by decide)) (by decide)) (by decide)) (by decide)) (by decide)) (by decide)) (by decide)) (by decide)) (by decide)) (by decide)) (by decide)) (by decide)) (by decide)) (by decide)) (by decide)) (by decide)) (by decide)) (by decide)) (by decide)) (by decide)) (by decide)) (by decide)) (by decide)) (by decide)) (by decide)) (by decide)) (by decide)) (by decide)) (by decide)) (by decide)) (by decide)) (by decide)) (by decide)) (by decide)) (by decide)) (by decide)) (by decide)) (by decide)) (by decide)) (by decide)) (by decide)) (by decide)) (by decide)) (by decide)) (by decide)) (by decide) vc_X0 in_X0 tyX0_ok nmX0 (by decide) q382 rfl rfl rfl rfl dX0_init_241 (pc' := 244) rfl (nA_ _) (fA_ _) M_230 e_231 ?_
  refine r_aload_n C dX0_init_244 (pc' := 245) rfl (j := 0) rfl ?_
  refine r_iconst C dX0_init_245 (pc' := 246) rfl (v := 4) rfl ?_
  obtain ⟨b_234, e_235, h⟩ := bn_ h
  obtain ⟨M_236, e_237, h⟩ := bn_ h
  refine r_newI C 4 (by decide) (by decide) (by decide) q255 (Nat.le_of_ble_eq_true rfl) (Nat.le_of_ble_eq_true rfl) dX0_init_246 (pc' := 248) rfl b_234 e_235 M_236 e_237 (fun m_232 k_233 => ?_)
  obtain ⟨M_238, e_239, h⟩ := bn_ h
  refine r_putRF C (Cn := RX0) (T := TX0) (x := (some b_234)) tyX0 29 (mMo.kd m_232 (mMo.kd (mo_R e_231) (mMo.kd m_224 (mMo.kd (mo_R e_223) (mMo.kd (mo_R e_221) (mMo.kd m_218 (mMo.kd m_210 (mMo.kd (mo_R e_209) (mMo.kd m_206 (mMo.kd m_198 (mMo.kd (mo_R e_197) (mMo.kd m_194 (mMo.kd m_186 (mMo.kd (mo_R e_185) (mMo.kd m_182 (mMo.kd m_174 (mMo.kd (mo_R e_173) (mMo.kd m_170 (mMo.kd m_162 (mMo.kd (mo_R e_161) (mMo.kd m_158 (mMo.kd m_150 (mMo.kd (mo_R e_149) (mMo.kd m_146 (mMo.kd m_138 (mMo.kd (mo_R e_137) (mMo.kd m_134 (mMo.kd m_126 (mMo.kd m_120 (mMo.kd (mo_R e_119) (mMo.kd m_112 (mMo.kd (mo_R e_111) (mMo.kd m_104 (mMo.kd (mo_R e_103) (mMo.kd m_96 (mMo.kd (mo_R e_95) (mMo.kd m_88 (mMo.kd (mo_R e_87) (mMo.kd m_80 (mMo.kd (mo_R e_79) (mMo.kd m_72 (mMo.kd (mo_R e_71) (mMo.kd m_69 (mMo.kd m_61 (mMo.kd (mo_R e_60) (mMo.kd m_53 (mMo.kd (mo_R e_52) (mMo.kd m_45 (mMo.kd (mo_R e_44) (mMo.kd m_42 (mMo.kd m_34 (mMo.kd (mo_R e_33) (mMo.kd m_31 (mMo.kd m_23 (mMo.kd (mo_R e_22) (mMo.kd m_20 (mMo.kd m_12 (mMo.kd (mo_R e_11) (mMo.kd m_9 (mMo.kd m_1 k_a0 (by decide)) (by decide)) (by decide)) (by decide)) (by decide)) (by decide)) (by decide)) (by decide)) (by decide)) (by decide)) (by decide)) (by decide)) (by decide)) (by decide)) (by decide)) (by decide)) (by decide)) (by decide)) (by decide)) (by decide)) (by decide)) (by decide)) (by decide)) (by decide)) (by decide)) (by decide)) (by decide)) (by decide)) (by decide)) (by decide)) (by decide)) (by decide)) (by decide)) (by decide)) (by decide)) (by decide)) (by decide)) (by decide)) (by decide)) (by decide)) (by decide)) (by decide)) (by decide)) (by decide)) (by decide)) (by decide)) (by decide)) (by decide)) (by decide)) (by decide)) (by decide)) (by decide)) (by decide)) (by decide)) (by decide)) (by decide)) (by decide)) (by decide)) (by decide)) (by decide)) (by decide) vc_X0 in_X0 tyX0_ok nmX0 (by decide) q383 rfl rfl rfl rfl dX0_init_248 (pc' := 251) rfl (nA_ _) (fA_ _) M_238 e_239 ?_
  refine r_aload_n C dX0_init_251 (pc' := 252) rfl (j := 0) rfl ?_
  refine r_iconst C dX0_init_252 (pc' := 253) rfl (v := 4) rfl ?_
  obtain ⟨b_242, e_243, h⟩ := bn_ h
  obtain ⟨M_244, e_245, h⟩ := bn_ h
  refine r_newI C 4 (by decide) (by decide) (by decide) q255 (Nat.le_of_ble_eq_true rfl) (Nat.le_of_ble_eq_true rfl) dX0_init_253 (pc' := 255) rfl b_242 e_243 M_244 e_245 (fun m_240 k_241 => ?_)
  obtain ⟨M_246, e_247, h⟩ := bn_ h
  refine r_putRF C (Cn := RX0) (T := TX0) (x := (some b_242)) tyX0 30 (mMo.kd m_240 (mMo.kd (mo_R e_239) (mMo.kd m_232 (mMo.kd (mo_R e_231) (mMo.kd m_224 (mMo.kd (mo_R e_223) (mMo.kd (mo_R e_221) (mMo.kd m_218 (mMo.kd m_210 (mMo.kd (mo_R e_209) (mMo.kd m_206 (mMo.kd m_198 (mMo.kd (mo_R e_197) (mMo.kd m_194 (mMo.kd m_186 (mMo.kd (mo_R e_185) (mMo.kd m_182 (mMo.kd m_174 (mMo.kd (mo_R e_173) (mMo.kd m_170 (mMo.kd m_162 (mMo.kd (mo_R e_161) (mMo.kd m_158 (mMo.kd m_150 (mMo.kd (mo_R e_149) (mMo.kd m_146 (mMo.kd m_138 (mMo.kd (mo_R e_137) (mMo.kd m_134 (mMo.kd m_126 (mMo.kd m_120 (mMo.kd (mo_R e_119) (mMo.kd m_112 (mMo.kd (mo_R e_111) (mMo.kd m_104 (mMo.kd (mo_R e_103) (mMo.kd m_96 (mMo.kd (mo_R e_95) (mMo.kd m_88 (mMo.kd (mo_R e_87) (mMo.kd m_80 (mMo.kd (mo_R e_79) (mMo.kd m_72 (mMo.kd (mo_R e_71) (mMo.kd m_69 (mMo.kd m_61 (mMo.kd (mo_R e_60) (mMo.kd m_53 (mMo.kd (mo_R e_52) (mMo.kd m_45 (mMo.kd (mo_R e_44) (mMo.kd m_42 (mMo.kd m_34 (mMo.kd (mo_R e_33) (mMo.kd m_31 (mMo.kd m_23 (mMo.kd (mo_R e_22) (mMo.kd m_20 (mMo.kd m_12 (mMo.kd (mo_R e_11) (mMo.kd m_9 (mMo.kd m_1 k_a0 (by decide)) (by decide)) (by decide)) (by decide)) (by decide)) (by decide)) (by decide)) (by decide)) (by decide)) (by decide)) (by decide)) (by decide)) (by decide)) (by decide)) (by decide)) (by decide)) (by decide)) (by decide)) (by decide)) (by decide)) (by decide)) (by decide)) (by decide)) (by decide)) (by decide)) (by decide)) (by decide)) (by decide)) (by decide)) (by decide)) (by decide)) (by decide)) (by decide)) (by decide)) (by decide)) (by decide)) (by decide)) (by decide)) (by decide)) (by decide)) (by decide)) (by decide)) (by decide)) (by decide)) (by decide)) (by decide)) (by decide)) (by decide)) (by decide)) (by decide)) (by decide)) (by decide)) (by decide)) (by decide)) (by decide)) (by decide)) (by decide)) (by decide)) (by decide)) (by decide)) (by decide)) (by decide)) (by decide) vc_X0 in_X0 tyX0_ok nmX0 (by decide) q384 rfl rfl rfl rfl dX0_init_255 (pc' := 258) rfl (nA_ _) (fA_ _) M_246 e_247 ?_
  refine r_aload_n C dX0_init_258 (pc' := 259) rfl (j := 0) rfl ?_
  refine r_bipush C dX0_init_259 (pc' := 261) rfl (v := 13) rfl ?_
  obtain ⟨b_250, e_251, h⟩ := bn_ h
  obtain ⟨M_252, e_253, h⟩ := bn_ h
  refine r_newL C 13 (by decide) (by decide) (by decide) q454 (Nat.le_of_ble_eq_true rfl) (Nat.le_of_ble_eq_true rfl) dX0_init_261 (pc' := 263) rfl b_250 e_251 M_252 e_253 (fun m_248 k_249 => ?_)
  obtain ⟨M_254, e_255, h⟩ := bn_ h
  refine r_putRF C (Cn := RX0) (T := TX0) (x := (some b_250)) tyX0 32 (mMo.kd m_248 (mMo.kd (mo_R e_247) (mMo.kd m_240 (mMo.kd (mo_R e_239) (mMo.kd m_232 (mMo.kd (mo_R e_231) (mMo.kd m_224 (mMo.kd (mo_R e_223) (mMo.kd (mo_R e_221) (mMo.kd m_218 (mMo.kd m_210 (mMo.kd (mo_R e_209) (mMo.kd m_206 (mMo.kd m_198 (mMo.kd (mo_R e_197) (mMo.kd m_194 (mMo.kd m_186 (mMo.kd (mo_R e_185) (mMo.kd m_182 (mMo.kd m_174 (mMo.kd (mo_R e_173) (mMo.kd m_170 (mMo.kd m_162 (mMo.kd (mo_R e_161) (mMo.kd m_158 (mMo.kd m_150 (mMo.kd (mo_R e_149) (mMo.kd m_146 (mMo.kd m_138 (mMo.kd (mo_R e_137) (mMo.kd m_134 (mMo.kd m_126 (mMo.kd m_120 (mMo.kd (mo_R e_119) (mMo.kd m_112 (mMo.kd (mo_R e_111) (mMo.kd m_104 (mMo.kd (mo_R e_103) (mMo.kd m_96 (mMo.kd (mo_R e_95) (mMo.kd m_88 (mMo.kd (mo_R e_87) (mMo.kd m_80 (mMo.kd (mo_R e_79) (mMo.kd m_72 (mMo.kd (mo_R e_71) (mMo.kd m_69 (mMo.kd m_61 (mMo.kd (mo_R e_60) (mMo.kd m_53 (mMo.kd (mo_R e_52) (mMo.kd m_45 (mMo.kd (mo_R e_44) (mMo.kd m_42 (mMo.kd m_34 (mMo.kd (mo_R e_33) (mMo.kd m_31 (mMo.kd m_23 (mMo.kd (mo_R e_22) (mMo.kd m_20 (mMo.kd m_12 (mMo.kd (mo_R e_11) (mMo.kd m_9 (mMo.kd m_1 k_a0 (by decide)) (by decide)) (by decide)) (by decide)) (by decide)) (by decide)) (by decide)) (by decide)) (by decide)) (by decide)) (by decide)) (by decide)) (by decide)) (by decide)) (by decide)) (by decide)) (by decide)) (by decide)) (by decide)) (by decide)) (by decide)) (by decide)) (by decide)) (by decide)) (by decide)) (by decide)) (by decide)) (by decide)) (by decide)) (by decide)) (by decide)) (by decide)) (by decide)) (by decide)) (by decide)) (by decide)) (by decide)) (by decide)) (by decide)) (by decide)) (by decide)) (by decide)) (by decide)) (by decide)) (by decide)) (by decide)) (by decide)) (by decide)) (by decide)) (by decide)) (by decide)) (by decide)) (by decide)) (by decide)) (by decide)) (by decide)) (by decide)) (by decide)) (by decide)) (by decide)) (by decide)) (by decide)) (by decide)) (by decide)) (by decide) vc_X0 in_X0 tyX0_ok nmX0 (by decide) q386 rfl rfl rfl rfl dX0_init_263 (pc' := 266) rfl (nA_ _) (fA_ _) M_254 e_255 ?_
  refine r_aload_n C dX0_init_266 (pc' := 267) rfl (j := 0) rfl ?_
  refine r_getf C (Cn := RX0) (T := TX0) 1 (mMo.kd (mo_R e_255) (mMo.kd m_248 (mMo.kd (mo_R e_247) (mMo.kd m_240 (mMo.kd (mo_R e_239) (mMo.kd m_232 (mMo.kd (mo_R e_231) (mMo.kd m_224 (mMo.kd (mo_R e_223) (mMo.kd (mo_R e_221) (mMo.kd m_218 (mMo.kd m_210 (mMo.kd (mo_R e_209) (mMo.kd m_206 (mMo.kd m_198 (mMo.kd (mo_R e_197) (mMo.kd m_194 (mMo.kd m_186 (mMo.kd (mo_R e_185) (mMo.kd m_182 (mMo.kd m_174 (mMo.kd (mo_R e_173) (mMo.kd m_170 (mMo.kd m_162 (mMo.kd (mo_R e_161) (mMo.kd m_158 (mMo.kd m_150 (mMo.kd (mo_R e_149) (mMo.kd m_146 (mMo.kd m_138 (mMo.kd (mo_R e_137) (mMo.kd m_134 (mMo.kd m_126 (mMo.kd m_120 (mMo.kd (mo_R e_119) (mMo.kd m_112 (mMo.kd (mo_R e_111) (mMo.kd m_104 (mMo.kd (mo_R e_103) (mMo.kd m_96 (mMo.kd (mo_R e_95) (mMo.kd m_88 (mMo.kd (mo_R e_87) (mMo.kd m_80 (mMo.kd (mo_R e_79) (mMo.kd m_72 (mMo.kd (mo_R e_71) (mMo.kd m_69 (mMo.kd m_61 (mMo.kd (mo_R e_60) (mMo.kd m_53 (mMo.kd (mo_R e_52) (mMo.kd m_45 (mMo.kd (mo_R e_44) (mMo.kd m_42 (mMo.kd m_34 (mMo.kd (mo_R e_33) (mMo.kd m_31 (mMo.kd m_23 (mMo.kd (mo_R e_22) (mMo.kd m_20 (mMo.kd m_12 (mMo.kd (mo_R e_11) (mMo.kd m_9 (mMo.kd m_1 k_a0 (by decide)) (by decide)) (by decide)) (by decide)) (by decide)) (by decide)) (by decide)) (by decide)) (by decide)) (by decide)) (by decide)) (by decide)) (by decide)) (by decide)) (by decide)) (by decide)) (by decide)) (by decide)) (by decide)) (by decide)) (by decide)) (by decide)) (by decide)) (by decide)) (by decide)) (by decide)) (by decide)) (by decide)) (by decide)) (by decide)) (by decide)) (by decide)) (by decide)) (by decide)) (by decide)) (by decide)) (by decide)) (by decide)) (by decide)) (by decide)) (by decide)) (by decide)) (by decide)) (by decide)) (by decide)) (by decide)) (by decide)) (by decide)) (by decide)) (by decide)) (by decide)) (by decide)) (by decide)) (by decide)) (by decide)) (by decide)) (by decide)) (by decide)) (by decide)) (by decide)) (by decide)) (by decide)) (by decide)) (by decide)) (by decide)) (by decide) vc_X0 in_X0 (by decide) q351 dX0_init_267 (pc' := 270) rfl (v := va_rf (mgR M_254 a0 1)) rfl ?_
  obtain ⟨b_256, e_257, k_258, h⟩ := h
  refine r_ref [] e_257 ?_
  refine r_iconst C dX0_init_270 (pc' := 271) rfl (v := 1) rfl ?_
  obtain ⟨M_259, e_260, h⟩ := bn_ h
  refine r_putIN C (Cn := RX3) (T := TX3) tyX3 3 k_258 (by decide) vc_X3 in_X3 tyX3_ok nmX3 (by decide) (List.mem_of_getElem? (i := 24) rfl) rfl rfl dX0_init_271 (pc' := 274) rfl rfl rfl M_259 e_260 ?_
  exact r_vret C hE (Nat.le_of_ble_eq_true rfl) (Nat.le_of_ble_eq_true rfl) dX0_init_274 ⟨rfl, h⟩
set_option maxHeartbeats 4000000 in
theorem B_X0_plant_109 {E : mE} {x3 : Int32} {a5 : Nat} {X131 : MM → Prop} {Post : Int32 → MM → Prop} (C : mC E yX0_plant cX0_plant 7 ((some .boolean)) { frames := 1, cells := 0, slots := 0, locals := 22 }) (hE : mEnd E { frames := 1, cells := 0, slots := 0, locals := 22 } (pI_ Post)) : ∀ (n_ : Nat) (M : MM) (x6 : Int32), mkd M a5 = 4 → wl_X0_plant_109 x3 a5 X131 n_ M x6 → (∀ (M' : MM), mMo M M' → X131 M' → mV E M' 0 0 131 [] []) → mV E M 0 0 109 [(3, .int x3), (5, .ref a5), (6, .int x6)] [] := by
  intro n_
  induction n_ with
  | zero =>
    intro M x6 k_a5 h hX131
    exact absurd h (by rw [wl_X0_plant_109]; exact fun q => q)
  | succ n_ ih =>
    intro M x6 k_a5 h hX131
    rw [wl_X0_plant_109] at h
    refine r_iload C dX0_plant_109 (pc' := 111) rfl (j := 2) rfl ?_
    refine r_bipush C dX0_plant_111 (pc' := 113) rfl (v := 7) rfl ?_
    refine r_icmp_ge C dX0_plant_113 (pc' := 116) rfl (tgt := 131) (by decide) (fun c_45 => ?_) (fun c_45 => ?_)
    · have h := it_t h c_45
      refine r_sub (lv' := []) [] rfl ?_
      exact hX131 M mMo.rf h
    · have h := it_f h c_45
      refine r_aload C dX0_plant_116 (pc' := 118) rfl (j := 1) rfl ?_
      refine r_getfN C (Cn := RX4) (T := TX4) 0 k_a5 (by decide) vc_X4 in_X4 (by decide) (List.mem_of_getElem? (i := 12) rfl) dX0_plant_118 (pc' := 121) rfl (v := va_rf (mgR M a5 0)) rfl ?_
      obtain ⟨b_46, e_47, k_48, h⟩ := h
      refine r_ref [] e_47 ?_
      refine r_iload C dX0_plant_121 (pc' := 123) rfl (j := 2) rfl ?_
      refine r_iload_n C dX0_plant_123 (pc' := 124) rfl (j := 0) rfl ?_
      obtain ⟨c_49, h⟩ := h
      obtain ⟨M_50, e_51, h⟩ := bn_ h
      refine r_iast C (j := (ix_ x6)) k_48 c_49 rfl dX0_plant_124 (pc' := 125) rfl M_50 e_51 ?_
      obtain ⟨x6_52, e_53, h⟩ := bn_ h
      refine r_iinc C (lv' := [(6, .int x6_52), (3, .int x3), (5, .ref a5)]) dX0_plant_125 (pc' := 128) rfl (j := 2) rfl x6_52 (by rw [e_53]; rfl) (Nat.le_of_ble_eq_true rfl) rfl ?_
      refine r_goto C dX0_plant_128 (tgt := 109) (by decide) ?_
      refine r_sub (lv' := [(3, .int x3), (5, .ref a5), (6, .int x6_52)]) [1, 2, 0] rfl ?_
      exact ih M_50 x6_52 (mMo.kd (mo_I e_51) k_a5 (by decide)) h (fun M9 hm9 h9 => hX131 M9 (mMo.tr (mo_I e_51) hm9) h9)
set_option maxHeartbeats 4000000 in
theorem S_X0_plant {D : DD} {l : Launch} {M : MM} {a0 : Nat} {x1 : Int32} {x2 : Int32} {x3 : Int32} {x4 : Int32} {Post : Int32 → MM → Prop} (k_a0 : mkd M a0 = 1) (h : wp_X0_plant M a0 x1 x2 x3 x4 Post) : mMet D l yX0_plant cX0_plant 7 ((some .boolean)) { frames := 1, cells := 0, slots := 0, locals := 22 } M [.ref a0, .int x1, .int x2, .int x3, .int x4] (pI_ Post) := by
  refine m_of2 [(0, .ref a0), (1, .int x1), (2, .int x2), (3, .int x3), (4, .int x4)] (by decide +kernel) (Nat.le_of_ble_eq_true rfl) rfl (fun E hED hEl C hE => ?_)
  subst hED
  subst hEl
  unfold wp_X0_plant at h
  refine r_iload_n C dX0_plant_0 (pc' := 1) rfl (j := 1) rfl ?_
  refine r_iconst C dX0_plant_1 (pc' := 2) rfl (v := 4) rfl ?_
  refine r_callSi (As := [.int x1, .int (4 : Int32)]) (rest := []) C (S_X0_in h) (lw_S q459 q460 q105 q461) hd_X0_in rfl rfl (Nat.le_of_ble_eq_true rfl) (Nat.le_of_ble_eq_true rfl) (Nat.le_of_ble_eq_true rfl) rfl rfl (Nat.le_of_ble_eq_true rfl) (Nat.le_of_ble_eq_true rfl) dX0_plant_2 (pc' := 5) rfl (fun r_2 M_1 h m_3 => ?_)
  refine r_if_eq C dX0_plant_5 (pc' := 8) rfl (tgt := 38) (by decide) (fun c_4 => ?_) (fun c_4 => ?_)
  · have h := it_t h c_4
    refine r_iconst C dX0_plant_38 (pc' := 39) rfl (v := 0) rfl ?_
    exact r_zret C hE (Or.inl rfl) (Nat.le_of_ble_eq_true rfl) (Nat.le_of_ble_eq_true rfl) dX0_plant_39 ⟨_, rfl, h⟩
  · have h := it_f h c_4
    refine r_iload_n C dX0_plant_8 (pc' := 9) rfl (j := 2) rfl ?_
    refine r_iconst C dX0_plant_9 (pc' := 10) rfl (v := 4) rfl ?_
    refine r_bipush C dX0_plant_10 (pc' := 12) rfl (v := 24) rfl ?_
    refine r_callSi (As := [.int x2, .int (4 : Int32), .int (24 : Int32)]) (rest := []) C (S_X0_within h) (lw_S q462 q463 q105 q464) hd_X0_within rfl rfl (Nat.le_of_ble_eq_true rfl) (Nat.le_of_ble_eq_true rfl) (Nat.le_of_ble_eq_true rfl) rfl rfl (Nat.le_of_ble_eq_true rfl) (Nat.le_of_ble_eq_true rfl) dX0_plant_12 (pc' := 15) rfl (fun r_6 M_5 h m_7 => ?_)
    refine r_if_eq C dX0_plant_15 (pc' := 18) rfl (tgt := 38) (by decide) (fun c_8 => ?_) (fun c_8 => ?_)
    · have h := it_t h c_8
      refine r_iconst C dX0_plant_38 (pc' := 39) rfl (v := 0) rfl ?_
      exact r_zret C hE (Or.inl rfl) (Nat.le_of_ble_eq_true rfl) (Nat.le_of_ble_eq_true rfl) dX0_plant_39 ⟨_, rfl, h⟩
    · have h := it_f h c_8
      refine r_iload_n C dX0_plant_18 (pc' := 19) rfl (j := 3) rfl ?_
      refine r_iconst C dX0_plant_19 (pc' := 20) rfl (v := 0) rfl ?_
      refine r_iload_n C dX0_plant_20 (pc' := 21) rfl (j := 2) rfl ?_
      refine r_callSi (As := [.int x3, .int (0 : Int32), .int x2]) (rest := []) C (S_X0_within h) (lw_S q462 q463 q105 q464) hd_X0_within rfl rfl (Nat.le_of_ble_eq_true rfl) (Nat.le_of_ble_eq_true rfl) (Nat.le_of_ble_eq_true rfl) rfl rfl (Nat.le_of_ble_eq_true rfl) (Nat.le_of_ble_eq_true rfl) dX0_plant_21 (pc' := 24) rfl (fun r_10 M_9 h m_11 => ?_)
      refine r_if_eq C dX0_plant_24 (pc' := 27) rfl (tgt := 38) (by decide) (fun c_12 => ?_) (fun c_12 => ?_)
      · have h := it_t h c_12
        refine r_iconst C dX0_plant_38 (pc' := 39) rfl (v := 0) rfl ?_
        exact r_zret C hE (Or.inl rfl) (Nat.le_of_ble_eq_true rfl) (Nat.le_of_ble_eq_true rfl) dX0_plant_39 ⟨_, rfl, h⟩
      · have h := it_f h c_12
        refine r_iload C dX0_plant_27 (pc' := 29) rfl (j := 4) rfl ?_
        refine r_iconst C dX0_plant_29 (pc' := 30) rfl (v := 1) rfl ?_
        refine r_bipush C dX0_plant_30 (pc' := 32) rfl (v := 9) rfl ?_
        refine r_callSi (As := [.int x4, .int (1 : Int32), .int (9 : Int32)]) (rest := []) C (S_X0_within h) (lw_S q462 q463 q105 q464) hd_X0_within rfl rfl (Nat.le_of_ble_eq_true rfl) (Nat.le_of_ble_eq_true rfl) (Nat.le_of_ble_eq_true rfl) rfl rfl (Nat.le_of_ble_eq_true rfl) (Nat.le_of_ble_eq_true rfl) dX0_plant_32 (pc' := 35) rfl (fun r_14 M_13 h m_15 => ?_)
        refine r_if_ne C dX0_plant_35 (pc' := 38) rfl (tgt := 40) (by decide) (fun c_16 => ?_) (fun c_16 => ?_)
        · have h := it_f h c_16
          refine r_aload_n C dX0_plant_40 (pc' := 41) rfl (j := 0) rfl ?_
          refine r_getf C (Cn := RX0) (T := TX0) 1 (mMo.kd m_15 (mMo.kd m_11 (mMo.kd m_7 (mMo.kd m_3 k_a0 (by decide)) (by decide)) (by decide)) (by decide)) (by decide) vc_X0 in_X0 (by decide) q351 dX0_plant_41 (pc' := 44) rfl (v := va_rf (mgR M_13 a0 1)) rfl ?_
          obtain ⟨b_17, e_18, k_19, h⟩ := h
          refine r_ref [] e_18 ?_
          refine r_getfN C (Cn := RX3) (T := TX3) 0 k_19 (by decide) vc_X3 in_X3 (by decide) (List.mem_of_getElem? (i := 0) rfl) dX0_plant_44 (pc' := 47) rfl (v := va_rf (mgR M_13 b_17 0)) rfl ?_
          obtain ⟨b_20, e_21, k_22, h⟩ := h
          refine r_ref [] e_21 ?_
          refine r_iload_n C dX0_plant_47 (pc' := 48) rfl (j := 1) rfl ?_
          obtain ⟨c_23, h⟩ := h
          refine r_aald C (t := 3) (j := (ix_ x1)) k_22 (by decide) rfl rfl c_23 rfl dX0_plant_48 (pc' := 49) rfl ?_
          obtain ⟨b_24, e_25, k_26, h⟩ := h
          refine r_ref [] e_25 ?_
          refine r_astore C (lv' := [(5, .ref b_24), (0, .ref a0), (1, .int x1), (2, .int x2), (3, .int x3), (4, .int x4)]) dX0_plant_49 (pc' := 51) rfl b_24 rfl (Nat.le_of_ble_eq_true rfl) rfl ?_
          refine r_aload C dX0_plant_51 (pc' := 53) rfl (j := 0) rfl ?_
          refine r_iconst C dX0_plant_53 (pc' := 54) rfl (v := 1) rfl ?_
          obtain ⟨M_27, e_28, h⟩ := bn_ h
          refine r_putIN C (Cn := RX4) (T := TX4) tyX4 8 k_26 (by decide) vc_X4 in_X4 tyX4_ok nmX4 (by decide) (List.mem_of_getElem? (i := 1) rfl) rfl rfl dX0_plant_54 (pc' := 57) rfl rfl rfl M_27 e_28 ?_
          refine r_aload C dX0_plant_57 (pc' := 59) rfl (j := 0) rfl ?_
          refine r_iconst C dX0_plant_59 (pc' := 60) rfl (v := 0) rfl ?_
          obtain ⟨M_29, e_30, h⟩ := bn_ h
          refine r_putIN C (Cn := RX4) (T := TX4) tyX4 9 (mMo.kd (mo_I e_28) k_26 (by decide)) (by decide) vc_X4 in_X4 tyX4_ok nmX4 (by decide) (List.mem_of_getElem? (i := 4) rfl) rfl rfl dX0_plant_60 (pc' := 63) rfl rfl rfl M_29 e_30 ?_
          refine r_aload C dX0_plant_63 (pc' := 65) rfl (j := 0) rfl ?_
          refine r_iconst C dX0_plant_65 (pc' := 66) rfl (v := -1) rfl ?_
          obtain ⟨M_31, e_32, h⟩ := bn_ h
          refine r_putIN C (Cn := RX4) (T := TX4) tyX4 7 (mMo.kd (mo_I e_30) (mMo.kd (mo_I e_28) k_26 (by decide)) (by decide)) (by decide) vc_X4 in_X4 tyX4_ok nmX4 (by decide) (List.mem_of_getElem? (i := 5) rfl) rfl rfl dX0_plant_66 (pc' := 69) rfl rfl rfl M_31 e_32 ?_
          refine r_aload C dX0_plant_69 (pc' := 71) rfl (j := 0) rfl ?_
          refine r_iload_n C dX0_plant_71 (pc' := 72) rfl (j := 3) rfl ?_
          obtain ⟨M_33, e_34, h⟩ := bn_ h
          refine r_putIN C (Cn := RX4) (T := TX4) tyX4 1 (mMo.kd (mo_I e_32) (mMo.kd (mo_I e_30) (mMo.kd (mo_I e_28) k_26 (by decide)) (by decide)) (by decide)) (by decide) vc_X4 in_X4 tyX4_ok nmX4 (by decide) (List.mem_of_getElem? (i := 6) rfl) rfl rfl dX0_plant_72 (pc' := 75) rfl rfl rfl M_33 e_34 ?_
          refine r_aload C dX0_plant_75 (pc' := 77) rfl (j := 0) rfl ?_
          refine r_iload_n C dX0_plant_77 (pc' := 78) rfl (j := 4) rfl ?_
          obtain ⟨M_35, e_36, h⟩ := bn_ h
          refine r_putIN C (Cn := RX4) (T := TX4) tyX4 2 (mMo.kd (mo_I e_34) (mMo.kd (mo_I e_32) (mMo.kd (mo_I e_30) (mMo.kd (mo_I e_28) k_26 (by decide)) (by decide)) (by decide)) (by decide)) (by decide) vc_X4 in_X4 tyX4_ok nmX4 (by decide) (List.mem_of_getElem? (i := 7) rfl) rfl rfl dX0_plant_78 (pc' := 81) rfl rfl rfl M_35 e_36 ?_
          refine r_aload C dX0_plant_81 (pc' := 83) rfl (j := 0) rfl ?_
          refine r_iload C dX0_plant_83 (pc' := 85) rfl (j := 5) rfl ?_
          obtain ⟨M_37, e_38, h⟩ := bn_ h
          refine r_putIN C (Cn := RX4) (T := TX4) tyX4 3 (mMo.kd (mo_I e_36) (mMo.kd (mo_I e_34) (mMo.kd (mo_I e_32) (mMo.kd (mo_I e_30) (mMo.kd (mo_I e_28) k_26 (by decide)) (by decide)) (by decide)) (by decide)) (by decide)) (by decide) vc_X4 in_X4 tyX4_ok nmX4 (by decide) (List.mem_of_getElem? (i := 8) rfl) rfl rfl dX0_plant_85 (pc' := 88) rfl rfl rfl M_37 e_38 ?_
          refine r_aload C dX0_plant_88 (pc' := 90) rfl (j := 0) rfl ?_
          refine r_iconst C dX0_plant_90 (pc' := 91) rfl (v := 0) rfl ?_
          obtain ⟨M_39, e_40, h⟩ := bn_ h
          refine r_putIN C (Cn := RX4) (T := TX4) tyX4 4 (mMo.kd (mo_I e_38) (mMo.kd (mo_I e_36) (mMo.kd (mo_I e_34) (mMo.kd (mo_I e_32) (mMo.kd (mo_I e_30) (mMo.kd (mo_I e_28) k_26 (by decide)) (by decide)) (by decide)) (by decide)) (by decide)) (by decide)) (by decide) vc_X4 in_X4 tyX4_ok nmX4 (by decide) (List.mem_of_getElem? (i := 9) rfl) rfl rfl dX0_plant_91 (pc' := 94) rfl rfl rfl M_39 e_40 ?_
          refine r_aload C dX0_plant_94 (pc' := 96) rfl (j := 0) rfl ?_
          refine r_iconst C dX0_plant_96 (pc' := 97) rfl (v := 0) rfl ?_
          obtain ⟨M_41, e_42, h⟩ := bn_ h
          refine r_putIN C (Cn := RX4) (T := TX4) tyX4 5 (mMo.kd (mo_I e_40) (mMo.kd (mo_I e_38) (mMo.kd (mo_I e_36) (mMo.kd (mo_I e_34) (mMo.kd (mo_I e_32) (mMo.kd (mo_I e_30) (mMo.kd (mo_I e_28) k_26 (by decide)) (by decide)) (by decide)) (by decide)) (by decide)) (by decide)) (by decide)) (by decide) vc_X4 in_X4 tyX4_ok nmX4 (by decide) (List.mem_of_getElem? (i := 10) rfl) rfl rfl dX0_plant_97 (pc' := 100) rfl rfl rfl M_41 e_42 ?_
          refine r_aload C dX0_plant_100 (pc' := 102) rfl (j := 0) rfl ?_
          refine r_iconst C dX0_plant_102 (pc' := 103) rfl (v := 0) rfl ?_
          obtain ⟨M_43, e_44, h⟩ := bn_ h
          refine r_putIN C (Cn := RX4) (T := TX4) tyX4 6 (mMo.kd (mo_I e_42) (mMo.kd (mo_I e_40) (mMo.kd (mo_I e_38) (mMo.kd (mo_I e_36) (mMo.kd (mo_I e_34) (mMo.kd (mo_I e_32) (mMo.kd (mo_I e_30) (mMo.kd (mo_I e_28) k_26 (by decide)) (by decide)) (by decide)) (by decide)) (by decide)) (by decide)) (by decide)) (by decide)) (by decide) vc_X4 in_X4 tyX4_ok nmX4 (by decide) (List.mem_of_getElem? (i := 11) rfl) rfl rfl dX0_plant_103 (pc' := 106) rfl rfl rfl M_43 e_44 ?_
          refine r_iconst C dX0_plant_106 (pc' := 107) rfl (v := 0) rfl ?_
          refine r_istore C (lv' := [(6, .int (0 : Int32)), (5, .ref b_24), (0, .ref a0), (1, .int x1), (2, .int x2), (3, .int x3), (4, .int x4)]) dX0_plant_107 (pc' := 109) rfl (0 : Int32) rfl (Nat.le_of_ble_eq_true rfl) rfl ?_
          obtain ⟨n_54, h⟩ := h
          refine r_sub (lv' := [(3, .int x3), (5, .ref b_24), (6, .int (0 : Int32))]) [5, 1, 0] rfl ?_
          refine B_X0_plant_109 C hE n_54 M_43 (0 : Int32) (mMo.kd (mo_I e_44) (mMo.kd (mo_I e_42) (mMo.kd (mo_I e_40) (mMo.kd (mo_I e_38) (mMo.kd (mo_I e_36) (mMo.kd (mo_I e_34) (mMo.kd (mo_I e_32) (mMo.kd (mo_I e_30) (mMo.kd (mo_I e_28) k_26 (by decide)) (by decide)) (by decide)) (by decide)) (by decide)) (by decide)) (by decide)) (by decide)) (by decide)) h (fun M_55 m_56 h => ?_)
          refine r_iconst C dX0_plant_131 (pc' := 132) rfl (v := 1) rfl ?_
          exact r_zret C hE (Or.inr rfl) (Nat.le_of_ble_eq_true rfl) (Nat.le_of_ble_eq_true rfl) dX0_plant_132 ⟨_, rfl, h⟩
        · have h := it_t h c_16
          refine r_iconst C dX0_plant_38 (pc' := 39) rfl (v := 0) rfl ?_
          exact r_zret C hE (Or.inl rfl) (Nat.le_of_ble_eq_true rfl) (Nat.le_of_ble_eq_true rfl) dX0_plant_39 ⟨_, rfl, h⟩
set_option maxHeartbeats 4000000 in
theorem S_X0_person {D : DD} {l : Launch} {M : MM} {a0 : Nat} {x1 : Int32} {x2 : Int32} {x3 : Int32} {Post : Int32 → MM → Prop} (k_a0 : mkd M a0 = 1) (h : wp_X0_person M a0 x1 x2 x3 Post) : mMet D l yX0_person cX0_person 5 ((some .boolean)) { frames := 1, cells := 0, slots := 0, locals := 22 } M [.ref a0, .int x1, .int x2, .int x3] (pI_ Post) := by
  refine m_of2 [(0, .ref a0), (1, .int x1), (2, .int x2), (3, .int x3)] (by decide +kernel) (Nat.le_of_ble_eq_true rfl) rfl (fun E hED hEl C hE => ?_)
  subst hED
  subst hEl
  unfold wp_X0_person at h
  refine r_iload_n C dX0_person_0 (pc' := 1) rfl (j := 1) rfl ?_
  refine r_bipush C dX0_person_1 (pc' := 3) rfl (v := 8) rfl ?_
  refine r_callSi (As := [.int x1, .int (8 : Int32)]) (rest := []) C (S_X0_in h) (lw_S q459 q460 q105 q461) hd_X0_in rfl rfl (Nat.le_of_ble_eq_true rfl) (Nat.le_of_ble_eq_true rfl) (Nat.le_of_ble_eq_true rfl) rfl rfl (Nat.le_of_ble_eq_true rfl) (Nat.le_of_ble_eq_true rfl) dX0_person_3 (pc' := 6) rfl (fun r_2 M_1 h m_3 => ?_)
  refine r_if_eq C dX0_person_6 (pc' := 9) rfl (tgt := 27) (by decide) (fun c_4 => ?_) (fun c_4 => ?_)
  · have h := it_t h c_4
    refine r_iconst C dX0_person_27 (pc' := 28) rfl (v := 0) rfl ?_
    exact r_zret C hE (Or.inl rfl) (Nat.le_of_ble_eq_true rfl) (Nat.le_of_ble_eq_true rfl) dX0_person_28 ⟨_, rfl, h⟩
  · have h := it_f h c_4
    refine r_iload_n C dX0_person_9 (pc' := 10) rfl (j := 2) rfl ?_
    refine r_iconst C dX0_person_10 (pc' := 11) rfl (v := 0) rfl ?_
    refine r_bipush C dX0_person_11 (pc' := 13) rfl (v := 10) rfl ?_
    refine r_callSi (As := [.int x2, .int (0 : Int32), .int (10 : Int32)]) (rest := []) C (S_X0_within h) (lw_S q462 q463 q105 q464) hd_X0_within rfl rfl (Nat.le_of_ble_eq_true rfl) (Nat.le_of_ble_eq_true rfl) (Nat.le_of_ble_eq_true rfl) rfl rfl (Nat.le_of_ble_eq_true rfl) (Nat.le_of_ble_eq_true rfl) dX0_person_13 (pc' := 16) rfl (fun r_6 M_5 h m_7 => ?_)
    refine r_if_eq C dX0_person_16 (pc' := 19) rfl (tgt := 27) (by decide) (fun c_8 => ?_) (fun c_8 => ?_)
    · have h := it_t h c_8
      refine r_iconst C dX0_person_27 (pc' := 28) rfl (v := 0) rfl ?_
      exact r_zret C hE (Or.inl rfl) (Nat.le_of_ble_eq_true rfl) (Nat.le_of_ble_eq_true rfl) dX0_person_28 ⟨_, rfl, h⟩
    · have h := it_f h c_8
      refine r_iload_n C dX0_person_19 (pc' := 20) rfl (j := 3) rfl ?_
      refine r_iconst C dX0_person_20 (pc' := 21) rfl (v := 4) rfl ?_
      refine r_callSi (As := [.int x3, .int (4 : Int32)]) (rest := []) C (S_X0_in h) (lw_S q459 q460 q105 q461) hd_X0_in rfl rfl (Nat.le_of_ble_eq_true rfl) (Nat.le_of_ble_eq_true rfl) (Nat.le_of_ble_eq_true rfl) rfl rfl (Nat.le_of_ble_eq_true rfl) (Nat.le_of_ble_eq_true rfl) dX0_person_21 (pc' := 24) rfl (fun r_10 M_9 h m_11 => ?_)
      refine r_if_ne C dX0_person_24 (pc' := 27) rfl (tgt := 29) (by decide) (fun c_12 => ?_) (fun c_12 => ?_)
      · have h := it_f h c_12
        refine r_aload_n C dX0_person_29 (pc' := 30) rfl (j := 0) rfl ?_
        refine r_getf C (Cn := RX0) (T := TX0) 1 (mMo.kd m_11 (mMo.kd m_7 (mMo.kd m_3 k_a0 (by decide)) (by decide)) (by decide)) (by decide) vc_X0 in_X0 (by decide) q351 dX0_person_30 (pc' := 33) rfl (v := va_rf (mgR M_9 a0 1)) rfl ?_
        obtain ⟨b_13, e_14, k_15, h⟩ := h
        refine r_ref [] e_14 ?_
        refine r_getfN C (Cn := RX3) (T := TX3) 1 k_15 (by decide) vc_X3 in_X3 (by decide) (List.mem_of_getElem? (i := 2) rfl) dX0_person_33 (pc' := 36) rfl (v := va_rf (mgR M_9 b_13 1)) rfl ?_
        obtain ⟨b_16, e_17, k_18, h⟩ := h
        refine r_ref [] e_17 ?_
        refine r_iload_n C dX0_person_36 (pc' := 37) rfl (j := 1) rfl ?_
        obtain ⟨c_19, h⟩ := h
        refine r_aald C (t := 4) (j := (ix_ x1)) k_18 (by decide) rfl rfl c_19 rfl dX0_person_37 (pc' := 38) rfl ?_
        obtain ⟨b_20, e_21, k_22, h⟩ := h
        refine r_ref [] e_21 ?_
        refine r_astore C (lv' := [(4, .ref b_20), (0, .ref a0), (1, .int x1), (2, .int x2), (3, .int x3)]) dX0_person_38 (pc' := 40) rfl b_20 rfl (Nat.le_of_ble_eq_true rfl) rfl ?_
        refine r_aload C dX0_person_40 (pc' := 42) rfl (j := 0) rfl ?_
        refine r_iconst C dX0_person_42 (pc' := 43) rfl (v := 1) rfl ?_
        obtain ⟨M_23, e_24, h⟩ := bn_ h
        refine r_putIN C (Cn := RX5) (T := TX5) tyX5 3 k_22 (by decide) vc_X5 in_X5 tyX5_ok nmX5 (by decide) (List.mem_of_getElem? (i := 3) rfl) rfl rfl dX0_person_43 (pc' := 46) rfl rfl rfl M_23 e_24 ?_
        refine r_aload C dX0_person_46 (pc' := 48) rfl (j := 0) rfl ?_
        refine r_iload_n C dX0_person_48 (pc' := 49) rfl (j := 3) rfl ?_
        obtain ⟨M_25, e_26, h⟩ := bn_ h
        refine r_putIN C (Cn := RX5) (T := TX5) tyX5 0 (mMo.kd (mo_I e_24) k_22 (by decide)) (by decide) vc_X5 in_X5 tyX5_ok nmX5 (by decide) (List.mem_of_getElem? (i := 13) rfl) rfl rfl dX0_person_49 (pc' := 52) rfl rfl rfl M_25 e_26 ?_
        refine r_aload C dX0_person_52 (pc' := 54) rfl (j := 0) rfl ?_
        refine r_iload_n C dX0_person_54 (pc' := 55) rfl (j := 4) rfl ?_
        obtain ⟨M_27, e_28, h⟩ := bn_ h
        refine r_putIN C (Cn := RX5) (T := TX5) tyX5 1 (mMo.kd (mo_I e_26) (mMo.kd (mo_I e_24) k_22 (by decide)) (by decide)) (by decide) vc_X5 in_X5 tyX5_ok nmX5 (by decide) (List.mem_of_getElem? (i := 14) rfl) rfl rfl dX0_person_55 (pc' := 58) rfl rfl rfl M_27 e_28 ?_
        refine r_aload C dX0_person_58 (pc' := 60) rfl (j := 0) rfl ?_
        refine r_iconst C dX0_person_60 (pc' := 61) rfl (v := 0) rfl ?_
        obtain ⟨M_29, e_30, h⟩ := bn_ h
        refine r_putIN C (Cn := RX5) (T := TX5) tyX5 2 (mMo.kd (mo_I e_28) (mMo.kd (mo_I e_26) (mMo.kd (mo_I e_24) k_22 (by decide)) (by decide)) (by decide)) (by decide) vc_X5 in_X5 tyX5_ok nmX5 (by decide) (List.mem_of_getElem? (i := 15) rfl) rfl rfl dX0_person_61 (pc' := 64) rfl rfl rfl M_29 e_30 ?_
        refine r_iconst C dX0_person_64 (pc' := 65) rfl (v := 1) rfl ?_
        exact r_zret C hE (Or.inr rfl) (Nat.le_of_ble_eq_true rfl) (Nat.le_of_ble_eq_true rfl) dX0_person_65 ⟨_, rfl, h⟩
      · have h := it_t h c_12
        refine r_iconst C dX0_person_27 (pc' := 28) rfl (v := 0) rfl ?_
        exact r_zret C hE (Or.inl rfl) (Nat.le_of_ble_eq_true rfl) (Nat.le_of_ble_eq_true rfl) dX0_person_28 ⟨_, rfl, h⟩
set_option maxHeartbeats 4000000 in
theorem S_X0_card {D : DD} {l : Launch} {M : MM} {a0 : Nat} {x1 : Int32} {x2 : Int32} {Post : Int32 → MM → Prop} (k_a0 : mkd M a0 = 1) (h : wp_X0_card M a0 x1 x2 Post) : mMet D l yX0_card cX0_card 3 ((some .boolean)) { frames := 2, cells := 0, slots := 0, locals := 42 } M [.ref a0, .int x1, .int x2] (pI_ Post) := by
  refine m_of2 [(0, .ref a0), (1, .int x1), (2, .int x2)] (by decide +kernel) (Nat.le_of_ble_eq_true rfl) rfl (fun E hED hEl C hE => ?_)
  subst hED
  subst hEl
  unfold wp_X0_card at h
  refine r_aload_n C dX0_card_0 (pc' := 1) rfl (j := 0) rfl ?_
  refine r_iload_n C dX0_card_1 (pc' := 2) rfl (j := 1) rfl ?_
  refine r_callVi (As := [.int x1]) (rest := []) (Cn := RX0) (T := TX0) C k_a0 (by decide) vc_X0 (S_X0_isPlant k_a0 h) (lw_V q473 q475 qs0 q105 q476) rfl hd_X0_isPlant rfl rfl (Nat.le_of_ble_eq_true rfl) (Nat.le_of_ble_eq_true rfl) (Nat.le_of_ble_eq_true rfl) rfl rfl (Nat.le_of_ble_eq_true rfl) (Nat.le_of_ble_eq_true rfl) dX0_card_2 (pc' := 5) rfl (fun r_2 M_1 h m_3 => ?_)
  refine r_if_eq C dX0_card_5 (pc' := 8) rfl (tgt := 24) (by decide) (fun c_4 => ?_) (fun c_4 => ?_)
  · have h := it_t h c_4
    refine r_iconst C dX0_card_24 (pc' := 25) rfl (v := 0) rfl ?_
    exact r_zret C hE (Or.inl rfl) (Nat.le_of_ble_eq_true rfl) (Nat.le_of_ble_eq_true rfl) dX0_card_25 ⟨_, rfl, h⟩
  · have h := it_f h c_4
    refine r_aload_n C dX0_card_8 (pc' := 9) rfl (j := 0) rfl ?_
    refine r_getf C (Cn := RX0) (T := TX0) 1 (mMo.kd m_3 k_a0 (by decide)) (by decide) vc_X0 in_X0 (by decide) q351 dX0_card_9 (pc' := 12) rfl (v := va_rf (mgR M_1 a0 1)) rfl ?_
    obtain ⟨b_5, e_6, k_7, h⟩ := h
    refine r_ref [] e_6 ?_
    refine r_getfN C (Cn := RX3) (T := TX3) 0 k_7 (by decide) vc_X3 in_X3 (by decide) (List.mem_of_getElem? (i := 0) rfl) dX0_card_12 (pc' := 15) rfl (v := va_rf (mgR M_1 b_5 0)) rfl ?_
    obtain ⟨b_8, e_9, k_10, h⟩ := h
    refine r_ref [] e_9 ?_
    refine r_iload_n C dX0_card_15 (pc' := 16) rfl (j := 1) rfl ?_
    obtain ⟨c_11, h⟩ := h
    refine r_aald C (t := 3) (j := (ix_ x1)) k_10 (by decide) rfl rfl c_11 rfl dX0_card_16 (pc' := 17) rfl ?_
    obtain ⟨b_12, e_13, k_14, h⟩ := h
    refine r_ref [] e_13 ?_
    refine r_getfN C (Cn := RX4) (T := TX4) 9 k_14 (by decide) vc_X4 in_X4 (by decide) (List.mem_of_getElem? (i := 4) rfl) dX0_card_17 (pc' := 20) rfl (v := .int (mgI M_1 b_12 9)) rfl ?_
    refine r_iload_n C dX0_card_20 (pc' := 21) rfl (j := 2) rfl ?_
    refine r_icmp_ne C dX0_card_21 (pc' := 24) rfl (tgt := 26) (by decide) (fun c_15 => ?_) (fun c_15 => ?_)
    · have h := it_f h c_15
      refine r_aload_n C dX0_card_26 (pc' := 27) rfl (j := 0) rfl ?_
      refine r_getf C (Cn := RX0) (T := TX0) 1 (mMo.kd m_3 k_a0 (by decide)) (by decide) vc_X0 in_X0 (by decide) q351 dX0_card_27 (pc' := 30) rfl (v := va_rf (mgR M_1 a0 1)) rfl ?_
      obtain ⟨b_16, e_17, k_18, h⟩ := h
      refine r_ref [] e_17 ?_
      refine r_getfN C (Cn := RX3) (T := TX3) 0 k_18 (by decide) vc_X3 in_X3 (by decide) (List.mem_of_getElem? (i := 0) rfl) dX0_card_30 (pc' := 33) rfl (v := va_rf (mgR M_1 b_16 0)) rfl ?_
      obtain ⟨b_19, e_20, k_21, h⟩ := h
      refine r_ref [] e_20 ?_
      refine r_iload_n C dX0_card_33 (pc' := 34) rfl (j := 1) rfl ?_
      obtain ⟨c_22, h⟩ := h
      refine r_aald C (t := 3) (j := (ix_ x1)) k_21 (by decide) rfl rfl c_22 rfl dX0_card_34 (pc' := 35) rfl ?_
      obtain ⟨b_23, e_24, k_25, h⟩ := h
      refine r_ref [] e_24 ?_
      refine r_iload_n C dX0_card_35 (pc' := 36) rfl (j := 2) rfl ?_
      obtain ⟨c_26, h⟩ := h
      obtain ⟨M_27, e_28, h⟩ := bn_ h
      refine r_putIN C (Cn := RX4) (T := TX4) tyX4 9 k_25 (by decide) vc_X4 in_X4 tyX4_ok nmX4 (by decide) (List.mem_of_getElem? (i := 4) rfl) rfl rfl dX0_card_36 (pc' := 39) rfl (nB_ c_26) (fB_ c_26) M_27 e_28 ?_
      refine r_aload_n C dX0_card_39 (pc' := 40) rfl (j := 0) rfl ?_
      refine r_getf C (Cn := RX0) (T := TX0) 1 (mMo.kd (mo_I e_28) (mMo.kd m_3 k_a0 (by decide)) (by decide)) (by decide) vc_X0 in_X0 (by decide) q351 dX0_card_40 (pc' := 43) rfl (v := va_rf (mgR M_27 a0 1)) rfl ?_
      obtain ⟨b_29, e_30, k_31, h⟩ := h
      refine r_ref [] e_30 ?_
      refine r_getfN C (Cn := RX3) (T := TX3) 0 k_31 (by decide) vc_X3 in_X3 (by decide) (List.mem_of_getElem? (i := 0) rfl) dX0_card_43 (pc' := 46) rfl (v := va_rf (mgR M_27 b_29 0)) rfl ?_
      obtain ⟨b_32, e_33, k_34, h⟩ := h
      refine r_ref [] e_33 ?_
      refine r_iload_n C dX0_card_46 (pc' := 47) rfl (j := 1) rfl ?_
      obtain ⟨c_35, h⟩ := h
      refine r_aald C (t := 3) (j := (ix_ x1)) k_34 (by decide) rfl rfl c_35 rfl dX0_card_47 (pc' := 48) rfl ?_
      obtain ⟨b_36, e_37, k_38, h⟩ := h
      refine r_ref [] e_37 ?_
      refine r_iconst C dX0_card_48 (pc' := 49) rfl (v := -1) rfl ?_
      obtain ⟨M_39, e_40, h⟩ := bn_ h
      refine r_putIN C (Cn := RX4) (T := TX4) tyX4 7 k_38 (by decide) vc_X4 in_X4 tyX4_ok nmX4 (by decide) (List.mem_of_getElem? (i := 5) rfl) rfl rfl dX0_card_49 (pc' := 52) rfl rfl rfl M_39 e_40 ?_
      refine r_iconst C dX0_card_52 (pc' := 53) rfl (v := 1) rfl ?_
      exact r_zret C hE (Or.inr rfl) (Nat.le_of_ble_eq_true rfl) (Nat.le_of_ble_eq_true rfl) dX0_card_53 ⟨_, rfl, h⟩
    · have h := it_t h c_15
      refine r_iconst C dX0_card_24 (pc' := 25) rfl (v := 0) rfl ?_
      exact r_zret C hE (Or.inl rfl) (Nat.le_of_ble_eq_true rfl) (Nat.le_of_ble_eq_true rfl) dX0_card_25 ⟨_, rfl, h⟩
set_option maxHeartbeats 4000000 in
theorem S_X0_pour {D : DD} {l : Launch} {M : MM} {a0 : Nat} {x1 : Int32} {x2 : Int32} {Post : Int32 → MM → Prop} (k_a0 : mkd M a0 = 1) (h : wp_X0_pour M a0 x1 x2 Post) : mMet D l yX0_pour cX0_pour 3 ((some .int)) { frames := 2, cells := 0, slots := 0, locals := 42 } M [.ref a0, .int x1, .int x2] (pI_ Post) := by
  refine m_of2 [(0, .ref a0), (1, .int x1), (2, .int x2)] (by decide +kernel) (Nat.le_of_ble_eq_true rfl) rfl (fun E hED hEl C hE => ?_)
  subst hED
  subst hEl
  unfold wp_X0_pour at h
  refine r_aload_n C dX0_pour_0 (pc' := 1) rfl (j := 0) rfl ?_
  refine r_iload_n C dX0_pour_1 (pc' := 2) rfl (j := 1) rfl ?_
  refine r_callVi (As := [.int x1]) (rest := []) (Cn := RX0) (T := TX0) C k_a0 (by decide) vc_X0 (S_X0_isPlant k_a0 h) (lw_V q473 q475 qs0 q105 q476) rfl hd_X0_isPlant rfl rfl (Nat.le_of_ble_eq_true rfl) (Nat.le_of_ble_eq_true rfl) (Nat.le_of_ble_eq_true rfl) rfl rfl (Nat.le_of_ble_eq_true rfl) (Nat.le_of_ble_eq_true rfl) dX0_pour_2 (pc' := 5) rfl (fun r_2 M_1 h m_3 => ?_)
  refine r_if_eq C dX0_pour_5 (pc' := 8) rfl (tgt := 33) (by decide) (fun c_4 => ?_) (fun c_4 => ?_)
  · have h := it_t h c_4
    refine r_iconst C dX0_pour_33 (pc' := 34) rfl (v := -1) rfl ?_
    exact r_iret C hE (Nat.le_of_ble_eq_true rfl) (Nat.le_of_ble_eq_true rfl) dX0_pour_34 ⟨_, rfl, h⟩
  · have h := it_f h c_4
    refine r_aload_n C dX0_pour_8 (pc' := 9) rfl (j := 0) rfl ?_
    refine r_getf C (Cn := RX0) (T := TX0) 1 (mMo.kd m_3 k_a0 (by decide)) (by decide) vc_X0 in_X0 (by decide) q351 dX0_pour_9 (pc' := 12) rfl (v := va_rf (mgR M_1 a0 1)) rfl ?_
    obtain ⟨b_5, e_6, k_7, h⟩ := h
    refine r_ref [] e_6 ?_
    refine r_getfN C (Cn := RX3) (T := TX3) 0 k_7 (by decide) vc_X3 in_X3 (by decide) (List.mem_of_getElem? (i := 0) rfl) dX0_pour_12 (pc' := 15) rfl (v := va_rf (mgR M_1 b_5 0)) rfl ?_
    obtain ⟨b_8, e_9, k_10, h⟩ := h
    refine r_ref [] e_9 ?_
    refine r_iload_n C dX0_pour_15 (pc' := 16) rfl (j := 1) rfl ?_
    obtain ⟨c_11, h⟩ := h
    refine r_aald C (t := 3) (j := (ix_ x1)) k_10 (by decide) rfl rfl c_11 rfl dX0_pour_16 (pc' := 17) rfl ?_
    obtain ⟨b_12, e_13, k_14, h⟩ := h
    refine r_ref [] e_13 ?_
    refine r_callVi (As := []) (rest := []) (Cn := RX4) (T := TX4) C k_14 (by decide) vc_X4 (S_X4_isDead k_14 h) (lw_V q481 q482 q483 q109 q484) rfl hd_X4_isDead rfl rfl (Nat.le_of_ble_eq_true rfl) (Nat.le_of_ble_eq_true rfl) (Nat.le_of_ble_eq_true rfl) rfl rfl (Nat.le_of_ble_eq_true rfl) (Nat.le_of_ble_eq_true rfl) dX0_pour_17 (pc' := 20) rfl (fun r_16 M_15 h m_17 => ?_)
    refine r_if_ne C dX0_pour_20 (pc' := 23) rfl (tgt := 33) (by decide) (fun c_18 => ?_) (fun c_18 => ?_)
    · have h := it_f h c_18
      refine r_iconst C dX0_pour_33 (pc' := 34) rfl (v := -1) rfl ?_
      exact r_iret C hE (Nat.le_of_ble_eq_true rfl) (Nat.le_of_ble_eq_true rfl) dX0_pour_34 ⟨_, rfl, h⟩
    · have h := it_t h c_18
      refine r_iload_n C dX0_pour_23 (pc' := 24) rfl (j := 2) rfl ?_
      refine r_iconst C dX0_pour_24 (pc' := 25) rfl (v := 0) rfl ?_
      refine r_bipush C dX0_pour_25 (pc' := 27) rfl (v := 24) rfl ?_
      refine r_callSi (As := [.int x2, .int (0 : Int32), .int (24 : Int32)]) (rest := []) C (S_X0_within h) (lw_S q462 q463 q105 q464) hd_X0_within rfl rfl (Nat.le_of_ble_eq_true rfl) (Nat.le_of_ble_eq_true rfl) (Nat.le_of_ble_eq_true rfl) rfl rfl (Nat.le_of_ble_eq_true rfl) (Nat.le_of_ble_eq_true rfl) dX0_pour_27 (pc' := 30) rfl (fun r_20 M_19 h m_21 => ?_)
      refine r_if_ne C dX0_pour_30 (pc' := 33) rfl (tgt := 35) (by decide) (fun c_22 => ?_) (fun c_22 => ?_)
      · have h := it_f h c_22
        refine r_aload_n C dX0_pour_35 (pc' := 36) rfl (j := 0) rfl ?_
        refine r_getf C (Cn := RX0) (T := TX0) 1 (mMo.kd m_21 (mMo.kd m_17 (mMo.kd m_3 k_a0 (by decide)) (by decide)) (by decide)) (by decide) vc_X0 in_X0 (by decide) q351 dX0_pour_36 (pc' := 39) rfl (v := va_rf (mgR M_19 a0 1)) rfl ?_
        obtain ⟨b_23, e_24, k_25, h⟩ := h
        refine r_ref [] e_24 ?_
        refine r_getfN C (Cn := RX3) (T := TX3) 0 k_25 (by decide) vc_X3 in_X3 (by decide) (List.mem_of_getElem? (i := 0) rfl) dX0_pour_39 (pc' := 42) rfl (v := va_rf (mgR M_19 b_23 0)) rfl ?_
        obtain ⟨b_26, e_27, k_28, h⟩ := h
        refine r_ref [] e_27 ?_
        refine r_iload_n C dX0_pour_42 (pc' := 43) rfl (j := 1) rfl ?_
        obtain ⟨c_29, h⟩ := h
        refine r_aald C (t := 3) (j := (ix_ x1)) k_28 (by decide) rfl rfl c_29 rfl dX0_pour_43 (pc' := 44) rfl ?_
        obtain ⟨b_30, e_31, k_32, h⟩ := h
        refine r_ref [] e_31 ?_
        refine r_iload_n C dX0_pour_44 (pc' := 45) rfl (j := 2) rfl ?_
        refine r_callVi (As := [.int x2]) (rest := []) (Cn := RX4) (T := TX4) C k_32 (by decide) vc_X4 (S_X4_gets k_32 h) (lw_V q485 q486 q487 q109 q488) rfl hd_X4_gets rfl rfl (Nat.le_of_ble_eq_true rfl) (Nat.le_of_ble_eq_true rfl) (Nat.le_of_ble_eq_true rfl) rfl rfl (Nat.le_of_ble_eq_true rfl) (Nat.le_of_ble_eq_true rfl) dX0_pour_45 (pc' := 48) rfl (fun r_34 M_33 h m_35 => ?_)
        refine r_pop C dX0_pour_48 (pc' := 49) rfl rfl ?_
        refine r_aload_n C dX0_pour_49 (pc' := 50) rfl (j := 0) rfl ?_
        refine r_getf C (Cn := RX0) (T := TX0) 1 (mMo.kd m_35 (mMo.kd m_21 (mMo.kd m_17 (mMo.kd m_3 k_a0 (by decide)) (by decide)) (by decide)) (by decide)) (by decide) vc_X0 in_X0 (by decide) q351 dX0_pour_50 (pc' := 53) rfl (v := va_rf (mgR M_33 a0 1)) rfl ?_
        obtain ⟨b_36, e_37, k_38, h⟩ := h
        refine r_ref [] e_37 ?_
        refine r_getfN C (Cn := RX3) (T := TX3) 0 k_38 (by decide) vc_X3 in_X3 (by decide) (List.mem_of_getElem? (i := 0) rfl) dX0_pour_53 (pc' := 56) rfl (v := va_rf (mgR M_33 b_36 0)) rfl ?_
        obtain ⟨b_39, e_40, k_41, h⟩ := h
        refine r_ref [] e_40 ?_
        refine r_iload_n C dX0_pour_56 (pc' := 57) rfl (j := 1) rfl ?_
        obtain ⟨c_42, h⟩ := h
        refine r_aald C (t := 3) (j := (ix_ x1)) k_41 (by decide) rfl rfl c_42 rfl dX0_pour_57 (pc' := 58) rfl ?_
        obtain ⟨b_43, e_44, k_45, h⟩ := h
        refine r_ref [] e_44 ?_
        refine r_getfN C (Cn := RX4) (T := TX4) 2 k_45 (by decide) vc_X4 in_X4 (by decide) (List.mem_of_getElem? (i := 7) rfl) dX0_pour_58 (pc' := 61) rfl (v := .int (mgI M_33 b_43 2)) rfl ?_
        exact r_iret C hE (Nat.le_of_ble_eq_true rfl) (Nat.le_of_ble_eq_true rfl) dX0_pour_61 ⟨_, rfl, h⟩
      · have h := it_t h c_22
        refine r_iconst C dX0_pour_33 (pc' := 34) rfl (v := -1) rfl ?_
        exact r_iret C hE (Nat.le_of_ble_eq_true rfl) (Nat.le_of_ble_eq_true rfl) dX0_pour_34 ⟨_, rfl, h⟩
set_option maxHeartbeats 4000000 in
theorem B_X0_push_3 {E : mE} {a0 : Nat} {x1 : Int32} {X36 : MM → Prop} {Post : MM → Prop} (C : mC E yX0_push cX0_push 3 (none) { frames := 0, cells := 0, slots := 0, locals := 0 }) (hE : mEnd E { frames := 0, cells := 0, slots := 0, locals := 0 } (pV_ Post)) : ∀ (n_ : Nat) (M : MM) (x2 : Int32), mkd M a0 = 1 → wl_X0_push_3 a0 x1 X36 n_ M x2 → (∀ (M' : MM), mMo M M' → X36 M' → mV E M' 0 0 36 [] []) → mV E M 0 0 3 [(0, .ref a0), (1, .int x1), (2, .int x2)] [] := by
  intro n_
  induction n_ with
  | zero =>
    intro M x2 k_a0 h hX36
    exact absurd h (by rw [wl_X0_push_3]; exact fun q => q)
  | succ n_ ih =>
    intro M x2 k_a0 h hX36
    rw [wl_X0_push_3] at h
    refine r_iload_n C dX0_push_3 (pc' := 4) rfl (j := 2) rfl ?_
    refine r_if_lt C dX0_push_4 (pc' := 7) rfl (tgt := 36) (by decide) (fun c_1 => ?_) (fun c_1 => ?_)
    · have h := it_t h c_1
      refine r_sub (lv' := []) [] rfl ?_
      exact hX36 M mMo.rf h
    · have h := it_f h c_1
      refine r_aload_n C dX0_push_7 (pc' := 8) rfl (j := 0) rfl ?_
      refine r_getf C (Cn := RX0) (T := TX0) 4 k_a0 (by decide) vc_X0 in_X0 (by decide) q356 dX0_push_8 (pc' := 11) rfl (v := va_rf (mgR M a0 4)) rfl ?_
      obtain ⟨b_2, e_3, k_4, h⟩ := h
      refine r_ref [] e_3 ?_
      refine r_aload_n C dX0_push_11 (pc' := 12) rfl (j := 0) rfl ?_
      refine r_getf C (Cn := RX0) (T := TX0) 7 k_a0 (by decide) vc_X0 in_X0 (by decide) q361 dX0_push_12 (pc' := 15) rfl (v := .int (mgI M a0 7)) rfl ?_
      refine r_iload_n C dX0_push_15 (pc' := 16) rfl (j := 1) rfl ?_
      refine r_iload_n C dX0_push_16 (pc' := 17) rfl (j := 2) rfl ?_
      refine r_ishr C dX0_push_17 (pc' := 18) rfl ?_
      refine r_i2b C dX0_push_18 (pc' := 19) rfl ?_
      obtain ⟨c_5, h⟩ := h
      obtain ⟨M_6, e_7, h⟩ := bn_ h
      refine r_bast C (j := (ix_ (mgI M a0 7))) k_4 c_5 rfl dX0_push_19 (pc' := 20) rfl M_6 e_7 ?_
      refine r_aload_n C dX0_push_20 (pc' := 21) rfl (j := 0) rfl ?_
      refine r_dup C dX0_push_21 (pc' := 22) rfl rfl ?_
      refine r_getf C (Cn := RX0) (T := TX0) 7 (mMo.kd (mo_I e_7) k_a0 (by decide)) (by decide) vc_X0 in_X0 (by decide) q361 dX0_push_22 (pc' := 25) rfl (v := .int (mgI M_6 a0 7)) rfl ?_
      refine r_iconst C dX0_push_25 (pc' := 26) rfl (v := 1) rfl ?_
      refine r_iadd C dX0_push_26 (pc' := 27) rfl ?_
      obtain ⟨M_8, e_9, h⟩ := bn_ h
      refine r_putI C (Cn := RX0) (T := TX0) tyX0 7 (mMo.kd (mo_I e_7) k_a0 (by decide)) (by decide) vc_X0 in_X0 tyX0_ok nmX0 (by decide) q361 rfl rfl dX0_push_27 (pc' := 30) rfl rfl rfl M_8 e_9 ?_
      obtain ⟨x2_10, e_11, h⟩ := bn_ h
      refine r_iinc C (lv' := [(2, .int x2_10), (0, .ref a0), (1, .int x1)]) dX0_push_30 (pc' := 33) rfl (j := 2) rfl x2_10 (by rw [e_11]; rfl) (Nat.le_of_ble_eq_true rfl) rfl ?_
      refine r_goto C dX0_push_33 (tgt := 3) (by decide) ?_
      refine r_sub (lv' := [(0, .ref a0), (1, .int x1), (2, .int x2_10)]) [1, 2, 0] rfl ?_
      exact ih M_8 x2_10 (mMo.kd (mo_I e_9) (mMo.kd (mo_I e_7) k_a0 (by decide)) (by decide)) h (fun M9 hm9 h9 => hX36 M9 (mMo.tr (mMo.tr (mo_I e_7) (mo_I e_9)) hm9) h9)
set_option maxHeartbeats 4000000 in
theorem S_X0_push {D : DD} {l : Launch} {M : MM} {a0 : Nat} {x1 : Int32} {Post : MM → Prop} (k_a0 : mkd M a0 = 1) (h : wp_X0_push M a0 x1 Post) : mMet D l yX0_push cX0_push 3 (none) { frames := 0, cells := 0, slots := 0, locals := 0 } M [.ref a0, .int x1] (pV_ Post) := by
  refine m_of2 [(0, .ref a0), (1, .int x1)] (by decide +kernel) (Nat.le_of_ble_eq_true rfl) rfl (fun E hED hEl C hE => ?_)
  subst hED
  subst hEl
  unfold wp_X0_push at h
  refine r_bipush C dX0_push_0 (pc' := 2) rfl (v := 24) rfl ?_
  refine r_istore_n C (lv' := [(2, .int (24 : Int32)), (0, .ref a0), (1, .int x1)]) dX0_push_2 (pc' := 3) rfl rfl (24 : Int32) rfl (Nat.le_of_ble_eq_true rfl) rfl ?_
  obtain ⟨n_12, h⟩ := h
  refine r_sub (lv' := [(0, .ref a0), (1, .int x1), (2, .int (24 : Int32))]) [1, 2, 0] rfl ?_
  refine B_X0_push_3 C hE n_12 M (24 : Int32) k_a0 h (fun M_13 m_14 h => ?_)
  exact r_vret C hE (Nat.le_of_ble_eq_true rfl) (Nat.le_of_ble_eq_true rfl) dX0_push_36 ⟨rfl, h⟩
set_option maxHeartbeats 4000000 in
theorem S_X0_feed {D : DD} {l : Launch} {M : MM} {a0 : Nat} {x1 : Int32} {x2 : Int32} {x3 : Int32} {x4 : Int32} {x5 : Int32} {Post : Int32 → MM → Prop} (k_a0 : mkd M a0 = 1) (h : wp_X0_feed M a0 x1 x2 x3 x4 x5 Post) : mMet D l yX0_feed cX0_feed 6 ((some .int)) { frames := 1, cells := 0, slots := 0, locals := 22 } M [.ref a0, .int x1, .int x2, .int x3, .int x4, .int x5] (pI_ Post) := by
  refine m_of2 [(0, .ref a0), (1, .int x1), (2, .int x2), (3, .int x3), (4, .int x4), (5, .int x5)] (by decide +kernel) (Nat.le_of_ble_eq_true rfl) rfl (fun E hED hEl C hE => ?_)
  subst hED
  subst hEl
  unfold wp_X0_feed at h
  refine r_aload_n C dX0_feed_0 (pc' := 1) rfl (j := 0) rfl ?_
  refine r_getf C (Cn := RX0) (T := TX0) 7 k_a0 (by decide) vc_X0 in_X0 (by decide) q361 dX0_feed_1 (pc' := 4) rfl (v := .int (mgI M a0 7)) rfl ?_
  refine r_bipush C dX0_feed_4 (pc' := 6) rfl (v := 20) rfl ?_
  refine r_iadd C dX0_feed_6 (pc' := 7) rfl ?_
  refine r_sipush C dX0_feed_7 (pc' := 10) rfl (v := 220) rfl ?_
  refine r_icmp_le C dX0_feed_10 (pc' := 13) rfl (tgt := 15) (by decide) (fun c_1 => ?_) (fun c_1 => ?_)
  · have h := it_t h c_1
    refine r_aload_n C dX0_feed_15 (pc' := 16) rfl (j := 0) rfl ?_
    refine r_iload_n C dX0_feed_16 (pc' := 17) rfl (j := 1) rfl ?_
    refine r_callVv (As := [.int x1]) (rest := []) (Cn := RX0) (T := TX0) C k_a0 (by decide) vc_X0 (S_X0_push k_a0 h) (lw_V q496 q498 qs1 q105 q499) rfl hd_X0_push rfl rfl (Nat.le_of_ble_eq_true rfl) (Nat.le_of_ble_eq_true rfl) (Nat.le_of_ble_eq_true rfl) rfl rfl (Nat.le_of_ble_eq_true rfl) (Nat.le_of_ble_eq_true rfl) dX0_feed_17 (pc' := 20) rfl (fun M_2 h m_4 => ?_)
    refine r_aload_n C dX0_feed_20 (pc' := 21) rfl (j := 0) rfl ?_
    refine r_iload_n C dX0_feed_21 (pc' := 22) rfl (j := 2) rfl ?_
    refine r_callVv (As := [.int x2]) (rest := []) (Cn := RX0) (T := TX0) C (mMo.kd m_4 k_a0 (by decide)) (by decide) vc_X0 (S_X0_push (mMo.kd m_4 k_a0 (by decide)) h) (lw_V q496 q498 qs1 q105 q499) rfl hd_X0_push rfl rfl (Nat.le_of_ble_eq_true rfl) (Nat.le_of_ble_eq_true rfl) (Nat.le_of_ble_eq_true rfl) rfl rfl (Nat.le_of_ble_eq_true rfl) (Nat.le_of_ble_eq_true rfl) dX0_feed_22 (pc' := 25) rfl (fun M_5 h m_7 => ?_)
    refine r_aload_n C dX0_feed_25 (pc' := 26) rfl (j := 0) rfl ?_
    refine r_iload_n C dX0_feed_26 (pc' := 27) rfl (j := 3) rfl ?_
    refine r_callVv (As := [.int x3]) (rest := []) (Cn := RX0) (T := TX0) C (mMo.kd m_7 (mMo.kd m_4 k_a0 (by decide)) (by decide)) (by decide) vc_X0 (S_X0_push (mMo.kd m_7 (mMo.kd m_4 k_a0 (by decide)) (by decide)) h) (lw_V q496 q498 qs1 q105 q499) rfl hd_X0_push rfl rfl (Nat.le_of_ble_eq_true rfl) (Nat.le_of_ble_eq_true rfl) (Nat.le_of_ble_eq_true rfl) rfl rfl (Nat.le_of_ble_eq_true rfl) (Nat.le_of_ble_eq_true rfl) dX0_feed_27 (pc' := 30) rfl (fun M_8 h m_10 => ?_)
    refine r_aload_n C dX0_feed_30 (pc' := 31) rfl (j := 0) rfl ?_
    refine r_iload C dX0_feed_31 (pc' := 33) rfl (j := 4) rfl ?_
    refine r_callVv (As := [.int x4]) (rest := []) (Cn := RX0) (T := TX0) C (mMo.kd m_10 (mMo.kd m_7 (mMo.kd m_4 k_a0 (by decide)) (by decide)) (by decide)) (by decide) vc_X0 (S_X0_push (mMo.kd m_10 (mMo.kd m_7 (mMo.kd m_4 k_a0 (by decide)) (by decide)) (by decide)) h) (lw_V q496 q498 qs1 q105 q499) rfl hd_X0_push rfl rfl (Nat.le_of_ble_eq_true rfl) (Nat.le_of_ble_eq_true rfl) (Nat.le_of_ble_eq_true rfl) rfl rfl (Nat.le_of_ble_eq_true rfl) (Nat.le_of_ble_eq_true rfl) dX0_feed_33 (pc' := 36) rfl (fun M_11 h m_13 => ?_)
    refine r_aload_n C dX0_feed_36 (pc' := 37) rfl (j := 0) rfl ?_
    refine r_iload C dX0_feed_37 (pc' := 39) rfl (j := 5) rfl ?_
    refine r_callVv (As := [.int x5]) (rest := []) (Cn := RX0) (T := TX0) C (mMo.kd m_13 (mMo.kd m_10 (mMo.kd m_7 (mMo.kd m_4 k_a0 (by decide)) (by decide)) (by decide)) (by decide)) (by decide) vc_X0 (S_X0_push (mMo.kd m_13 (mMo.kd m_10 (mMo.kd m_7 (mMo.kd m_4 k_a0 (by decide)) (by decide)) (by decide)) (by decide)) h) (lw_V q496 q498 qs1 q105 q499) rfl hd_X0_push rfl rfl (Nat.le_of_ble_eq_true rfl) (Nat.le_of_ble_eq_true rfl) (Nat.le_of_ble_eq_true rfl) rfl rfl (Nat.le_of_ble_eq_true rfl) (Nat.le_of_ble_eq_true rfl) dX0_feed_39 (pc' := 42) rfl (fun M_14 h m_16 => ?_)
    refine r_aload_n C dX0_feed_42 (pc' := 43) rfl (j := 0) rfl ?_
    refine r_getf C (Cn := RX0) (T := TX0) 7 (mMo.kd m_16 (mMo.kd m_13 (mMo.kd m_10 (mMo.kd m_7 (mMo.kd m_4 k_a0 (by decide)) (by decide)) (by decide)) (by decide)) (by decide)) (by decide) vc_X0 in_X0 (by decide) q361 dX0_feed_43 (pc' := 46) rfl (v := .int (mgI M_14 a0 7)) rfl ?_
    exact r_iret C hE (Nat.le_of_ble_eq_true rfl) (Nat.le_of_ble_eq_true rfl) dX0_feed_46 ⟨_, rfl, h⟩
  · have h := it_f h c_1
    refine r_iconst C dX0_feed_13 (pc' := 14) rfl (v := -1) rfl ?_
    exact r_iret C hE (Nat.le_of_ble_eq_true rfl) (Nat.le_of_ble_eq_true rfl) dX0_feed_14 ⟨_, rfl, h⟩
set_option maxHeartbeats 4000000 in
theorem S_X0_law {D : DD} {l : Launch} {bc bs : Nat} {M : MM} {a0 : Nat} {x1 : Int32} {Post : Int32 → MM → Prop} (k_a0 : mkd M a0 = 1) (h : wp_X0_law D bc bs M a0 x1 Post) : mMet D l yX0_law cX0_law 4 ((some .int)) { frames := 143, cells := bc, slots := bs, locals := 3967 } M [.ref a0, .int x1] (pI_ Post) := by
  refine m_of2 [(0, .ref a0), (1, .int x1)] (by decide +kernel) (Nat.le_of_ble_eq_true rfl) rfl (fun E hED hEl C hE => ?_)
  subst hED
  subst hEl
  unfold wp_X0_law at h
  refine r_iload_n C dX0_law_0 (pc' := 1) rfl (j := 1) rfl ?_
  refine r_iconst C dX0_law_1 (pc' := 2) rfl (v := 1) rfl ?_
  refine r_sipush C dX0_law_2 (pc' := 5) rfl (v := 200) rfl ?_
  refine r_callSi (As := [.int x1, .int (1 : Int32), .int (200 : Int32)]) (rest := []) C (S_X0_within h) (lw_S q462 q463 q105 q464) hd_X0_within rfl rfl (Nat.le_of_ble_eq_true rfl) (by dsimp only; omega) (by dsimp only; omega) rfl rfl (Nat.zero_le _) (Nat.zero_le _) dX0_law_5 (pc' := 8) rfl (fun r_2 M_1 h m_3 => ?_)
  refine r_if_eq C dX0_law_8 (pc' := 11) rfl (tgt := 19) (by decide) (fun c_4 => ?_) (fun c_4 => ?_)
  · have h := it_t h c_4
    refine r_iconst C dX0_law_19 (pc' := 20) rfl (v := -1) rfl ?_
    exact r_iret C hE (Nat.zero_le _) (Nat.zero_le _) dX0_law_20 ⟨_, rfl, h⟩
  · have h := it_f h c_4
    refine r_iload_n C dX0_law_11 (pc' := 12) rfl (j := 1) rfl ?_
    refine r_aload_n C dX0_law_12 (pc' := 13) rfl (j := 0) rfl ?_
    refine r_getf C (Cn := RX0) (T := TX0) 7 (mMo.kd m_3 k_a0 (by decide)) (by decide) vc_X0 in_X0 (by decide) q361 dX0_law_13 (pc' := 16) rfl (v := .int (mgI M_1 a0 7)) rfl ?_
    refine r_icmp_le C dX0_law_16 (pc' := 19) rfl (tgt := 21) (by decide) (fun c_5 => ?_) (fun c_5 => ?_)
    · have h := it_t h c_5
      refine r_aload_n C dX0_law_21 (pc' := 22) rfl (j := 0) rfl ?_
      refine r_iconst C dX0_law_22 (pc' := 23) rfl (v := 0) rfl ?_
      obtain ⟨M_6, e_7, h⟩ := bn_ h
      refine r_putI C (Cn := RX0) (T := TX0) tyX0 7 (mMo.kd m_3 k_a0 (by decide)) (by decide) vc_X0 in_X0 tyX0_ok nmX0 (by decide) q361 rfl rfl dX0_law_23 (pc' := 26) rfl rfl rfl M_6 e_7 ?_
      obtain ⟨b_10, e_11, h⟩ := bn_ h
      obtain ⟨M_12, e_13, h⟩ := bn_ h
      obtain ⟨c_14, h⟩ := h
      refine r_new C (Cn := RX8) (T := TX8) tyX8 (by decide) vc_X8 in_X8 tyX8_ok df_X8 q504 q505 q114 c_14.1 c_14.2 dX0_law_26 (pc' := 29) rfl b_10 e_11 M_12 e_13 (fun m_8 k_9 => ?_)
      refine r_dup C dX0_law_29 (pc' := 30) rfl rfl ?_
      refine r_aload_n C dX0_law_30 (pc' := 31) rfl (j := 0) rfl ?_
      refine r_iload_n C dX0_law_31 (pc' := 32) rfl (j := 1) rfl ?_
      refine r_ldcS C 0 (by decide) rfl dX0_law_32 (pc' := 34) rfl ?_
      obtain ⟨c_15, h⟩ := h
      refine r_callIv (As := [.ref a0, .int x1, va_rf (some (E.2.1.2.2.1 0))]) (rest := [.ref b_10]) C (S_X8_init k_9 (mMo.kd m_8 (mMo.kd (mo_I e_7) (mMo.kd m_3 k_a0 (by decide)) (by decide)) (by decide)) h) q509 q114 q507 q508 rfl rfl hd_X8_init rfl rfl (Nat.le_of_ble_eq_true rfl) (by dsimp only; omega) (by dsimp only; omega) rfl rfl c_15.1 c_15.2 dX0_law_34 (pc' := 37) rfl (fun M_16 h m_18 => ?_)
      refine r_astore_n C (lv' := [(2, .ref b_10), (0, .ref a0), (1, .int x1)]) dX0_law_37 (pc' := 38) rfl rfl b_10 rfl (Nat.le_of_ble_eq_true rfl) rfl ?_
      refine r_aload_n C dX0_law_38 (pc' := 39) rfl (j := 0) rfl ?_
      obtain ⟨c_19, s_20, c_21, h⟩ := h
      refine r_callVi (As := []) (rest := []) (Cn := RX8) (T := TX8) C (mMo.kd m_18 k_9 (by decide)) (by decide) vc_X8 (S_X8_read (mMo.kd m_18 k_9 (by decide)) h) (lw_V q539 q540 q541 q114 q542) rfl hd_X8_read rfl rfl (Nat.le_of_ble_eq_true rfl) (by dsimp only; omega) (by dsimp only; omega) rfl rfl c_21.1 c_21.2 dX0_law_39 (pc' := 42) rfl (fun r_23 M_22 h m_24 => ?_)
      refine r_istore_n C (lv' := [(3, .int r_23), (2, .ref b_10), (0, .ref a0), (1, .int x1)]) dX0_law_42 (pc' := 43) rfl rfl r_23 rfl (Nat.le_of_ble_eq_true rfl) rfl ?_
      refine r_iload_n C dX0_law_43 (pc' := 44) rfl (j := 0) rfl ?_
      refine r_if_lt C dX0_law_44 (pc' := 47) rfl (tgt := 55) (by decide) (fun c_25 => ?_) (fun c_25 => ?_)
      · have h := it_t h c_25
        refine r_iload_n C dX0_law_55 (pc' := 56) rfl (j := 0) rfl ?_
        exact r_iret C hE c_21.1 c_21.2 dX0_law_56 ⟨_, rfl, h⟩
      · have h := it_f h c_25
        refine r_aload_n C dX0_law_47 (pc' := 48) rfl (j := 2) rfl ?_
        refine r_aload_n C dX0_law_48 (pc' := 49) rfl (j := 1) rfl ?_
        refine r_getfN C (Cn := RX8) (T := TX8) 2 (mMo.kd m_24 (mMo.kd m_18 k_9 (by decide)) (by decide)) (by decide) vc_X8 in_X8 (by decide) (List.mem_of_getElem? (i := 16) rfl) dX0_law_49 (pc' := 52) rfl (v := va_rf (mgR M_22 b_10 2)) rfl ?_
        obtain ⟨b_26, e_27, k_28, h⟩ := h
        refine r_ref [] e_27 ?_
        obtain ⟨M_29, e_30, h⟩ := bn_ h
        refine r_putR C (Cn := RX0) (T := TX0) (x := (some b_26)) tyX0 6 (mMo.kd m_24 (mMo.kd m_18 (mMo.kd m_8 (mMo.kd (mo_I e_7) (mMo.kd m_3 k_a0 (by decide)) (by decide)) (by decide)) (by decide)) (by decide)) (by decide) vc_X0 in_X0 tyX0_ok nmX0 (by decide) q360 rfl rfl dX0_law_52 (pc' := 55) rfl (nO_ _) (fO_ _) M_29 e_30 ?_
        refine r_iload_n C dX0_law_55 (pc' := 56) rfl (j := 0) rfl ?_
        exact r_iret C hE c_21.1 c_21.2 dX0_law_56 ⟨_, rfl, h⟩
    · have h := it_f h c_5
      refine r_iconst C dX0_law_19 (pc' := 20) rfl (v := -1) rfl ?_
      exact r_iret C hE (Nat.zero_le _) (Nat.zero_le _) dX0_law_20 ⟨_, rfl, h⟩
set_option maxHeartbeats 4000000 in
theorem S_X0_rule {D : DD} {l : Launch} {bc bs : Nat} {M : MM} {a0 : Nat} {x1 : Int32} {x2 : Int32} {Post : Int32 → MM → Prop} (k_a0 : mkd M a0 = 1) (h : wp_X0_rule D bc bs M a0 x1 x2 Post) : mMet D l yX0_rule cX0_rule 5 ((some .int)) { frames := 143, cells := bc, slots := bs, locals := 3967 } M [.ref a0, .int x1, .int x2] (pI_ Post) := by
  refine m_of2 [(0, .ref a0), (1, .int x1), (2, .int x2)] (by decide +kernel) (Nat.le_of_ble_eq_true rfl) rfl (fun E hED hEl C hE => ?_)
  subst hED
  subst hEl
  unfold wp_X0_rule at h
  refine r_iload_n C dX0_rule_0 (pc' := 1) rfl (j := 1) rfl ?_
  refine r_iconst C dX0_rule_1 (pc' := 2) rfl (v := 4) rfl ?_
  refine r_callSi (As := [.int x1, .int (4 : Int32)]) (rest := []) C (S_X0_in h) (lw_S q459 q460 q105 q461) hd_X0_in rfl rfl (Nat.le_of_ble_eq_true rfl) (by dsimp only; omega) (by dsimp only; omega) rfl rfl (Nat.zero_le _) (Nat.zero_le _) dX0_rule_2 (pc' := 5) rfl (fun r_2 M_1 h m_3 => ?_)
  refine r_if_eq C dX0_rule_5 (pc' := 8) rfl (tgt := 27) (by decide) (fun c_4 => ?_) (fun c_4 => ?_)
  · have h := it_t h c_4
    refine r_iconst C dX0_rule_27 (pc' := 28) rfl (v := -1) rfl ?_
    exact r_iret C hE (Nat.zero_le _) (Nat.zero_le _) dX0_rule_28 ⟨_, rfl, h⟩
  · have h := it_f h c_4
    refine r_iload_n C dX0_rule_8 (pc' := 9) rfl (j := 2) rfl ?_
    refine r_iconst C dX0_rule_9 (pc' := 10) rfl (v := 1) rfl ?_
    refine r_sipush C dX0_rule_10 (pc' := 13) rfl (v := 200) rfl ?_
    refine r_callSi (As := [.int x2, .int (1 : Int32), .int (200 : Int32)]) (rest := []) C (S_X0_within h) (lw_S q462 q463 q105 q464) hd_X0_within rfl rfl (Nat.le_of_ble_eq_true rfl) (by dsimp only; omega) (by dsimp only; omega) rfl rfl (Nat.zero_le _) (Nat.zero_le _) dX0_rule_13 (pc' := 16) rfl (fun r_6 M_5 h m_7 => ?_)
    refine r_if_eq C dX0_rule_16 (pc' := 19) rfl (tgt := 27) (by decide) (fun c_8 => ?_) (fun c_8 => ?_)
    · have h := it_t h c_8
      refine r_iconst C dX0_rule_27 (pc' := 28) rfl (v := -1) rfl ?_
      exact r_iret C hE (Nat.zero_le _) (Nat.zero_le _) dX0_rule_28 ⟨_, rfl, h⟩
    · have h := it_f h c_8
      refine r_iload_n C dX0_rule_19 (pc' := 20) rfl (j := 2) rfl ?_
      refine r_aload_n C dX0_rule_20 (pc' := 21) rfl (j := 0) rfl ?_
      refine r_getf C (Cn := RX0) (T := TX0) 7 (mMo.kd m_7 (mMo.kd m_3 k_a0 (by decide)) (by decide)) (by decide) vc_X0 in_X0 (by decide) q361 dX0_rule_21 (pc' := 24) rfl (v := .int (mgI M_5 a0 7)) rfl ?_
      refine r_icmp_le C dX0_rule_24 (pc' := 27) rfl (tgt := 29) (by decide) (fun c_9 => ?_) (fun c_9 => ?_)
      · have h := it_t h c_9
        refine r_aload_n C dX0_rule_29 (pc' := 30) rfl (j := 0) rfl ?_
        refine r_iconst C dX0_rule_30 (pc' := 31) rfl (v := 0) rfl ?_
        obtain ⟨M_10, e_11, h⟩ := bn_ h
        refine r_putI C (Cn := RX0) (T := TX0) tyX0 7 (mMo.kd m_7 (mMo.kd m_3 k_a0 (by decide)) (by decide)) (by decide) vc_X0 in_X0 tyX0_ok nmX0 (by decide) q361 rfl rfl dX0_rule_31 (pc' := 34) rfl rfl rfl M_10 e_11 ?_
        obtain ⟨b_14, e_15, h⟩ := bn_ h
        obtain ⟨M_16, e_17, h⟩ := bn_ h
        obtain ⟨c_18, h⟩ := h
        refine r_new C (Cn := RX8) (T := TX8) tyX8 (by decide) vc_X8 in_X8 tyX8_ok df_X8 q504 q505 q114 c_18.1 c_18.2 dX0_rule_34 (pc' := 37) rfl b_14 e_15 M_16 e_17 (fun m_12 k_13 => ?_)
        refine r_dup C dX0_rule_37 (pc' := 38) rfl rfl ?_
        refine r_aload_n C dX0_rule_38 (pc' := 39) rfl (j := 0) rfl ?_
        refine r_iload_n C dX0_rule_39 (pc' := 40) rfl (j := 2) rfl ?_
        refine r_ldcS C 1 (by decide) rfl dX0_rule_40 (pc' := 42) rfl ?_
        obtain ⟨c_19, h⟩ := h
        refine r_callIv (As := [.ref a0, .int x2, va_rf (some (E.2.1.2.2.1 1))]) (rest := [.ref b_14]) C (S_X8_init k_13 (mMo.kd m_12 (mMo.kd (mo_I e_11) (mMo.kd m_7 (mMo.kd m_3 k_a0 (by decide)) (by decide)) (by decide)) (by decide)) h) q509 q114 q507 q508 rfl rfl hd_X8_init rfl rfl (Nat.le_of_ble_eq_true rfl) (by dsimp only; omega) (by dsimp only; omega) rfl rfl c_19.1 c_19.2 dX0_rule_42 (pc' := 45) rfl (fun M_20 h m_22 => ?_)
        refine r_astore_n C (lv' := [(3, .ref b_14), (0, .ref a0), (1, .int x1), (2, .int x2)]) dX0_rule_45 (pc' := 46) rfl rfl b_14 rfl (Nat.le_of_ble_eq_true rfl) rfl ?_
        refine r_aload_n C dX0_rule_46 (pc' := 47) rfl (j := 0) rfl ?_
        obtain ⟨c_23, s_24, c_25, h⟩ := h
        refine r_callVi (As := []) (rest := []) (Cn := RX8) (T := TX8) C (mMo.kd m_22 k_13 (by decide)) (by decide) vc_X8 (S_X8_read (mMo.kd m_22 k_13 (by decide)) h) (lw_V q539 q540 q541 q114 q542) rfl hd_X8_read rfl rfl (Nat.le_of_ble_eq_true rfl) (by dsimp only; omega) (by dsimp only; omega) rfl rfl c_25.1 c_25.2 dX0_rule_47 (pc' := 50) rfl (fun r_27 M_26 h m_28 => ?_)
        refine r_istore C (lv' := [(4, .int r_27), (3, .ref b_14), (0, .ref a0), (1, .int x1), (2, .int x2)]) dX0_rule_50 (pc' := 52) rfl r_27 rfl (Nat.le_of_ble_eq_true rfl) rfl ?_
        refine r_iload C dX0_rule_52 (pc' := 54) rfl (j := 0) rfl ?_
        refine r_if_lt C dX0_rule_54 (pc' := 57) rfl (tgt := 67) (by decide) (fun c_29 => ?_) (fun c_29 => ?_)
        · have h := it_t h c_29
          refine r_iload C dX0_rule_67 (pc' := 69) rfl (j := 0) rfl ?_
          exact r_iret C hE c_25.1 c_25.2 dX0_rule_69 ⟨_, rfl, h⟩
        · have h := it_f h c_29
          refine r_aload_n C dX0_rule_57 (pc' := 58) rfl (j := 2) rfl ?_
          refine r_getf C (Cn := RX0) (T := TX0) 5 (mMo.kd m_28 (mMo.kd m_22 (mMo.kd m_12 (mMo.kd (mo_I e_11) (mMo.kd m_7 (mMo.kd m_3 k_a0 (by decide)) (by decide)) (by decide)) (by decide)) (by decide)) (by decide)) (by decide) vc_X0 in_X0 (by decide) q358 dX0_rule_58 (pc' := 61) rfl (v := va_rf (mgR M_26 a0 5)) rfl ?_
          obtain ⟨b_30, e_31, k_32, h⟩ := h
          refine r_ref [] e_31 ?_
          refine r_iload_n C dX0_rule_61 (pc' := 62) rfl (j := 3) rfl ?_
          refine r_aload_n C dX0_rule_62 (pc' := 63) rfl (j := 1) rfl ?_
          refine r_getfN C (Cn := RX8) (T := TX8) 2 (mMo.kd m_28 (mMo.kd m_22 k_13 (by decide)) (by decide)) (by decide) vc_X8 in_X8 (by decide) (List.mem_of_getElem? (i := 16) rfl) dX0_rule_63 (pc' := 66) rfl (v := va_rf (mgR M_26 b_14 2)) rfl ?_
          obtain ⟨b_33, e_34, k_35, h⟩ := h
          refine r_ref [] e_34 ?_
          obtain ⟨c_36, h⟩ := h
          obtain ⟨M_37, e_38, h⟩ := bn_ h
          refine r_aast C (o := (some b_33)) (t := 5) (j := (ix_ x1)) k_32 (by decide) c_36 rfl (fun v hv => by cases hv; rw [k_35]; exact ⟨rfl, by decide⟩) dX0_rule_66 (pc' := 67) rfl M_37 e_38 ?_
          refine r_iload C dX0_rule_67 (pc' := 69) rfl (j := 0) rfl ?_
          exact r_iret C hE c_25.1 c_25.2 dX0_rule_69 ⟨_, rfl, h⟩
      · have h := it_f h c_9
        refine r_iconst C dX0_rule_27 (pc' := 28) rfl (v := -1) rfl ?_
        exact r_iret C hE (Nat.zero_le _) (Nat.zero_le _) dX0_rule_28 ⟨_, rfl, h⟩
set_option maxHeartbeats 4000000 in
theorem S_X0_days {D : DD} {l : Launch} {M : MM} {a0 : Nat} {x1 : Int32} {Post : Int32 → MM → Prop} (k_a0 : mkd M a0 = 1) (h : wp_X0_days M a0 x1 Post) : mMet D l yX0_days cX0_days 2 ((some .int)) { frames := 207, cells := 0, slots := 0, locals := 5564 } M [.ref a0, .int x1] (pI_ Post) := by
  refine m_of2 [(0, .ref a0), (1, .int x1)] (by decide +kernel) (Nat.le_of_ble_eq_true rfl) rfl (fun E hED hEl C hE => ?_)
  subst hED
  subst hEl
  unfold wp_X0_days at h
  refine r_iload_n C dX0_days_0 (pc' := 1) rfl (j := 1) rfl ?_
  refine r_iconst C dX0_days_1 (pc' := 2) rfl (v := 1) rfl ?_
  refine r_bipush C dX0_days_2 (pc' := 4) rfl (v := 60) rfl ?_
  refine r_callSi (As := [.int x1, .int (1 : Int32), .int (60 : Int32)]) (rest := []) C (S_X0_within h) (lw_S q462 q463 q105 q464) hd_X0_within rfl rfl (Nat.le_of_ble_eq_true rfl) (Nat.le_of_ble_eq_true rfl) (Nat.le_of_ble_eq_true rfl) rfl rfl (Nat.le_of_ble_eq_true rfl) (Nat.le_of_ble_eq_true rfl) dX0_days_4 (pc' := 7) rfl (fun r_2 M_1 h m_3 => ?_)
  refine r_if_eq C dX0_days_7 (pc' := 10) rfl (tgt := 24) (by decide) (fun c_4 => ?_) (fun c_4 => ?_)
  · have h := it_t h c_4
    refine r_iconst C dX0_days_24 (pc' := 25) rfl (v := -1) rfl ?_
    exact r_iret C hE (Nat.le_of_ble_eq_true rfl) (Nat.le_of_ble_eq_true rfl) dX0_days_25 ⟨_, rfl, h⟩
  · have h := it_f h c_4
    refine r_aload_n C dX0_days_10 (pc' := 11) rfl (j := 0) rfl ?_
    refine r_getf C (Cn := RX0) (T := TX0) 1 (mMo.kd m_3 k_a0 (by decide)) (by decide) vc_X0 in_X0 (by decide) q351 dX0_days_11 (pc' := 14) rfl (v := va_rf (mgR M_1 a0 1)) rfl ?_
    obtain ⟨b_5, e_6, k_7, h⟩ := h
    refine r_ref [] e_6 ?_
    refine r_iload_n C dX0_days_14 (pc' := 15) rfl (j := 1) rfl ?_
    refine r_callVq (As := [.int x1]) (rest := []) (Cn := RX3) (T := TX3) C k_7 (by decide) vc_X3 (S_X3_goes k_7 h) (lw_V q779 q780 q781 q108 q782) rfl hd_X3_goes rfl rfl (Nat.le_of_ble_eq_true rfl) (Nat.le_of_ble_eq_true rfl) (Nat.le_of_ble_eq_true rfl) rfl rfl (Nat.le_of_ble_eq_true rfl) (Nat.le_of_ble_eq_true rfl) dX0_days_15 (pc' := 18) rfl (fun r_9 M_8 h m_10 => ?_)
    obtain ⟨b_11, e_12, k_13, h⟩ := h
    refine r_ref [] e_12 ?_
    refine r_getfN C (Cn := RX3) (T := TX3) 4 k_13 (by decide) vc_X3 in_X3 (by decide) (List.mem_of_getElem? (i := 17) rfl) dX0_days_18 (pc' := 21) rfl (v := .int (mgI M_8 b_11 4)) rfl ?_
    refine r_goto C dX0_days_21 (tgt := 25) (by decide) ?_
    exact r_iret C hE (Nat.le_of_ble_eq_true rfl) (Nat.le_of_ble_eq_true rfl) dX0_days_25 ⟨_, rfl, h⟩
set_option maxHeartbeats 4000000 in
theorem B_X0_tried_42 {E : mE} {M : MM} {a0 : Nat} {x1 : Int32} {x2 : Int32} {Post : Int32 → MM → Prop} (C : mC E yX0_tried cX0_tried 3 ((some .int)) { frames := 207, cells := 0, slots := 0, locals := 5564 }) (hE : mEnd E { frames := 207, cells := 0, slots := 0, locals := 5564 } (pI_ Post)) (k_a0 : mkd M a0 = 1) (h : wb_X0_tried_42 M a0 x1 x2 Post) : mV E M 0 0 42 [(0, .ref a0), (1, .int x1), (2, .int x2)] [] := by
  unfold wb_X0_tried_42 at h
  refine r_aload_n C dX0_tried_42 (pc' := 43) rfl (j := 0) rfl ?_
  refine r_getf C (Cn := RX0) (T := TX0) 2 k_a0 (by decide) vc_X0 in_X0 (by decide) q352 dX0_tried_43 (pc' := 46) rfl (v := va_rf (mgR M a0 2)) rfl ?_
  obtain ⟨b_9, e_10, k_11, h⟩ := h
  refine r_ref [] e_10 ?_
  refine r_aload_n C dX0_tried_46 (pc' := 47) rfl (j := 0) rfl ?_
  refine r_getf C (Cn := RX0) (T := TX0) 1 k_a0 (by decide) vc_X0 in_X0 (by decide) q351 dX0_tried_47 (pc' := 50) rfl (v := va_rf (mgR M a0 1)) rfl ?_
  obtain ⟨b_12, e_13, k_14, h⟩ := h
  refine r_ref [] e_13 ?_
  refine r_callVq (As := [.ref b_12]) (rest := []) (Cn := RX3) (T := TX3) C k_11 (by decide) vc_X3 (S_X3_takes k_11 k_14 h) (lw_V q908 q909 q910 q108 q911) rfl hd_X3_takes rfl rfl (Nat.le_of_ble_eq_true rfl) (Nat.le_of_ble_eq_true rfl) (Nat.le_of_ble_eq_true rfl) rfl rfl (Nat.le_of_ble_eq_true rfl) (Nat.le_of_ble_eq_true rfl) dX0_tried_50 (pc' := 53) rfl (fun r_16 M_15 h m_17 => ?_)
  obtain ⟨b_18, e_19, k_20, h⟩ := h
  refine r_ref [] e_19 ?_
  refine r_iload_n C dX0_tried_53 (pc' := 54) rfl (j := 1) rfl ?_
  refine r_callVq (As := [.int x1]) (rest := []) (Cn := RX3) (T := TX3) C k_20 (by decide) vc_X3 (S_X3_goes k_20 h) (lw_V q779 q780 q781 q108 q782) rfl hd_X3_goes rfl rfl (Nat.le_of_ble_eq_true rfl) (Nat.le_of_ble_eq_true rfl) (Nat.le_of_ble_eq_true rfl) rfl rfl (Nat.le_of_ble_eq_true rfl) (Nat.le_of_ble_eq_true rfl) dX0_tried_54 (pc' := 57) rfl (fun r_22 M_21 h m_23 => ?_)
  obtain ⟨b_24, e_25, k_26, h⟩ := h
  refine r_ref [] e_25 ?_
  refine r_pop C dX0_tried_57 (pc' := 58) rfl rfl ?_
  refine r_iload_n C dX0_tried_58 (pc' := 59) rfl (j := 2) rfl ?_
  by_cases c_27 : x2 = 0
  · have h := it_t h c_27
    refine r_tsIn C dX0_tried_59 (off := 29) (tgt := 88) (by rw [c_27]; decide) (by rw [c_27]; decide) (by rw [c_27]; decide) (by decide) ?_
    refine r_aload_n C dX0_tried_88 (pc' := 89) rfl (j := 0) rfl ?_
    refine r_getf C (Cn := RX0) (T := TX0) 2 (mMo.kd m_23 (mMo.kd m_17 k_a0 (by decide)) (by decide)) (by decide) vc_X0 in_X0 (by decide) q352 dX0_tried_89 (pc' := 92) rfl (v := va_rf (mgR M_21 a0 2)) rfl ?_
    obtain ⟨b_28, e_29, k_30, h⟩ := h
    refine r_ref [] e_29 ?_
    refine r_getfN C (Cn := RX3) (T := TX3) 4 k_30 (by decide) vc_X3 in_X3 (by decide) (List.mem_of_getElem? (i := 17) rfl) dX0_tried_92 (pc' := 95) rfl (v := .int (mgI M_21 b_28 4)) rfl ?_
    exact r_iret C hE (Nat.le_of_ble_eq_true rfl) (Nat.le_of_ble_eq_true rfl) dX0_tried_95 ⟨_, rfl, h⟩
  have h := it_f h c_27
  by_cases c_31 : x2 = 1
  · have h := it_t h c_31
    refine r_tsIn C dX0_tried_59 (off := 37) (tgt := 96) (by rw [c_31]; decide) (by rw [c_31]; decide) (by rw [c_31]; decide) (by decide) ?_
    refine r_aload_n C dX0_tried_96 (pc' := 97) rfl (j := 0) rfl ?_
    refine r_getf C (Cn := RX0) (T := TX0) 2 (mMo.kd m_23 (mMo.kd m_17 k_a0 (by decide)) (by decide)) (by decide) vc_X0 in_X0 (by decide) q352 dX0_tried_97 (pc' := 100) rfl (v := va_rf (mgR M_21 a0 2)) rfl ?_
    obtain ⟨b_32, e_33, k_34, h⟩ := h
    refine r_ref [] e_33 ?_
    refine r_getfN C (Cn := RX3) (T := TX3) 5 k_34 (by decide) vc_X3 in_X3 (by decide) (List.mem_of_getElem? (i := 18) rfl) dX0_tried_100 (pc' := 103) rfl (v := .int (mgI M_21 b_32 5)) rfl ?_
    exact r_iret C hE (Nat.le_of_ble_eq_true rfl) (Nat.le_of_ble_eq_true rfl) dX0_tried_103 ⟨_, rfl, h⟩
  have h := it_f h c_31
  by_cases c_35 : x2 = 2
  · have h := it_t h c_35
    refine r_tsIn C dX0_tried_59 (off := 45) (tgt := 104) (by rw [c_35]; decide) (by rw [c_35]; decide) (by rw [c_35]; decide) (by decide) ?_
    refine r_aload_n C dX0_tried_104 (pc' := 105) rfl (j := 0) rfl ?_
    refine r_getf C (Cn := RX0) (T := TX0) 2 (mMo.kd m_23 (mMo.kd m_17 k_a0 (by decide)) (by decide)) (by decide) vc_X0 in_X0 (by decide) q352 dX0_tried_105 (pc' := 108) rfl (v := va_rf (mgR M_21 a0 2)) rfl ?_
    obtain ⟨b_36, e_37, k_38, h⟩ := h
    refine r_ref [] e_37 ?_
    refine r_callVi (As := []) (rest := []) (Cn := RX3) (T := TX3) C k_38 (by decide) vc_X3 (S_X3_dead k_38 h) (lw_V q920 q921 q922 q108 q923) rfl hd_X3_dead rfl rfl (Nat.le_of_ble_eq_true rfl) (Nat.le_of_ble_eq_true rfl) (Nat.le_of_ble_eq_true rfl) rfl rfl (Nat.le_of_ble_eq_true rfl) (Nat.le_of_ble_eq_true rfl) dX0_tried_108 (pc' := 111) rfl (fun r_40 M_39 h m_41 => ?_)
    refine r_callSi (As := [.int r_40]) (rest := []) C (S_J6_bitCount h) (lw_S q924 q925 q128 q926) hd_J6_bitCount rfl rfl (Nat.le_of_ble_eq_true rfl) (Nat.le_of_ble_eq_true rfl) (Nat.le_of_ble_eq_true rfl) rfl rfl (Nat.le_of_ble_eq_true rfl) (Nat.le_of_ble_eq_true rfl) dX0_tried_111 (pc' := 114) rfl (fun r_43 M_42 h m_44 => ?_)
    exact r_iret C hE (Nat.le_of_ble_eq_true rfl) (Nat.le_of_ble_eq_true rfl) dX0_tried_114 ⟨_, rfl, h⟩
  have h := it_f h c_35
  by_cases c_45 : x2 = 3
  · have h := it_t h c_45
    refine r_tsIn C dX0_tried_59 (off := 56) (tgt := 115) (by rw [c_45]; decide) (by rw [c_45]; decide) (by rw [c_45]; decide) (by decide) ?_
    refine r_aload_n C dX0_tried_115 (pc' := 116) rfl (j := 0) rfl ?_
    refine r_getf C (Cn := RX0) (T := TX0) 2 (mMo.kd m_23 (mMo.kd m_17 k_a0 (by decide)) (by decide)) (by decide) vc_X0 in_X0 (by decide) q352 dX0_tried_116 (pc' := 119) rfl (v := va_rf (mgR M_21 a0 2)) rfl ?_
    obtain ⟨b_46, e_47, k_48, h⟩ := h
    refine r_ref [] e_47 ?_
    refine r_getfN C (Cn := RX3) (T := TX3) 6 k_48 (by decide) vc_X3 in_X3 (by decide) (List.mem_of_getElem? (i := 19) rfl) dX0_tried_119 (pc' := 122) rfl (v := .int (mgI M_21 b_46 6)) rfl ?_
    exact r_iret C hE (Nat.le_of_ble_eq_true rfl) (Nat.le_of_ble_eq_true rfl) dX0_tried_122 ⟨_, rfl, h⟩
  have h := it_f h c_45
  have c_27 := lv_neT c_27 (show ((0 : Int32)).toInt = 0 from by decide)
  have c_31 := lv_neT c_31 (show ((1 : Int32)).toInt = 1 from by decide)
  have c_35 := lv_neT c_35 (show ((2 : Int32)).toInt = 2 from by decide)
  have c_45 := lv_neT c_45 (show ((3 : Int32)).toInt = 3 from by decide)
  refine r_tsOut C dX0_tried_59 (tgt := 123) (by omega) (by decide) ?_
  refine r_iload_n C dX0_tried_123 (pc' := 124) rfl (j := 2) rfl ?_
  refine r_bipush C dX0_tried_124 (pc' := 126) rfl (v := 20) rfl ?_
  refine r_icmp_ge C dX0_tried_126 (pc' := 129) rfl (tgt := 147) (by decide) (fun c_49 => ?_) (fun c_49 => ?_)
  · have h := it_t h c_49
    refine r_aload_n C dX0_tried_147 (pc' := 148) rfl (j := 0) rfl ?_
    refine r_getf C (Cn := RX0) (T := TX0) 2 (mMo.kd m_23 (mMo.kd m_17 k_a0 (by decide)) (by decide)) (by decide) vc_X0 in_X0 (by decide) q352 dX0_tried_148 (pc' := 151) rfl (v := va_rf (mgR M_21 a0 2)) rfl ?_
    obtain ⟨b_50, e_51, k_52, h⟩ := h
    refine r_ref [] e_51 ?_
    refine r_getfN C (Cn := RX3) (T := TX3) 1 k_52 (by decide) vc_X3 in_X3 (by decide) (List.mem_of_getElem? (i := 2) rfl) dX0_tried_151 (pc' := 154) rfl (v := va_rf (mgR M_21 b_50 1)) rfl ?_
    obtain ⟨b_53, e_54, k_55, h⟩ := h
    refine r_ref [] e_54 ?_
    refine r_iload_n C dX0_tried_154 (pc' := 155) rfl (j := 2) rfl ?_
    refine r_bipush C dX0_tried_155 (pc' := 157) rfl (v := 20) rfl ?_
    refine r_isub C dX0_tried_157 (pc' := 158) rfl ?_
    obtain ⟨c_56, h⟩ := h
    refine r_aald C (t := 4) (j := (ix_ (x2 - (20 : Int32)))) k_55 (by decide) rfl rfl c_56 rfl dX0_tried_158 (pc' := 159) rfl ?_
    obtain ⟨b_57, e_58, k_59, h⟩ := h
    refine r_ref [] e_58 ?_
    refine r_getfN C (Cn := RX5) (T := TX5) 2 k_59 (by decide) vc_X5 in_X5 (by decide) (List.mem_of_getElem? (i := 15) rfl) dX0_tried_159 (pc' := 162) rfl (v := .int (mgI M_21 b_57 2)) rfl ?_
    refine r_aload_n C dX0_tried_162 (pc' := 163) rfl (j := 0) rfl ?_
    refine r_getf C (Cn := RX0) (T := TX0) 1 (mMo.kd m_23 (mMo.kd m_17 k_a0 (by decide)) (by decide)) (by decide) vc_X0 in_X0 (by decide) q351 dX0_tried_163 (pc' := 166) rfl (v := va_rf (mgR M_21 a0 1)) rfl ?_
    obtain ⟨b_60, e_61, k_62, h⟩ := h
    refine r_ref [] e_61 ?_
    refine r_getfN C (Cn := RX3) (T := TX3) 1 k_62 (by decide) vc_X3 in_X3 (by decide) (List.mem_of_getElem? (i := 2) rfl) dX0_tried_166 (pc' := 169) rfl (v := va_rf (mgR M_21 b_60 1)) rfl ?_
    obtain ⟨b_63, e_64, k_65, h⟩ := h
    refine r_ref [] e_64 ?_
    refine r_iload_n C dX0_tried_169 (pc' := 170) rfl (j := 2) rfl ?_
    refine r_bipush C dX0_tried_170 (pc' := 172) rfl (v := 20) rfl ?_
    refine r_isub C dX0_tried_172 (pc' := 173) rfl ?_
    obtain ⟨c_66, h⟩ := h
    refine r_aald C (t := 4) (j := (ix_ (x2 - (20 : Int32)))) k_65 (by decide) rfl rfl c_66 rfl dX0_tried_173 (pc' := 174) rfl ?_
    obtain ⟨b_67, e_68, k_69, h⟩ := h
    refine r_ref [] e_68 ?_
    refine r_getfN C (Cn := RX5) (T := TX5) 2 k_69 (by decide) vc_X5 in_X5 (by decide) (List.mem_of_getElem? (i := 15) rfl) dX0_tried_174 (pc' := 177) rfl (v := .int (mgI M_21 b_67 2)) rfl ?_
    refine r_isub C dX0_tried_177 (pc' := 178) rfl ?_
    exact r_iret C hE (Nat.le_of_ble_eq_true rfl) (Nat.le_of_ble_eq_true rfl) dX0_tried_178 ⟨_, rfl, h⟩
  · have h := it_f h c_49
    refine r_aload_n C dX0_tried_129 (pc' := 130) rfl (j := 0) rfl ?_
    refine r_getf C (Cn := RX0) (T := TX0) 2 (mMo.kd m_23 (mMo.kd m_17 k_a0 (by decide)) (by decide)) (by decide) vc_X0 in_X0 (by decide) q352 dX0_tried_130 (pc' := 133) rfl (v := va_rf (mgR M_21 a0 2)) rfl ?_
    obtain ⟨b_70, e_71, k_72, h⟩ := h
    refine r_ref [] e_71 ?_
    refine r_getfN C (Cn := RX3) (T := TX3) 0 k_72 (by decide) vc_X3 in_X3 (by decide) (List.mem_of_getElem? (i := 0) rfl) dX0_tried_133 (pc' := 136) rfl (v := va_rf (mgR M_21 b_70 0)) rfl ?_
    obtain ⟨b_73, e_74, k_75, h⟩ := h
    refine r_ref [] e_74 ?_
    refine r_iload_n C dX0_tried_136 (pc' := 137) rfl (j := 2) rfl ?_
    refine r_bipush C dX0_tried_137 (pc' := 139) rfl (v := 10) rfl ?_
    refine r_isub C dX0_tried_139 (pc' := 140) rfl ?_
    obtain ⟨c_76, h⟩ := h
    refine r_aald C (t := 3) (j := (ix_ (x2 - (10 : Int32)))) k_75 (by decide) rfl rfl c_76 rfl dX0_tried_140 (pc' := 141) rfl ?_
    obtain ⟨b_77, e_78, k_79, h⟩ := h
    refine r_ref [] e_78 ?_
    refine r_getfN C (Cn := RX4) (T := TX4) 2 k_79 (by decide) vc_X4 in_X4 (by decide) (List.mem_of_getElem? (i := 7) rfl) dX0_tried_141 (pc' := 144) rfl (v := .int (mgI M_21 b_77 2)) rfl ?_
    refine r_goto C dX0_tried_144 (tgt := 178) (by decide) ?_
    exact r_iret C hE (Nat.le_of_ble_eq_true rfl) (Nat.le_of_ble_eq_true rfl) dX0_tried_178 ⟨_, rfl, h⟩
set_option maxHeartbeats 4000000 in
theorem S_X0_tried {D : DD} {l : Launch} {M : MM} {a0 : Nat} {x1 : Int32} {x2 : Int32} {Post : Int32 → MM → Prop} (k_a0 : mkd M a0 = 1) (h : wp_X0_tried M a0 x1 x2 Post) : mMet D l yX0_tried cX0_tried 3 ((some .int)) { frames := 207, cells := 0, slots := 0, locals := 5564 } M [.ref a0, .int x1, .int x2] (pI_ Post) := by
  refine m_of2 [(0, .ref a0), (1, .int x1), (2, .int x2)] (by decide +kernel) (Nat.le_of_ble_eq_true rfl) rfl (fun E hED hEl C hE => ?_)
  subst hED
  subst hEl
  unfold wp_X0_tried at h
  refine r_iload_n C dX0_tried_0 (pc' := 1) rfl (j := 1) rfl ?_
  refine r_iconst C dX0_tried_1 (pc' := 2) rfl (v := 1) rfl ?_
  refine r_bipush C dX0_tried_2 (pc' := 4) rfl (v := 60) rfl ?_
  refine r_callSi (As := [.int x1, .int (1 : Int32), .int (60 : Int32)]) (rest := []) C (S_X0_within h) (lw_S q462 q463 q105 q464) hd_X0_within rfl rfl (Nat.le_of_ble_eq_true rfl) (Nat.le_of_ble_eq_true rfl) (Nat.le_of_ble_eq_true rfl) rfl rfl (Nat.le_of_ble_eq_true rfl) (Nat.le_of_ble_eq_true rfl) dX0_tried_4 (pc' := 7) rfl (fun r_2 M_1 h m_3 => ?_)
  refine r_if_eq C dX0_tried_7 (pc' := 10) rfl (tgt := 40) (by decide) (fun c_4 => ?_) (fun c_4 => ?_)
  · have h := it_t h c_4
    refine r_iconst C dX0_tried_40 (pc' := 41) rfl (v := -1) rfl ?_
    exact r_iret C hE (Nat.le_of_ble_eq_true rfl) (Nat.le_of_ble_eq_true rfl) dX0_tried_41 ⟨_, rfl, h⟩
  · have h := it_f h c_4
    refine r_iload_n C dX0_tried_10 (pc' := 11) rfl (j := 2) rfl ?_
    refine r_iconst C dX0_tried_11 (pc' := 12) rfl (v := 4) rfl ?_
    refine r_callSi (As := [.int x2, .int (4 : Int32)]) (rest := []) C (S_X0_in h) (lw_S q459 q460 q105 q461) hd_X0_in rfl rfl (Nat.le_of_ble_eq_true rfl) (Nat.le_of_ble_eq_true rfl) (Nat.le_of_ble_eq_true rfl) rfl rfl (Nat.le_of_ble_eq_true rfl) (Nat.le_of_ble_eq_true rfl) dX0_tried_12 (pc' := 15) rfl (fun r_6 M_5 h m_7 => ?_)
    refine r_if_ne C dX0_tried_15 (pc' := 18) rfl (tgt := 42) (by decide) (fun c_8 => ?_) (fun c_8 => ?_)
    · have h := it_f h c_8
      refine r_sub (lv' := [(0, .ref a0), (1, .int x1), (2, .int x2)]) [0, 1, 2] rfl ?_
      exact B_X0_tried_42 C hE (mMo.kd m_7 (mMo.kd m_3 k_a0 (by decide)) (by decide)) h
    · have h := it_t h c_8
      refine r_aload_n C dX0_tried_18 (pc' := 19) rfl (j := 0) rfl ?_
      refine r_iload_n C dX0_tried_19 (pc' := 20) rfl (j := 2) rfl ?_
      refine r_bipush C dX0_tried_20 (pc' := 22) rfl (v := 10) rfl ?_
      refine r_isub C dX0_tried_22 (pc' := 23) rfl ?_
      refine r_callVi (As := [.int (x2 - (10 : Int32))]) (rest := []) (Cn := RX0) (T := TX0) C (mMo.kd m_7 (mMo.kd m_3 k_a0 (by decide)) (by decide)) (by decide) vc_X0 (S_X0_isPlant (mMo.kd m_7 (mMo.kd m_3 k_a0 (by decide)) (by decide)) h) (lw_V q473 q475 qs0 q105 q476) rfl hd_X0_isPlant rfl rfl (Nat.le_of_ble_eq_true rfl) (Nat.le_of_ble_eq_true rfl) (Nat.le_of_ble_eq_true rfl) rfl rfl (Nat.le_of_ble_eq_true rfl) (Nat.le_of_ble_eq_true rfl) dX0_tried_23 (pc' := 26) rfl (fun r_81 M_80 h m_82 => ?_)
      refine r_if_ne C dX0_tried_26 (pc' := 29) rfl (tgt := 42) (by decide) (fun c_83 => ?_) (fun c_83 => ?_)
      · have h := it_f h c_83
        refine r_sub (lv' := [(0, .ref a0), (1, .int x1), (2, .int x2)]) [0, 1, 2] rfl ?_
        exact B_X0_tried_42 C hE (mMo.kd m_82 (mMo.kd m_7 (mMo.kd m_3 k_a0 (by decide)) (by decide)) (by decide)) h
      · have h := it_t h c_83
        refine r_aload_n C dX0_tried_29 (pc' := 30) rfl (j := 0) rfl ?_
        refine r_iload_n C dX0_tried_30 (pc' := 31) rfl (j := 2) rfl ?_
        refine r_bipush C dX0_tried_31 (pc' := 33) rfl (v := 20) rfl ?_
        refine r_isub C dX0_tried_33 (pc' := 34) rfl ?_
        refine r_callVi (As := [.int (x2 - (20 : Int32))]) (rest := []) (Cn := RX0) (T := TX0) C (mMo.kd m_82 (mMo.kd m_7 (mMo.kd m_3 k_a0 (by decide)) (by decide)) (by decide)) (by decide) vc_X0 (S_X0_isPerson (mMo.kd m_82 (mMo.kd m_7 (mMo.kd m_3 k_a0 (by decide)) (by decide)) (by decide)) h) (lw_V q904 q906 qs19 q105 q907) rfl hd_X0_isPerson rfl rfl (Nat.le_of_ble_eq_true rfl) (Nat.le_of_ble_eq_true rfl) (Nat.le_of_ble_eq_true rfl) rfl rfl (Nat.le_of_ble_eq_true rfl) (Nat.le_of_ble_eq_true rfl) dX0_tried_34 (pc' := 37) rfl (fun r_85 M_84 h m_86 => ?_)
        refine r_if_ne C dX0_tried_37 (pc' := 40) rfl (tgt := 42) (by decide) (fun c_87 => ?_) (fun c_87 => ?_)
        · have h := it_f h c_87
          refine r_sub (lv' := [(0, .ref a0), (1, .int x1), (2, .int x2)]) [0, 1, 2] rfl ?_
          exact B_X0_tried_42 C hE (mMo.kd m_86 (mMo.kd m_82 (mMo.kd m_7 (mMo.kd m_3 k_a0 (by decide)) (by decide)) (by decide)) (by decide)) h
        · have h := it_t h c_87
          refine r_iconst C dX0_tried_40 (pc' := 41) rfl (v := -1) rfl ?_
          exact r_iret C hE (Nat.le_of_ble_eq_true rfl) (Nat.le_of_ble_eq_true rfl) dX0_tried_41 ⟨_, rfl, h⟩
set_option maxHeartbeats 4000000 in
theorem S_X0_plantIs {D : DD} {l : Launch} {M : MM} {a0 : Nat} {x1 : Int32} {x2 : Int32} {Post : Int32 → MM → Prop} (k_a0 : mkd M a0 = 1) (h : wp_X0_plantIs M a0 x1 x2 Post) : mMet D l yX0_plantIs cX0_plantIs 4 ((some .int)) { frames := 2, cells := 0, slots := 0, locals := 42 } M [.ref a0, .int x1, .int x2] (pI_ Post) := by
  refine m_of2 [(0, .ref a0), (1, .int x1), (2, .int x2)] (by decide +kernel) (Nat.le_of_ble_eq_true rfl) rfl (fun E hED hEl C hE => ?_)
  subst hED
  subst hEl
  unfold wp_X0_plantIs at h
  refine r_aload_n C dX0_plantIs_0 (pc' := 1) rfl (j := 0) rfl ?_
  refine r_iload_n C dX0_plantIs_1 (pc' := 2) rfl (j := 1) rfl ?_
  refine r_callVi (As := [.int x1]) (rest := []) (Cn := RX0) (T := TX0) C k_a0 (by decide) vc_X0 (S_X0_isPlant k_a0 h) (lw_V q473 q475 qs0 q105 q476) rfl hd_X0_isPlant rfl rfl (Nat.le_of_ble_eq_true rfl) (Nat.le_of_ble_eq_true rfl) (Nat.le_of_ble_eq_true rfl) rfl rfl (Nat.le_of_ble_eq_true rfl) (Nat.le_of_ble_eq_true rfl) dX0_plantIs_2 (pc' := 5) rfl (fun r_2 M_1 h m_3 => ?_)
  refine r_if_ne C dX0_plantIs_5 (pc' := 8) rfl (tgt := 10) (by decide) (fun c_4 => ?_) (fun c_4 => ?_)
  · have h := it_f h c_4
    refine r_aload_n C dX0_plantIs_10 (pc' := 11) rfl (j := 0) rfl ?_
    refine r_getf C (Cn := RX0) (T := TX0) 1 (mMo.kd m_3 k_a0 (by decide)) (by decide) vc_X0 in_X0 (by decide) q351 dX0_plantIs_11 (pc' := 14) rfl (v := va_rf (mgR M_1 a0 1)) rfl ?_
    obtain ⟨b_5, e_6, k_7, h⟩ := h
    refine r_ref [] e_6 ?_
    refine r_getfN C (Cn := RX3) (T := TX3) 0 k_7 (by decide) vc_X3 in_X3 (by decide) (List.mem_of_getElem? (i := 0) rfl) dX0_plantIs_14 (pc' := 17) rfl (v := va_rf (mgR M_1 b_5 0)) rfl ?_
    obtain ⟨b_8, e_9, k_10, h⟩ := h
    refine r_ref [] e_9 ?_
    refine r_iload_n C dX0_plantIs_17 (pc' := 18) rfl (j := 1) rfl ?_
    obtain ⟨c_11, h⟩ := h
    refine r_aald C (t := 3) (j := (ix_ x1)) k_10 (by decide) rfl rfl c_11 rfl dX0_plantIs_18 (pc' := 19) rfl ?_
    obtain ⟨b_12, e_13, k_14, h⟩ := h
    refine r_ref [] e_13 ?_
    refine r_astore_n C (lv' := [(3, .ref b_12), (0, .ref a0), (1, .int x1), (2, .int x2)]) dX0_plantIs_19 (pc' := 20) rfl rfl b_12 rfl (Nat.le_of_ble_eq_true rfl) rfl ?_
    refine r_iload_n C dX0_plantIs_20 (pc' := 21) rfl (j := 3) rfl ?_
    refine r_bipush C dX0_plantIs_21 (pc' := 23) rfl (v := 10) rfl ?_
    refine r_isub C dX0_plantIs_23 (pc' := 24) rfl ?_
    refine r_bipush C dX0_plantIs_24 (pc' := 26) rfl (v := 7) rfl ?_
    refine r_callSi (As := [.int (x2 - (10 : Int32)), .int (7 : Int32)]) (rest := []) C (S_X0_in h) (lw_S q459 q460 q105 q461) hd_X0_in rfl rfl (Nat.le_of_ble_eq_true rfl) (Nat.le_of_ble_eq_true rfl) (Nat.le_of_ble_eq_true rfl) rfl rfl (Nat.le_of_ble_eq_true rfl) (Nat.le_of_ble_eq_true rfl) dX0_plantIs_26 (pc' := 29) rfl (fun r_16 M_15 h m_17 => ?_)
    refine r_if_eq C dX0_plantIs_29 (pc' := 32) rfl (tgt := 41) (by decide) (fun c_18 => ?_) (fun c_18 => ?_)
    · have h := it_t h c_18
      refine r_iload_n C dX0_plantIs_41 (pc' := 42) rfl (j := 3) rfl ?_
      by_cases c_19 : x2 = 0
      · have h := it_t h c_19
        refine r_tsIn C dX0_plantIs_42 (off := 42) (tgt := 84) (by rw [c_19]; decide) (by rw [c_19]; decide) (by rw [c_19]; decide) (by decide) ?_
        refine r_aload_n C dX0_plantIs_84 (pc' := 85) rfl (j := 0) rfl ?_
        refine r_getfN C (Cn := RX4) (T := TX4) 1 (mMo.kd m_17 k_14 (by decide)) (by decide) vc_X4 in_X4 (by decide) (List.mem_of_getElem? (i := 6) rfl) dX0_plantIs_85 (pc' := 88) rfl (v := .int (mgI M_15 b_12 1)) rfl ?_
        exact r_iret C hE (Nat.le_of_ble_eq_true rfl) (Nat.le_of_ble_eq_true rfl) dX0_plantIs_88 ⟨_, rfl, h⟩
      have h := it_f h c_19
      by_cases c_20 : x2 = 1
      · have h := it_t h c_20
        refine r_tsIn C dX0_plantIs_42 (off := 47) (tgt := 89) (by rw [c_20]; decide) (by rw [c_20]; decide) (by rw [c_20]; decide) (by decide) ?_
        refine r_aload_n C dX0_plantIs_89 (pc' := 90) rfl (j := 0) rfl ?_
        refine r_getfN C (Cn := RX4) (T := TX4) 2 (mMo.kd m_17 k_14 (by decide)) (by decide) vc_X4 in_X4 (by decide) (List.mem_of_getElem? (i := 7) rfl) dX0_plantIs_90 (pc' := 93) rfl (v := .int (mgI M_15 b_12 2)) rfl ?_
        exact r_iret C hE (Nat.le_of_ble_eq_true rfl) (Nat.le_of_ble_eq_true rfl) dX0_plantIs_93 ⟨_, rfl, h⟩
      have h := it_f h c_20
      by_cases c_21 : x2 = 2
      · have h := it_t h c_21
        refine r_tsIn C dX0_plantIs_42 (off := 52) (tgt := 94) (by rw [c_21]; decide) (by rw [c_21]; decide) (by rw [c_21]; decide) (by decide) ?_
        refine r_aload_n C dX0_plantIs_94 (pc' := 95) rfl (j := 0) rfl ?_
        refine r_getfN C (Cn := RX4) (T := TX4) 3 (mMo.kd m_17 k_14 (by decide)) (by decide) vc_X4 in_X4 (by decide) (List.mem_of_getElem? (i := 8) rfl) dX0_plantIs_95 (pc' := 98) rfl (v := .int (mgI M_15 b_12 3)) rfl ?_
        exact r_iret C hE (Nat.le_of_ble_eq_true rfl) (Nat.le_of_ble_eq_true rfl) dX0_plantIs_98 ⟨_, rfl, h⟩
      have h := it_f h c_21
      by_cases c_22 : x2 = 3
      · have h := it_t h c_22
        refine r_tsIn C dX0_plantIs_42 (off := 57) (tgt := 99) (by rw [c_22]; decide) (by rw [c_22]; decide) (by rw [c_22]; decide) (by decide) ?_
        refine r_aload_n C dX0_plantIs_99 (pc' := 100) rfl (j := 0) rfl ?_
        refine r_getfN C (Cn := RX4) (T := TX4) 4 (mMo.kd m_17 k_14 (by decide)) (by decide) vc_X4 in_X4 (by decide) (List.mem_of_getElem? (i := 9) rfl) dX0_plantIs_100 (pc' := 103) rfl (v := .int (mgI M_15 b_12 4)) rfl ?_
        exact r_iret C hE (Nat.le_of_ble_eq_true rfl) (Nat.le_of_ble_eq_true rfl) dX0_plantIs_103 ⟨_, rfl, h⟩
      have h := it_f h c_22
      by_cases c_23 : x2 = 4
      · have h := it_t h c_23
        refine r_tsIn C dX0_plantIs_42 (off := 62) (tgt := 104) (by rw [c_23]; decide) (by rw [c_23]; decide) (by rw [c_23]; decide) (by decide) ?_
        refine r_aload_n C dX0_plantIs_104 (pc' := 105) rfl (j := 0) rfl ?_
        refine r_getfN C (Cn := RX4) (T := TX4) 5 (mMo.kd m_17 k_14 (by decide)) (by decide) vc_X4 in_X4 (by decide) (List.mem_of_getElem? (i := 10) rfl) dX0_plantIs_105 (pc' := 108) rfl (v := .int (mgI M_15 b_12 5)) rfl ?_
        exact r_iret C hE (Nat.le_of_ble_eq_true rfl) (Nat.le_of_ble_eq_true rfl) dX0_plantIs_108 ⟨_, rfl, h⟩
      have h := it_f h c_23
      by_cases c_24 : x2 = 5
      · have h := it_t h c_24
        refine r_tsIn C dX0_plantIs_42 (off := 67) (tgt := 109) (by rw [c_24]; decide) (by rw [c_24]; decide) (by rw [c_24]; decide) (by decide) ?_
        refine r_aload_n C dX0_plantIs_109 (pc' := 110) rfl (j := 0) rfl ?_
        refine r_callVi (As := []) (rest := []) (Cn := RX4) (T := TX4) C (mMo.kd m_17 k_14 (by decide)) (by decide) vc_X4 (S_X4_isDead (mMo.kd m_17 k_14 (by decide)) h) (lw_V q481 q482 q483 q109 q484) rfl hd_X4_isDead rfl rfl (Nat.le_of_ble_eq_true rfl) (Nat.le_of_ble_eq_true rfl) (Nat.le_of_ble_eq_true rfl) rfl rfl (Nat.le_of_ble_eq_true rfl) (Nat.le_of_ble_eq_true rfl) dX0_plantIs_110 (pc' := 113) rfl (fun r_26 M_25 h m_27 => ?_)
        refine r_if_eq C dX0_plantIs_113 (pc' := 116) rfl (tgt := 120) (by decide) (fun c_28 => ?_) (fun c_28 => ?_)
        · have h := it_t h c_28
          refine r_iconst C dX0_plantIs_120 (pc' := 121) rfl (v := 0) rfl ?_
          exact r_iret C hE (Nat.le_of_ble_eq_true rfl) (Nat.le_of_ble_eq_true rfl) dX0_plantIs_121 ⟨_, rfl, h⟩
        · have h := it_f h c_28
          refine r_iconst C dX0_plantIs_116 (pc' := 117) rfl (v := 1) rfl ?_
          refine r_goto C dX0_plantIs_117 (tgt := 121) (by decide) ?_
          exact r_iret C hE (Nat.le_of_ble_eq_true rfl) (Nat.le_of_ble_eq_true rfl) dX0_plantIs_121 ⟨_, rfl, h⟩
      have h := it_f h c_24
      by_cases c_29 : x2 = 6
      · have h := it_t h c_29
        refine r_tsIn C dX0_plantIs_42 (off := 80) (tgt := 122) (by rw [c_29]; decide) (by rw [c_29]; decide) (by rw [c_29]; decide) (by decide) ?_
        refine r_aload_n C dX0_plantIs_122 (pc' := 123) rfl (j := 0) rfl ?_
        refine r_getfN C (Cn := RX4) (T := TX4) 9 (mMo.kd m_17 k_14 (by decide)) (by decide) vc_X4 in_X4 (by decide) (List.mem_of_getElem? (i := 4) rfl) dX0_plantIs_123 (pc' := 126) rfl (v := .int (mgI M_15 b_12 9)) rfl ?_
        refine r_if_ne C dX0_plantIs_126 (pc' := 129) rfl (tgt := 134) (by decide) (fun c_30 => ?_) (fun c_30 => ?_)
        · have h := it_f h c_30
          refine r_aload_n C dX0_plantIs_134 (pc' := 135) rfl (j := 0) rfl ?_
          refine r_getfN C (Cn := RX4) (T := TX4) 7 (mMo.kd m_17 k_14 (by decide)) (by decide) vc_X4 in_X4 (by decide) (List.mem_of_getElem? (i := 5) rfl) dX0_plantIs_135 (pc' := 138) rfl (v := .int (mgI M_15 b_12 7)) rfl ?_
          refine r_iconst C dX0_plantIs_138 (pc' := 139) rfl (v := -1) rfl ?_
          refine r_icmp_ne C dX0_plantIs_139 (pc' := 142) rfl (tgt := 147) (by decide) (fun c_31 => ?_) (fun c_31 => ?_)
          · have h := it_f h c_31
            refine r_aload_n C dX0_plantIs_147 (pc' := 148) rfl (j := 0) rfl ?_
            refine r_getfN C (Cn := RX4) (T := TX4) 7 (mMo.kd m_17 k_14 (by decide)) (by decide) vc_X4 in_X4 (by decide) (List.mem_of_getElem? (i := 5) rfl) dX0_plantIs_148 (pc' := 151) rfl (v := .int (mgI M_15 b_12 7)) rfl ?_
            exact r_iret C hE (Nat.le_of_ble_eq_true rfl) (Nat.le_of_ble_eq_true rfl) dX0_plantIs_151 ⟨_, rfl, h⟩
          · have h := it_t h c_31
            refine r_bipush C dX0_plantIs_142 (pc' := 144) rfl (v := -3) rfl ?_
            refine r_goto C dX0_plantIs_144 (tgt := 151) (by decide) ?_
            exact r_iret C hE (Nat.le_of_ble_eq_true rfl) (Nat.le_of_ble_eq_true rfl) dX0_plantIs_151 ⟨_, rfl, h⟩
        · have h := it_t h c_30
          refine r_bipush C dX0_plantIs_129 (pc' := 131) rfl (v := -2) rfl ?_
          refine r_goto C dX0_plantIs_131 (tgt := 151) (by decide) ?_
          exact r_iret C hE (Nat.le_of_ble_eq_true rfl) (Nat.le_of_ble_eq_true rfl) dX0_plantIs_151 ⟨_, rfl, h⟩
      have h := it_f h c_29
      have c_19 := lv_neT c_19 (show ((0 : Int32)).toInt = 0 from by decide)
      have c_20 := lv_neT c_20 (show ((1 : Int32)).toInt = 1 from by decide)
      have c_21 := lv_neT c_21 (show ((2 : Int32)).toInt = 2 from by decide)
      have c_22 := lv_neT c_22 (show ((3 : Int32)).toInt = 3 from by decide)
      have c_23 := lv_neT c_23 (show ((4 : Int32)).toInt = 4 from by decide)
      have c_24 := lv_neT c_24 (show ((5 : Int32)).toInt = 5 from by decide)
      have c_29 := lv_neT c_29 (show ((6 : Int32)).toInt = 6 from by decide)
      refine r_tsOut C dX0_plantIs_42 (tgt := 152) (by omega) (by decide) ?_
      refine r_iconst C dX0_plantIs_152 (pc' := 153) rfl (v := -1) rfl ?_
      exact r_iret C hE (Nat.le_of_ble_eq_true rfl) (Nat.le_of_ble_eq_true rfl) dX0_plantIs_153 ⟨_, rfl, h⟩
    · have h := it_f h c_18
      refine r_aload_n C dX0_plantIs_32 (pc' := 33) rfl (j := 0) rfl ?_
      refine r_iload_n C dX0_plantIs_33 (pc' := 34) rfl (j := 3) rfl ?_
      refine r_bipush C dX0_plantIs_34 (pc' := 36) rfl (v := 10) rfl ?_
      refine r_isub C dX0_plantIs_36 (pc' := 37) rfl ?_
      refine r_callVi (As := [.int (x2 - (10 : Int32))]) (rest := []) (Cn := RX4) (T := TX4) C (mMo.kd m_17 k_14 (by decide)) (by decide) vc_X4 (S_X4_looked (mMo.kd m_17 k_14 (by decide)) h) (lw_V q934 q819 q820 q109 q821) rfl hd_X4_looked rfl rfl (Nat.le_of_ble_eq_true rfl) (Nat.le_of_ble_eq_true rfl) (Nat.le_of_ble_eq_true rfl) rfl rfl (Nat.le_of_ble_eq_true rfl) (Nat.le_of_ble_eq_true rfl) dX0_plantIs_37 (pc' := 40) rfl (fun r_33 M_32 h m_34 => ?_)
      exact r_iret C hE (Nat.le_of_ble_eq_true rfl) (Nat.le_of_ble_eq_true rfl) dX0_plantIs_40 ⟨_, rfl, h⟩
  · have h := it_t h c_4
    refine r_iconst C dX0_plantIs_8 (pc' := 9) rfl (v := -1) rfl ?_
    exact r_iret C hE (Nat.le_of_ble_eq_true rfl) (Nat.le_of_ble_eq_true rfl) dX0_plantIs_9 ⟨_, rfl, h⟩
set_option maxHeartbeats 4000000 in
theorem S_X0_gives {D : DD} {l : Launch} {M : MM} {a0 : Nat} {x1 : Int32} {x2 : Int32} {Post : Int32 → MM → Prop} (k_a0 : mkd M a0 = 1) (h : wp_X0_gives M a0 x1 x2 Post) : mMet D l yX0_gives cX0_gives 3 ((some .int)) { frames := 204, cells := 0, slots := 0, locals := 5497 } M [.ref a0, .int x1, .int x2] (pI_ Post) := by
  refine m_of2 [(0, .ref a0), (1, .int x1), (2, .int x2)] (by decide +kernel) (Nat.le_of_ble_eq_true rfl) rfl (fun E hED hEl C hE => ?_)
  subst hED
  subst hEl
  unfold wp_X0_gives at h
  refine r_aload_n C dX0_gives_0 (pc' := 1) rfl (j := 0) rfl ?_
  refine r_iload_n C dX0_gives_1 (pc' := 2) rfl (j := 1) rfl ?_
  refine r_callVi (As := [.int x1]) (rest := []) (Cn := RX0) (T := TX0) C k_a0 (by decide) vc_X0 (S_X0_isPerson k_a0 h) (lw_V q904 q906 qs19 q105 q907) rfl hd_X0_isPerson rfl rfl (Nat.le_of_ble_eq_true rfl) (Nat.le_of_ble_eq_true rfl) (Nat.le_of_ble_eq_true rfl) rfl rfl (Nat.le_of_ble_eq_true rfl) (Nat.le_of_ble_eq_true rfl) dX0_gives_2 (pc' := 5) rfl (fun r_2 M_1 h m_3 => ?_)
  refine r_if_eq C dX0_gives_5 (pc' := 8) rfl (tgt := 28) (by decide) (fun c_4 => ?_) (fun c_4 => ?_)
  · have h := it_t h c_4
    refine r_iconst C dX0_gives_28 (pc' := 29) rfl (v := -1) rfl ?_
    exact r_iret C hE (Nat.le_of_ble_eq_true rfl) (Nat.le_of_ble_eq_true rfl) dX0_gives_29 ⟨_, rfl, h⟩
  · have h := it_f h c_4
    refine r_aload_n C dX0_gives_8 (pc' := 9) rfl (j := 0) rfl ?_
    refine r_iload_n C dX0_gives_9 (pc' := 10) rfl (j := 2) rfl ?_
    refine r_callVi (As := [.int x2]) (rest := []) (Cn := RX0) (T := TX0) C (mMo.kd m_3 k_a0 (by decide)) (by decide) vc_X0 (S_X0_isPlant (mMo.kd m_3 k_a0 (by decide)) h) (lw_V q473 q475 qs0 q105 q476) rfl hd_X0_isPlant rfl rfl (Nat.le_of_ble_eq_true rfl) (Nat.le_of_ble_eq_true rfl) (Nat.le_of_ble_eq_true rfl) rfl rfl (Nat.le_of_ble_eq_true rfl) (Nat.le_of_ble_eq_true rfl) dX0_gives_10 (pc' := 13) rfl (fun r_6 M_5 h m_7 => ?_)
    refine r_if_eq C dX0_gives_13 (pc' := 16) rfl (tgt := 28) (by decide) (fun c_8 => ?_) (fun c_8 => ?_)
    · have h := it_t h c_8
      refine r_iconst C dX0_gives_28 (pc' := 29) rfl (v := -1) rfl ?_
      exact r_iret C hE (Nat.le_of_ble_eq_true rfl) (Nat.le_of_ble_eq_true rfl) dX0_gives_29 ⟨_, rfl, h⟩
    · have h := it_f h c_8
      refine r_aload_n C dX0_gives_16 (pc' := 17) rfl (j := 0) rfl ?_
      refine r_getf C (Cn := RX0) (T := TX0) 1 (mMo.kd m_7 (mMo.kd m_3 k_a0 (by decide)) (by decide)) (by decide) vc_X0 in_X0 (by decide) q351 dX0_gives_17 (pc' := 20) rfl (v := va_rf (mgR M_5 a0 1)) rfl ?_
      obtain ⟨b_9, e_10, k_11, h⟩ := h
      refine r_ref [] e_10 ?_
      refine r_iload_n C dX0_gives_20 (pc' := 21) rfl (j := 1) rfl ?_
      refine r_iload_n C dX0_gives_21 (pc' := 22) rfl (j := 2) rfl ?_
      refine r_callVi (As := [.int x1, .int x2]) (rest := []) (Cn := RX3) (T := TX3) C k_11 (by decide) vc_X3 (S_X3_givesTo k_11 h) (lw_V q939 q802 q803 q108 q804) rfl hd_X3_givesTo rfl rfl (Nat.le_of_ble_eq_true rfl) (Nat.le_of_ble_eq_true rfl) (Nat.le_of_ble_eq_true rfl) rfl rfl (Nat.le_of_ble_eq_true rfl) (Nat.le_of_ble_eq_true rfl) dX0_gives_22 (pc' := 25) rfl (fun r_13 M_12 h m_14 => ?_)
      refine r_goto C dX0_gives_25 (tgt := 29) (by decide) ?_
      exact r_iret C hE (Nat.le_of_ble_eq_true rfl) (Nat.le_of_ble_eq_true rfl) dX0_gives_29 ⟨_, rfl, h⟩
set_option maxHeartbeats 4000000 in
theorem B_X0_takesPeople_7 {E : mE} {a0 : Nat} {x1 : Int32} {X79 : MM → Prop} {Post : Int32 → MM → Prop} (C : mC E yX0_takesPeople cX0_takesPeople 3 ((some .boolean)) { frames := 2, cells := 0, slots := 0, locals := 42 }) (hE : mEnd E { frames := 2, cells := 0, slots := 0, locals := 42 } (pI_ Post)) : ∀ (n_ : Nat) (M : MM) (x2 : Int32), mkd M a0 = 1 → wl_X0_takesPeople_7 a0 x1 X79 n_ M x2 → (∀ (M' : MM), mMo M M' → X79 M' → mV E M' 0 0 79 [(0, .ref a0), (1, .int x1)] []) → mV E M 0 0 7 [(0, .ref a0), (1, .int x1), (2, .int x2)] [] := by
  intro n_
  induction n_ with
  | zero =>
    intro M x2 k_a0 h hX79
    exact absurd h (by rw [wl_X0_takesPeople_7]; exact fun q => q)
  | succ n_ ih =>
    intro M x2 k_a0 h hX79
    rw [wl_X0_takesPeople_7] at h
    refine r_iload_n C dX0_takesPeople_7 (pc' := 8) rfl (j := 2) rfl ?_
    refine r_bipush C dX0_takesPeople_8 (pc' := 10) rfl (v := 8) rfl ?_
    refine r_icmp_ge C dX0_takesPeople_10 (pc' := 13) rfl (tgt := 79) (by decide) (fun c_3 => ?_) (fun c_3 => ?_)
    · have h := it_t h c_3
      refine r_sub (lv' := [(0, .ref a0), (1, .int x1)]) [0, 1] rfl ?_
      exact hX79 M mMo.rf h
    · have h := it_f h c_3
      refine r_aload_n C dX0_takesPeople_13 (pc' := 14) rfl (j := 0) rfl ?_
      refine r_getf C (Cn := RX0) (T := TX0) 13 k_a0 (by decide) vc_X0 in_X0 (by decide) q367 dX0_takesPeople_14 (pc' := 17) rfl (v := .int (mgI M a0 13)) rfl ?_
      refine r_iload_n C dX0_takesPeople_17 (pc' := 18) rfl (j := 1) rfl ?_
      refine r_icmp_ge C dX0_takesPeople_18 (pc' := 21) rfl (tgt := 79) (by decide) (fun c_4 => ?_) (fun c_4 => ?_)
      · have h := it_t h c_4
        refine r_sub (lv' := [(0, .ref a0), (1, .int x1)]) [0, 1] rfl ?_
        exact hX79 M mMo.rf h
      · have h := it_f h c_4
        refine r_aload_n C dX0_takesPeople_21 (pc' := 22) rfl (j := 0) rfl ?_
        refine r_iload_n C dX0_takesPeople_22 (pc' := 23) rfl (j := 2) rfl ?_
        refine r_callVi (As := [.int x2]) (rest := []) (Cn := RX0) (T := TX0) C k_a0 (by decide) vc_X0 (S_X0_isPerson k_a0 h) (lw_V q904 q906 qs19 q105 q907) rfl hd_X0_isPerson rfl rfl (Nat.le_of_ble_eq_true rfl) (Nat.le_of_ble_eq_true rfl) (Nat.le_of_ble_eq_true rfl) rfl rfl (Nat.le_of_ble_eq_true rfl) (Nat.le_of_ble_eq_true rfl) dX0_takesPeople_23 (pc' := 26) rfl (fun r_6 M_5 h m_7 => ?_)
        refine r_if_ne C dX0_takesPeople_26 (pc' := 29) rfl (tgt := 32) (by decide) (fun c_8 => ?_) (fun c_8 => ?_)
        · have h := it_f h c_8
          refine r_aload_n C dX0_takesPeople_32 (pc' := 33) rfl (j := 0) rfl ?_
          refine r_getf C (Cn := RX0) (T := TX0) 11 (mMo.kd m_7 k_a0 (by decide)) (by decide) vc_X0 in_X0 (by decide) q365 dX0_takesPeople_33 (pc' := 36) rfl (v := va_rf (mgR M_5 a0 11)) rfl ?_
          obtain ⟨b_9, e_10, k_11, h⟩ := h
          refine r_ref [] e_10 ?_
          refine r_aload_n C dX0_takesPeople_36 (pc' := 37) rfl (j := 0) rfl ?_
          refine r_getf C (Cn := RX0) (T := TX0) 13 (mMo.kd m_7 k_a0 (by decide)) (by decide) vc_X0 in_X0 (by decide) q367 dX0_takesPeople_37 (pc' := 40) rfl (v := .int (mgI M_5 a0 13)) rfl ?_
          refine r_iload_n C dX0_takesPeople_40 (pc' := 41) rfl (j := 2) rfl ?_
          obtain ⟨c_12, h⟩ := h
          obtain ⟨M_13, e_14, h⟩ := bn_ h
          refine r_iast C (j := (ix_ (mgI M_5 a0 13))) k_11 c_12 rfl dX0_takesPeople_41 (pc' := 42) rfl M_13 e_14 ?_
          refine r_aload_n C dX0_takesPeople_42 (pc' := 43) rfl (j := 0) rfl ?_
          refine r_getf C (Cn := RX0) (T := TX0) 12 (mMo.kd (mo_I e_14) (mMo.kd m_7 k_a0 (by decide)) (by decide)) (by decide) vc_X0 in_X0 (by decide) q366 dX0_takesPeople_43 (pc' := 46) rfl (v := va_rf (mgR M_13 a0 12)) rfl ?_
          obtain ⟨b_15, e_16, k_17, h⟩ := h
          refine r_ref [] e_16 ?_
          refine r_aload_n C dX0_takesPeople_46 (pc' := 47) rfl (j := 0) rfl ?_
          refine r_getf C (Cn := RX0) (T := TX0) 13 (mMo.kd (mo_I e_14) (mMo.kd m_7 k_a0 (by decide)) (by decide)) (by decide) vc_X0 in_X0 (by decide) q367 dX0_takesPeople_47 (pc' := 50) rfl (v := .int (mgI M_13 a0 13)) rfl ?_
          refine r_aload_n C dX0_takesPeople_50 (pc' := 51) rfl (j := 0) rfl ?_
          refine r_getf C (Cn := RX0) (T := TX0) 1 (mMo.kd (mo_I e_14) (mMo.kd m_7 k_a0 (by decide)) (by decide)) (by decide) vc_X0 in_X0 (by decide) q351 dX0_takesPeople_51 (pc' := 54) rfl (v := va_rf (mgR M_13 a0 1)) rfl ?_
          obtain ⟨b_18, e_19, k_20, h⟩ := h
          refine r_ref [] e_19 ?_
          refine r_getfN C (Cn := RX3) (T := TX3) 1 k_20 (by decide) vc_X3 in_X3 (by decide) (List.mem_of_getElem? (i := 2) rfl) dX0_takesPeople_54 (pc' := 57) rfl (v := va_rf (mgR M_13 b_18 1)) rfl ?_
          obtain ⟨b_21, e_22, k_23, h⟩ := h
          refine r_ref [] e_22 ?_
          refine r_iload_n C dX0_takesPeople_57 (pc' := 58) rfl (j := 2) rfl ?_
          obtain ⟨c_24, h⟩ := h
          refine r_aald C (t := 4) (j := (ix_ x2)) k_23 (by decide) rfl rfl c_24 rfl dX0_takesPeople_58 (pc' := 59) rfl ?_
          obtain ⟨b_25, e_26, k_27, h⟩ := h
          refine r_ref [] e_26 ?_
          refine r_getfN C (Cn := RX5) (T := TX5) 0 k_27 (by decide) vc_X5 in_X5 (by decide) (List.mem_of_getElem? (i := 13) rfl) dX0_takesPeople_59 (pc' := 62) rfl (v := .int (mgI M_13 b_25 0)) rfl ?_
          obtain ⟨c_28, h⟩ := h
          obtain ⟨M_29, e_30, h⟩ := bn_ h
          refine r_iast C (j := (ix_ (mgI M_13 a0 13))) k_17 c_28 rfl dX0_takesPeople_62 (pc' := 63) rfl M_29 e_30 ?_
          refine r_aload_n C dX0_takesPeople_63 (pc' := 64) rfl (j := 0) rfl ?_
          refine r_dup C dX0_takesPeople_64 (pc' := 65) rfl rfl ?_
          refine r_getf C (Cn := RX0) (T := TX0) 13 (mMo.kd (mo_I e_30) (mMo.kd (mo_I e_14) (mMo.kd m_7 k_a0 (by decide)) (by decide)) (by decide)) (by decide) vc_X0 in_X0 (by decide) q367 dX0_takesPeople_65 (pc' := 68) rfl (v := .int (mgI M_29 a0 13)) rfl ?_
          refine r_iconst C dX0_takesPeople_68 (pc' := 69) rfl (v := 1) rfl ?_
          refine r_iadd C dX0_takesPeople_69 (pc' := 70) rfl ?_
          obtain ⟨M_31, e_32, h⟩ := bn_ h
          refine r_putI C (Cn := RX0) (T := TX0) tyX0 13 (mMo.kd (mo_I e_30) (mMo.kd (mo_I e_14) (mMo.kd m_7 k_a0 (by decide)) (by decide)) (by decide)) (by decide) vc_X0 in_X0 tyX0_ok nmX0 (by decide) q367 rfl rfl dX0_takesPeople_70 (pc' := 73) rfl rfl rfl M_31 e_32 ?_
          obtain ⟨x2_33, e_34, h⟩ := bn_ h
          refine r_iinc C (lv' := [(2, .int x2_33), (0, .ref a0), (1, .int x1)]) dX0_takesPeople_73 (pc' := 76) rfl (j := 2) rfl x2_33 (by rw [e_34]; rfl) (Nat.le_of_ble_eq_true rfl) rfl ?_
          refine r_goto C dX0_takesPeople_76 (tgt := 7) (by decide) ?_
          refine r_sub (lv' := [(0, .ref a0), (1, .int x1), (2, .int x2_33)]) [1, 2, 0] rfl ?_
          exact ih M_31 x2_33 (mMo.kd (mo_I e_32) (mMo.kd (mo_I e_30) (mMo.kd (mo_I e_14) (mMo.kd m_7 k_a0 (by decide)) (by decide)) (by decide)) (by decide)) h (fun M9 hm9 h9 => hX79 M9 (mMo.tr (mMo.tr (mMo.tr (mMo.tr m_7 (mo_I e_14)) (mo_I e_30)) (mo_I e_32)) hm9) h9)
        · have h := it_t h c_8
          refine r_goto C dX0_takesPeople_29 (tgt := 73) (by decide) ?_
          obtain ⟨x2_35, e_36, h⟩ := bn_ h
          refine r_iinc C (lv' := [(2, .int x2_35), (0, .ref a0), (1, .int x1)]) dX0_takesPeople_73 (pc' := 76) rfl (j := 2) rfl x2_35 (by rw [e_36]; rfl) (Nat.le_of_ble_eq_true rfl) rfl ?_
          refine r_goto C dX0_takesPeople_76 (tgt := 7) (by decide) ?_
          refine r_sub (lv' := [(0, .ref a0), (1, .int x1), (2, .int x2_35)]) [1, 2, 0] rfl ?_
          exact ih M_5 x2_35 (mMo.kd m_7 k_a0 (by decide)) h (fun M9 hm9 h9 => hX79 M9 (mMo.tr m_7 hm9) h9)
set_option maxHeartbeats 4000000 in
theorem B_X0_takesPeople_79 {E : mE} {M : MM} {a0 : Nat} {x1 : Int32} {Post : Int32 → MM → Prop} (C : mC E yX0_takesPeople cX0_takesPeople 3 ((some .boolean)) { frames := 2, cells := 0, slots := 0, locals := 42 }) (hE : mEnd E { frames := 2, cells := 0, slots := 0, locals := 42 } (pI_ Post)) (k_a0 : mkd M a0 = 1) (h : wb_X0_takesPeople_79 M a0 x1 Post) : mV E M 0 0 79 [(0, .ref a0), (1, .int x1)] [] := by
  unfold wb_X0_takesPeople_79 at h
  refine r_aload_n C dX0_takesPeople_79 (pc' := 80) rfl (j := 0) rfl ?_
  refine r_getf C (Cn := RX0) (T := TX0) 13 k_a0 (by decide) vc_X0 in_X0 (by decide) q367 dX0_takesPeople_80 (pc' := 83) rfl (v := .int (mgI M a0 13)) rfl ?_
  refine r_iload_n C dX0_takesPeople_83 (pc' := 84) rfl (j := 1) rfl ?_
  refine r_icmp_ne C dX0_takesPeople_84 (pc' := 87) rfl (tgt := 91) (by decide) (fun c_40 => ?_) (fun c_40 => ?_)
  · have h := it_f h c_40
    refine r_iconst C dX0_takesPeople_91 (pc' := 92) rfl (v := 0) rfl ?_
    exact r_zret C hE (Or.inl rfl) (Nat.le_of_ble_eq_true rfl) (Nat.le_of_ble_eq_true rfl) dX0_takesPeople_92 ⟨_, rfl, h⟩
  · have h := it_t h c_40
    refine r_iconst C dX0_takesPeople_87 (pc' := 88) rfl (v := 1) rfl ?_
    refine r_goto C dX0_takesPeople_88 (tgt := 92) (by decide) ?_
    exact r_zret C hE (Or.inr rfl) (Nat.le_of_ble_eq_true rfl) (Nat.le_of_ble_eq_true rfl) dX0_takesPeople_92 ⟨_, rfl, h⟩
set_option maxHeartbeats 4000000 in
theorem S_X0_takesPeople {D : DD} {l : Launch} {M : MM} {a0 : Nat} {x1 : Int32} {Post : Int32 → MM → Prop} (k_a0 : mkd M a0 = 1) (h : wp_X0_takesPeople M a0 x1 Post) : mMet D l yX0_takesPeople cX0_takesPeople 3 ((some .boolean)) { frames := 2, cells := 0, slots := 0, locals := 42 } M [.ref a0, .int x1] (pI_ Post) := by
  refine m_of2 [(0, .ref a0), (1, .int x1)] (by decide +kernel) (Nat.le_of_ble_eq_true rfl) rfl (fun E hED hEl C hE => ?_)
  subst hED
  subst hEl
  unfold wp_X0_takesPeople at h
  refine r_aload_n C dX0_takesPeople_0 (pc' := 1) rfl (j := 0) rfl ?_
  refine r_iconst C dX0_takesPeople_1 (pc' := 2) rfl (v := 0) rfl ?_
  obtain ⟨M_1, e_2, h⟩ := bn_ h
  refine r_putI C (Cn := RX0) (T := TX0) tyX0 13 k_a0 (by decide) vc_X0 in_X0 tyX0_ok nmX0 (by decide) q367 rfl rfl dX0_takesPeople_2 (pc' := 5) rfl rfl rfl M_1 e_2 ?_
  refine r_iconst C dX0_takesPeople_5 (pc' := 6) rfl (v := 0) rfl ?_
  refine r_istore_n C (lv' := [(2, .int (0 : Int32)), (0, .ref a0), (1, .int x1)]) dX0_takesPeople_6 (pc' := 7) rfl rfl (0 : Int32) rfl (Nat.le_of_ble_eq_true rfl) rfl ?_
  obtain ⟨n_37, h⟩ := h
  refine r_sub (lv' := [(0, .ref a0), (1, .int x1), (2, .int (0 : Int32))]) [1, 2, 0] rfl ?_
  refine B_X0_takesPeople_7 C hE n_37 M_1 (0 : Int32) (mMo.kd (mo_I e_2) k_a0 (by decide)) h (fun M_38 m_39 h => ?_)
  refine r_sub (lv' := [(0, .ref a0), (1, .int x1)]) [0, 1] rfl ?_
  exact B_X0_takesPeople_79 C hE (mMo.kd m_39 (mMo.kd (mo_I e_2) k_a0 (by decide)) (by decide)) h
set_option maxHeartbeats 4000000 in
theorem S_X0_canLay {D : DD} {l : Launch} {M : MM} {a0 : Nat} {x1 : Int32} {x2 : Int32} {x3 : Int32} {Post : Int32 → MM → Prop} (k_a0 : mkd M a0 = 1) (h : wp_X0_canLay M a0 x1 x2 x3 Post) : mMet D l yX0_canLay cX0_canLay 4 ((some .boolean)) { frames := 3, cells := 0, slots := 0, locals := 64 } M [.ref a0, .int x1, .int x2, .int x3] (pI_ Post) := by
  refine m_of2 [(0, .ref a0), (1, .int x1), (2, .int x2), (3, .int x3)] (by decide +kernel) (Nat.le_of_ble_eq_true rfl) rfl (fun E hED hEl C hE => ?_)
  subst hED
  subst hEl
  unfold wp_X0_canLay at h
  refine r_aload_n C dX0_canLay_0 (pc' := 1) rfl (j := 0) rfl ?_
  refine r_iload_n C dX0_canLay_1 (pc' := 2) rfl (j := 1) rfl ?_
  refine r_callVi (As := [.int x1]) (rest := []) (Cn := RX0) (T := TX0) C k_a0 (by decide) vc_X0 (S_X0_isPlant k_a0 h) (lw_V q473 q475 qs0 q105 q476) rfl hd_X0_isPlant rfl rfl (Nat.le_of_ble_eq_true rfl) (Nat.le_of_ble_eq_true rfl) (Nat.le_of_ble_eq_true rfl) rfl rfl (Nat.le_of_ble_eq_true rfl) (Nat.le_of_ble_eq_true rfl) dX0_canLay_2 (pc' := 5) rfl (fun r_2 M_1 h m_3 => ?_)
  refine r_if_eq C dX0_canLay_5 (pc' := 8) rfl (tgt := 64) (by decide) (fun c_4 => ?_) (fun c_4 => ?_)
  · have h := it_t h c_4
    refine r_iconst C dX0_canLay_64 (pc' := 65) rfl (v := 0) rfl ?_
    exact r_zret C hE (Or.inl rfl) (Nat.le_of_ble_eq_true rfl) (Nat.le_of_ble_eq_true rfl) dX0_canLay_65 ⟨_, rfl, h⟩
  · have h := it_f h c_4
    refine r_aload_n C dX0_canLay_8 (pc' := 9) rfl (j := 0) rfl ?_
    refine r_getf C (Cn := RX0) (T := TX0) 1 (mMo.kd m_3 k_a0 (by decide)) (by decide) vc_X0 in_X0 (by decide) q351 dX0_canLay_9 (pc' := 12) rfl (v := va_rf (mgR M_1 a0 1)) rfl ?_
    obtain ⟨b_5, e_6, k_7, h⟩ := h
    refine r_ref [] e_6 ?_
    refine r_getfN C (Cn := RX3) (T := TX3) 0 k_7 (by decide) vc_X3 in_X3 (by decide) (List.mem_of_getElem? (i := 0) rfl) dX0_canLay_12 (pc' := 15) rfl (v := va_rf (mgR M_1 b_5 0)) rfl ?_
    obtain ⟨b_8, e_9, k_10, h⟩ := h
    refine r_ref [] e_9 ?_
    refine r_iload_n C dX0_canLay_15 (pc' := 16) rfl (j := 1) rfl ?_
    obtain ⟨c_11, h⟩ := h
    refine r_aald C (t := 3) (j := (ix_ x1)) k_10 (by decide) rfl rfl c_11 rfl dX0_canLay_16 (pc' := 17) rfl ?_
    obtain ⟨b_12, e_13, k_14, h⟩ := h
    refine r_ref [] e_13 ?_
    refine r_callVi (As := []) (rest := []) (Cn := RX4) (T := TX4) C k_14 (by decide) vc_X4 (S_X4_isDead k_14 h) (lw_V q481 q482 q483 q109 q484) rfl hd_X4_isDead rfl rfl (Nat.le_of_ble_eq_true rfl) (Nat.le_of_ble_eq_true rfl) (Nat.le_of_ble_eq_true rfl) rfl rfl (Nat.le_of_ble_eq_true rfl) (Nat.le_of_ble_eq_true rfl) dX0_canLay_17 (pc' := 20) rfl (fun r_16 M_15 h m_17 => ?_)
    refine r_if_ne C dX0_canLay_20 (pc' := 23) rfl (tgt := 64) (by decide) (fun c_18 => ?_) (fun c_18 => ?_)
    · have h := it_f h c_18
      refine r_iconst C dX0_canLay_64 (pc' := 65) rfl (v := 0) rfl ?_
      exact r_zret C hE (Or.inl rfl) (Nat.le_of_ble_eq_true rfl) (Nat.le_of_ble_eq_true rfl) dX0_canLay_65 ⟨_, rfl, h⟩
    · have h := it_t h c_18
      refine r_iload_n C dX0_canLay_23 (pc' := 24) rfl (j := 2) rfl ?_
      refine r_iconst C dX0_canLay_24 (pc' := 25) rfl (v := 1) rfl ?_
      refine r_bipush C dX0_canLay_25 (pc' := 27) rfl (v := 9) rfl ?_
      refine r_callSi (As := [.int x2, .int (1 : Int32), .int (9 : Int32)]) (rest := []) C (S_X0_within h) (lw_S q462 q463 q105 q464) hd_X0_within rfl rfl (Nat.le_of_ble_eq_true rfl) (Nat.le_of_ble_eq_true rfl) (Nat.le_of_ble_eq_true rfl) rfl rfl (Nat.le_of_ble_eq_true rfl) (Nat.le_of_ble_eq_true rfl) dX0_canLay_27 (pc' := 30) rfl (fun r_20 M_19 h m_21 => ?_)
      refine r_if_eq C dX0_canLay_30 (pc' := 33) rfl (tgt := 64) (by decide) (fun c_22 => ?_) (fun c_22 => ?_)
      · have h := it_t h c_22
        refine r_iconst C dX0_canLay_64 (pc' := 65) rfl (v := 0) rfl ?_
        exact r_zret C hE (Or.inl rfl) (Nat.le_of_ble_eq_true rfl) (Nat.le_of_ble_eq_true rfl) dX0_canLay_65 ⟨_, rfl, h⟩
      · have h := it_f h c_22
        refine r_iload_n C dX0_canLay_33 (pc' := 34) rfl (j := 3) rfl ?_
        refine r_iconst C dX0_canLay_34 (pc' := 35) rfl (v := 1) rfl ?_
        refine r_iconst C dX0_canLay_35 (pc' := 36) rfl (v := 3) rfl ?_
        refine r_callSi (As := [.int x3, .int (1 : Int32), .int (3 : Int32)]) (rest := []) C (S_X0_within h) (lw_S q462 q463 q105 q464) hd_X0_within rfl rfl (Nat.le_of_ble_eq_true rfl) (Nat.le_of_ble_eq_true rfl) (Nat.le_of_ble_eq_true rfl) rfl rfl (Nat.le_of_ble_eq_true rfl) (Nat.le_of_ble_eq_true rfl) dX0_canLay_36 (pc' := 39) rfl (fun r_24 M_23 h m_25 => ?_)
        refine r_if_eq C dX0_canLay_39 (pc' := 42) rfl (tgt := 64) (by decide) (fun c_26 => ?_) (fun c_26 => ?_)
        · have h := it_t h c_26
          refine r_iconst C dX0_canLay_64 (pc' := 65) rfl (v := 0) rfl ?_
          exact r_zret C hE (Or.inl rfl) (Nat.le_of_ble_eq_true rfl) (Nat.le_of_ble_eq_true rfl) dX0_canLay_65 ⟨_, rfl, h⟩
        · have h := it_f h c_26
          refine r_iload_n C dX0_canLay_42 (pc' := 43) rfl (j := 2) rfl ?_
          refine r_iload_n C dX0_canLay_43 (pc' := 44) rfl (j := 3) rfl ?_
          refine r_iconst C dX0_canLay_44 (pc' := 45) rfl (v := 1) rfl ?_
          refine r_iadd C dX0_canLay_45 (pc' := 46) rfl ?_
          refine r_imul C dX0_canLay_46 (pc' := 47) rfl ?_
          refine r_bipush C dX0_canLay_47 (pc' := 49) rfl (v := 18) rfl ?_
          refine r_icmp_gt C dX0_canLay_49 (pc' := 52) rfl (tgt := 64) (by decide) (fun c_27 => ?_) (fun c_27 => ?_)
          · have h := it_t h c_27
            refine r_iconst C dX0_canLay_64 (pc' := 65) rfl (v := 0) rfl ?_
            exact r_zret C hE (Or.inl rfl) (Nat.le_of_ble_eq_true rfl) (Nat.le_of_ble_eq_true rfl) dX0_canLay_65 ⟨_, rfl, h⟩
          · have h := it_f h c_27
            refine r_aload_n C dX0_canLay_52 (pc' := 53) rfl (j := 0) rfl ?_
            refine r_iload_n C dX0_canLay_53 (pc' := 54) rfl (j := 3) rfl ?_
            refine r_callVi (As := [.int x3]) (rest := []) (Cn := RX0) (T := TX0) C (mMo.kd m_25 (mMo.kd m_21 (mMo.kd m_17 (mMo.kd m_3 k_a0 (by decide)) (by decide)) (by decide)) (by decide)) (by decide) vc_X0 (S_X0_takesPeople (mMo.kd m_25 (mMo.kd m_21 (mMo.kd m_17 (mMo.kd m_3 k_a0 (by decide)) (by decide)) (by decide)) (by decide)) h) (lw_V q948 q950 qs21 q105 q951) rfl hd_X0_takesPeople rfl rfl (Nat.le_of_ble_eq_true rfl) (Nat.le_of_ble_eq_true rfl) (Nat.le_of_ble_eq_true rfl) rfl rfl (Nat.le_of_ble_eq_true rfl) (Nat.le_of_ble_eq_true rfl) dX0_canLay_54 (pc' := 57) rfl (fun r_29 M_28 h m_30 => ?_)
            refine r_if_eq C dX0_canLay_57 (pc' := 60) rfl (tgt := 64) (by decide) (fun c_31 => ?_) (fun c_31 => ?_)
            · have h := it_t h c_31
              refine r_iconst C dX0_canLay_64 (pc' := 65) rfl (v := 0) rfl ?_
              exact r_zret C hE (Or.inl rfl) (Nat.le_of_ble_eq_true rfl) (Nat.le_of_ble_eq_true rfl) dX0_canLay_65 ⟨_, rfl, h⟩
            · have h := it_f h c_31
              refine r_iconst C dX0_canLay_60 (pc' := 61) rfl (v := 1) rfl ?_
              refine r_goto C dX0_canLay_61 (tgt := 65) (by decide) ?_
              exact r_zret C hE (Or.inr rfl) (Nat.le_of_ble_eq_true rfl) (Nat.le_of_ble_eq_true rfl) dX0_canLay_65 ⟨_, rfl, h⟩
set_option maxHeartbeats 4000000 in
theorem B_X0_clears_10 {E : mE} {a1 : Nat} {x2 : Int32} {X28 : MM → Prop} {Post : MM → Prop} (C : mC E yX0_clears cX0_clears 4 (none) { frames := 0, cells := 0, slots := 0, locals := 0 }) (hE : mEnd E { frames := 0, cells := 0, slots := 0, locals := 0 } (pV_ Post)) : ∀ (n_ : Nat) (M : MM) (x3 : Int32), mkd M a1 = 109 → wl_X0_clears_10 a1 x2 X28 n_ M x3 → (∀ (M' : MM), mMo M M' → X28 M' → mV E M' 0 0 28 [(1, .ref a1), (2, .int x2)] []) → mV E M 0 0 10 [(1, .ref a1), (2, .int x2), (3, .int x3)] [] := by
  intro n_
  induction n_ with
  | zero =>
    intro M x3 k_a1 h hX28
    exact absurd h (by rw [wl_X0_clears_10]; exact fun q => q)
  | succ n_ ih =>
    intro M x3 k_a1 h hX28
    rw [wl_X0_clears_10] at h
    refine r_iload_n C dX0_clears_10 (pc' := 11) rfl (j := 2) rfl ?_
    refine r_bipush C dX0_clears_11 (pc' := 13) rfl (v := 20) rfl ?_
    refine r_icmp_ge C dX0_clears_13 (pc' := 16) rfl (tgt := 28) (by decide) (fun c_2 => ?_) (fun c_2 => ?_)
    · have h := it_t h c_2
      refine r_sub (lv' := [(1, .ref a1), (2, .int x2)]) [0, 1] rfl ?_
      exact hX28 M mMo.rf h
    · have h := it_f h c_2
      refine r_aload_n C dX0_clears_16 (pc' := 17) rfl (j := 0) rfl ?_
      refine r_iload_n C dX0_clears_17 (pc' := 18) rfl (j := 1) rfl ?_
      obtain ⟨c_3, h⟩ := h
      refine r_aald C (t := 9) (j := (ix_ x2)) k_a1 (by decide) rfl rfl c_3 rfl dX0_clears_18 (pc' := 19) rfl ?_
      obtain ⟨b_4, e_5, k_6, h⟩ := h
      refine r_ref [] e_5 ?_
      refine r_iload_n C dX0_clears_19 (pc' := 20) rfl (j := 2) rfl ?_
      refine r_lconst C dX0_clears_20 (pc' := 21) rfl (v := 0) rfl ?_
      obtain ⟨c_7, h⟩ := h
      obtain ⟨M_8, e_9, h⟩ := bn_ h
      refine r_last C (j := (ix_ x3)) k_6 c_7 rfl dX0_clears_21 (pc' := 22) rfl M_8 e_9 ?_
      obtain ⟨x3_10, e_11, h⟩ := bn_ h
      refine r_iinc C (lv' := [(3, .int x3_10), (1, .ref a1), (2, .int x2)]) dX0_clears_22 (pc' := 25) rfl (j := 2) rfl x3_10 (by rw [e_11]; rfl) (Nat.le_of_ble_eq_true rfl) rfl ?_
      refine r_goto C dX0_clears_25 (tgt := 10) (by decide) ?_
      refine r_sub (lv' := [(1, .ref a1), (2, .int x2), (3, .int x3_10)]) [1, 2, 0] rfl ?_
      exact ih M_8 x3_10 (mMo.kd (mo_L e_9) k_a1 (by decide)) h (fun M9 hm9 h9 => hX28 M9 (mMo.tr (mo_L e_9) hm9) h9)
set_option maxHeartbeats 4000000 in
theorem B_X0_clears_2 {E : mE} {a1 : Nat} {X34 : MM → Prop} {Post : MM → Prop} (C : mC E yX0_clears cX0_clears 4 (none) { frames := 0, cells := 0, slots := 0, locals := 0 }) (hE : mEnd E { frames := 0, cells := 0, slots := 0, locals := 0 } (pV_ Post)) : ∀ (n_ : Nat) (M : MM) (x2 : Int32), mkd M a1 = 109 → wl_X0_clears_2 a1 X34 n_ M x2 → (∀ (M' : MM), mMo M M' → X34 M' → mV E M' 0 0 34 [] []) → mV E M 0 0 2 [(1, .ref a1), (2, .int x2)] [] := by
  intro n_
  induction n_ with
  | zero =>
    intro M x2 k_a1 h hX34
    exact absurd h (by rw [wl_X0_clears_2]; exact fun q => q)
  | succ n_ ih =>
    intro M x2 k_a1 h hX34
    rw [wl_X0_clears_2] at h
    refine r_iload_n C dX0_clears_2 (pc' := 3) rfl (j := 1) rfl ?_
    refine r_bipush C dX0_clears_3 (pc' := 5) rfl (v := 24) rfl ?_
    refine r_icmp_gt C dX0_clears_5 (pc' := 8) rfl (tgt := 34) (by decide) (fun c_1 => ?_) (fun c_1 => ?_)
    · have h := it_t h c_1
      refine r_sub (lv' := []) [] rfl ?_
      exact hX34 M mMo.rf h
    · have h := it_f h c_1
      refine r_iconst C dX0_clears_8 (pc' := 9) rfl (v := 0) rfl ?_
      refine r_istore_n C (lv' := [(3, .int (0 : Int32)), (1, .ref a1), (2, .int x2)]) dX0_clears_9 (pc' := 10) rfl rfl (0 : Int32) rfl (Nat.le_of_ble_eq_true rfl) rfl ?_
      obtain ⟨n_12, h⟩ := h
      refine r_sub (lv' := [(1, .ref a1), (2, .int x2), (3, .int (0 : Int32))]) [1, 2, 0] rfl ?_
      refine B_X0_clears_10 C hE n_12 M (0 : Int32) k_a1 h (fun M_13 m_14 h => ?_)
      obtain ⟨x2_15, e_16, h⟩ := bn_ h
      refine r_iinc C (lv' := [(2, .int x2_15), (1, .ref a1)]) dX0_clears_28 (pc' := 31) rfl (j := 1) rfl x2_15 (by rw [e_16]; rfl) (Nat.le_of_ble_eq_true rfl) rfl ?_
      refine r_goto C dX0_clears_31 (tgt := 2) (by decide) ?_
      refine r_sub (lv' := [(1, .ref a1), (2, .int x2_15)]) [1, 0] rfl ?_
      exact ih M_13 x2_15 (mMo.kd m_14 k_a1 (by decide)) h (fun M9 hm9 h9 => hX34 M9 (mMo.tr m_14 hm9) h9)
set_option maxHeartbeats 4000000 in
theorem S_X0_clears {D : DD} {l : Launch} {M : MM} {a0 : Nat} {a1 : Nat} {Post : MM → Prop} (k_a0 : mkd M a0 = 1) (k_a1 : mkd M a1 = 109) (h : wp_X0_clears M a0 a1 Post) : mMet D l yX0_clears cX0_clears 4 (none) { frames := 0, cells := 0, slots := 0, locals := 0 } M [.ref a0, .ref a1] (pV_ Post) := by
  refine m_of2 [(0, .ref a0), (1, .ref a1)] (by decide +kernel) (Nat.le_of_ble_eq_true rfl) rfl (fun E hED hEl C hE => ?_)
  subst hED
  subst hEl
  unfold wp_X0_clears at h
  refine r_iconst C dX0_clears_0 (pc' := 1) rfl (v := 0) rfl ?_
  refine r_istore_n C (lv' := [(2, .int (0 : Int32)), (0, .ref a0), (1, .ref a1)]) dX0_clears_1 (pc' := 2) rfl rfl (0 : Int32) rfl (Nat.le_of_ble_eq_true rfl) rfl ?_
  obtain ⟨n_17, h⟩ := h
  refine r_sub (lv' := [(1, .ref a1), (2, .int (0 : Int32))]) [2, 0] rfl ?_
  refine B_X0_clears_2 C hE n_17 M (0 : Int32) k_a1 h (fun M_18 m_19 h => ?_)
  exact r_vret C hE (Nat.le_of_ble_eq_true rfl) (Nat.le_of_ble_eq_true rfl) dX0_clears_34 ⟨rfl, h⟩
set_option maxHeartbeats 4000000 in
theorem B_X0_takesComes_10 {E : mE} {a0 : Nat} {x1 : Int32} {X38 : MM → Prop} {Post : MM → Prop} (C : mC E yX0_takesComes cX0_takesComes 3 (none) { frames := 0, cells := 0, slots := 0, locals := 0 }) (hE : mEnd E { frames := 0, cells := 0, slots := 0, locals := 0 } (pV_ Post)) : ∀ (n_ : Nat) (M : MM) (x2 : Int32), mkd M a0 = 1 → wl_X0_takesComes_10 a0 x1 X38 n_ M x2 → (∀ (M' : MM), mMo M M' → X38 M' → mV E M' 0 0 38 [(0, .ref a0), (1, .int x1)] []) → mV E M 0 0 10 [(0, .ref a0), (1, .int x1), (2, .int x2)] [] := by
  intro n_
  induction n_ with
  | zero =>
    intro M x2 k_a0 h hX38
    exact absurd h (by rw [wl_X0_takesComes_10]; exact fun q => q)
  | succ n_ ih =>
    intro M x2 k_a0 h hX38
    rw [wl_X0_takesComes_10] at h
    refine r_iload_n C dX0_takesComes_10 (pc' := 11) rfl (j := 2) rfl ?_
    refine r_bipush C dX0_takesComes_11 (pc' := 13) rfl (v := 20) rfl ?_
    refine r_icmp_ge C dX0_takesComes_13 (pc' := 16) rfl (tgt := 38) (by decide) (fun c_2 => ?_) (fun c_2 => ?_)
    · have h := it_t h c_2
      refine r_sub (lv' := [(0, .ref a0), (1, .int x1)]) [0, 1] rfl ?_
      exact hX38 M mMo.rf h
    · have h := it_f h c_2
      refine r_aload_n C dX0_takesComes_16 (pc' := 17) rfl (j := 0) rfl ?_
      refine r_getf C (Cn := RX0) (T := TX0) 9 k_a0 (by decide) vc_X0 in_X0 (by decide) q363 dX0_takesComes_17 (pc' := 20) rfl (v := va_rf (mgR M a0 9)) rfl ?_
      obtain ⟨b_3, e_4, k_5, h⟩ := h
      refine r_ref [] e_4 ?_
      refine r_iload_n C dX0_takesComes_20 (pc' := 21) rfl (j := 1) rfl ?_
      obtain ⟨c_6, h⟩ := h
      refine r_aald C (t := 9) (j := (ix_ x1)) k_5 (by decide) rfl rfl c_6 rfl dX0_takesComes_21 (pc' := 22) rfl ?_
      obtain ⟨b_7, e_8, k_9, h⟩ := h
      refine r_ref [] e_8 ?_
      refine r_iload_n C dX0_takesComes_22 (pc' := 23) rfl (j := 2) rfl ?_
      refine r_aload_n C dX0_takesComes_23 (pc' := 24) rfl (j := 0) rfl ?_
      refine r_getf C (Cn := RX0) (T := TX0) 10 k_a0 (by decide) vc_X0 in_X0 (by decide) q364 dX0_takesComes_24 (pc' := 27) rfl (v := va_rf (mgR M a0 10)) rfl ?_
      obtain ⟨b_10, e_11, k_12, h⟩ := h
      refine r_ref [] e_11 ?_
      refine r_iload_n C dX0_takesComes_27 (pc' := 28) rfl (j := 1) rfl ?_
      obtain ⟨c_13, h⟩ := h
      refine r_aald C (t := 9) (j := (ix_ x1)) k_12 (by decide) rfl rfl c_13 rfl dX0_takesComes_28 (pc' := 29) rfl ?_
      obtain ⟨b_14, e_15, k_16, h⟩ := h
      refine r_ref [] e_15 ?_
      refine r_iload_n C dX0_takesComes_29 (pc' := 30) rfl (j := 2) rfl ?_
      obtain ⟨c_17, h⟩ := h
      refine r_lald C (j := (ix_ x2)) k_16 c_17 rfl dX0_takesComes_30 (pc' := 31) rfl ?_
      obtain ⟨c_18, h⟩ := h
      obtain ⟨M_19, e_20, h⟩ := bn_ h
      refine r_last C (j := (ix_ x2)) k_9 c_18 rfl dX0_takesComes_31 (pc' := 32) rfl M_19 e_20 ?_
      obtain ⟨x2_21, e_22, h⟩ := bn_ h
      refine r_iinc C (lv' := [(2, .int x2_21), (0, .ref a0), (1, .int x1)]) dX0_takesComes_32 (pc' := 35) rfl (j := 2) rfl x2_21 (by rw [e_22]; rfl) (Nat.le_of_ble_eq_true rfl) rfl ?_
      refine r_goto C dX0_takesComes_35 (tgt := 10) (by decide) ?_
      refine r_sub (lv' := [(0, .ref a0), (1, .int x1), (2, .int x2_21)]) [1, 2, 0] rfl ?_
      exact ih M_19 x2_21 (mMo.kd (mo_L e_20) k_a0 (by decide)) h (fun M9 hm9 h9 => hX38 M9 (mMo.tr (mo_L e_20) hm9) h9)
set_option maxHeartbeats 4000000 in
theorem B_X0_takesComes_2 {E : mE} {a0 : Nat} {X44 : MM → Prop} {Post : MM → Prop} (C : mC E yX0_takesComes cX0_takesComes 3 (none) { frames := 0, cells := 0, slots := 0, locals := 0 }) (hE : mEnd E { frames := 0, cells := 0, slots := 0, locals := 0 } (pV_ Post)) : ∀ (n_ : Nat) (M : MM) (x1 : Int32), mkd M a0 = 1 → wl_X0_takesComes_2 a0 X44 n_ M x1 → (∀ (M' : MM), mMo M M' → X44 M' → mV E M' 0 0 44 [] []) → mV E M 0 0 2 [(0, .ref a0), (1, .int x1)] [] := by
  intro n_
  induction n_ with
  | zero =>
    intro M x1 k_a0 h hX44
    exact absurd h (by rw [wl_X0_takesComes_2]; exact fun q => q)
  | succ n_ ih =>
    intro M x1 k_a0 h hX44
    rw [wl_X0_takesComes_2] at h
    refine r_iload_n C dX0_takesComes_2 (pc' := 3) rfl (j := 1) rfl ?_
    refine r_bipush C dX0_takesComes_3 (pc' := 5) rfl (v := 24) rfl ?_
    refine r_icmp_gt C dX0_takesComes_5 (pc' := 8) rfl (tgt := 44) (by decide) (fun c_1 => ?_) (fun c_1 => ?_)
    · have h := it_t h c_1
      refine r_sub (lv' := []) [] rfl ?_
      exact hX44 M mMo.rf h
    · have h := it_f h c_1
      refine r_iconst C dX0_takesComes_8 (pc' := 9) rfl (v := 0) rfl ?_
      refine r_istore_n C (lv' := [(2, .int (0 : Int32)), (0, .ref a0), (1, .int x1)]) dX0_takesComes_9 (pc' := 10) rfl rfl (0 : Int32) rfl (Nat.le_of_ble_eq_true rfl) rfl ?_
      obtain ⟨n_23, h⟩ := h
      refine r_sub (lv' := [(0, .ref a0), (1, .int x1), (2, .int (0 : Int32))]) [1, 2, 0] rfl ?_
      refine B_X0_takesComes_10 C hE n_23 M (0 : Int32) k_a0 h (fun M_24 m_25 h => ?_)
      obtain ⟨x1_26, e_27, h⟩ := bn_ h
      refine r_iinc C (lv' := [(1, .int x1_26), (0, .ref a0)]) dX0_takesComes_38 (pc' := 41) rfl (j := 1) rfl x1_26 (by rw [e_27]; rfl) (Nat.le_of_ble_eq_true rfl) rfl ?_
      refine r_goto C dX0_takesComes_41 (tgt := 2) (by decide) ?_
      refine r_sub (lv' := [(0, .ref a0), (1, .int x1_26)]) [1, 0] rfl ?_
      exact ih M_24 x1_26 (mMo.kd m_25 k_a0 (by decide)) h (fun M9 hm9 h9 => hX44 M9 (mMo.tr m_25 hm9) h9)
set_option maxHeartbeats 4000000 in
theorem S_X0_takesComes {D : DD} {l : Launch} {M : MM} {a0 : Nat} {Post : MM → Prop} (k_a0 : mkd M a0 = 1) (h : wp_X0_takesComes M a0 Post) : mMet D l yX0_takesComes cX0_takesComes 3 (none) { frames := 0, cells := 0, slots := 0, locals := 0 } M [.ref a0] (pV_ Post) := by
  refine m_of2 [(0, .ref a0)] (by decide +kernel) (Nat.le_of_ble_eq_true rfl) rfl (fun E hED hEl C hE => ?_)
  subst hED
  subst hEl
  unfold wp_X0_takesComes at h
  refine r_iconst C dX0_takesComes_0 (pc' := 1) rfl (v := 0) rfl ?_
  refine r_istore_n C (lv' := [(1, .int (0 : Int32)), (0, .ref a0)]) dX0_takesComes_1 (pc' := 2) rfl rfl (0 : Int32) rfl (Nat.le_of_ble_eq_true rfl) rfl ?_
  obtain ⟨n_28, h⟩ := h
  refine r_sub (lv' := [(0, .ref a0), (1, .int (0 : Int32))]) [1, 0] rfl ?_
  refine B_X0_takesComes_2 C hE n_28 M (0 : Int32) k_a0 h (fun M_29 m_30 h => ?_)
  exact r_vret C hE (Nat.le_of_ble_eq_true rfl) (Nat.le_of_ble_eq_true rfl) dX0_takesComes_44 ⟨rfl, h⟩
set_option maxHeartbeats 4000000 in
theorem S_X0_thenAt {D : DD} {l : Launch} {M : MM} {a0 : Nat} {x1 : Int32} {x2 : Int32} {Post : Option Nat → MM → Prop} (k_a0 : mkd M a0 = 1) (h : wp_X0_thenAt M a0 x1 x2 Post) : mMet D l yX0_thenAt cX0_thenAt 3 ((some (.object "LandingTree$Moment"))) { frames := 1, cells := 0, slots := 0, locals := 27 } M [.ref a0, .int x1, .int x2] (pR_ Post) := by
  refine m_of2 [(0, .ref a0), (1, .int x1), (2, .int x2)] (by decide +kernel) (Nat.le_of_ble_eq_true rfl) rfl (fun E hED hEl C hE => ?_)
  subst hED
  subst hEl
  unfold wp_X0_thenAt at h
  refine r_aload_n C dX0_thenAt_0 (pc' := 1) rfl (j := 0) rfl ?_
  refine r_getf C (Cn := RX0) (T := TX0) 0 k_a0 (by decide) vc_X0 in_X0 (by decide) q350 dX0_thenAt_1 (pc' := 4) rfl (v := va_rf (mgR M a0 0)) rfl ?_
  obtain ⟨b_1, e_2, k_3, h⟩ := h
  refine r_ref [] e_2 ?_
  refine r_aload_n C dX0_thenAt_4 (pc' := 5) rfl (j := 0) rfl ?_
  refine r_getf C (Cn := RX0) (T := TX0) 18 k_a0 (by decide) vc_X0 in_X0 (by decide) q372 dX0_thenAt_5 (pc' := 8) rfl (v := .int (mgI M a0 18)) rfl ?_
  refine r_aload_n C dX0_thenAt_8 (pc' := 9) rfl (j := 0) rfl ?_
  refine r_getf C (Cn := RX0) (T := TX0) 19 k_a0 (by decide) vc_X0 in_X0 (by decide) q373 dX0_thenAt_9 (pc' := 12) rfl (v := .int (mgI M a0 19)) rfl ?_
  refine r_callVq (As := [.int (mgI M a0 18), .int (mgI M a0 19)]) (rest := []) (Cn := RX2) (T := TX2) C k_3 (by decide) vc_X2 (S_X2_of k_3 h) (lw_V q973 q815 q816 q107 q817) rfl hd_X2_of rfl rfl (Nat.le_of_ble_eq_true rfl) (Nat.le_of_ble_eq_true rfl) (Nat.le_of_ble_eq_true rfl) rfl rfl (Nat.le_of_ble_eq_true rfl) (Nat.le_of_ble_eq_true rfl) dX0_thenAt_12 (pc' := 15) rfl (fun r_5 M_4 h m_6 => ?_)
  obtain ⟨b_7, e_8, k_9, h⟩ := h
  refine r_ref [] e_8 ?_
  refine r_aload_n C dX0_thenAt_15 (pc' := 16) rfl (j := 0) rfl ?_
  refine r_getf C (Cn := RX0) (T := TX0) 14 (mMo.kd m_6 k_a0 (by decide)) (by decide) vc_X0 in_X0 (by decide) q368 dX0_thenAt_16 (pc' := 19) rfl (v := .int (mgI M_4 a0 14)) rfl ?_
  refine r_aload_n C dX0_thenAt_19 (pc' := 20) rfl (j := 0) rfl ?_
  refine r_getf C (Cn := RX0) (T := TX0) 15 (mMo.kd m_6 k_a0 (by decide)) (by decide) vc_X0 in_X0 (by decide) q369 dX0_thenAt_20 (pc' := 23) rfl (v := .int (mgI M_4 a0 15)) rfl ?_
  refine r_iload_n C dX0_thenAt_23 (pc' := 24) rfl (j := 1) rfl ?_
  refine r_aload_n C dX0_thenAt_24 (pc' := 25) rfl (j := 0) rfl ?_
  refine r_getf C (Cn := RX0) (T := TX0) 17 (mMo.kd m_6 k_a0 (by decide)) (by decide) vc_X0 in_X0 (by decide) q371 dX0_thenAt_25 (pc' := 28) rfl (v := .int (mgI M_4 a0 17)) rfl ?_
  refine r_iload_n C dX0_thenAt_28 (pc' := 29) rfl (j := 2) rfl ?_
  refine r_callSi (As := [.int x2]) (rest := [.int (mgI M_4 a0 17), .int x1, .int (mgI M_4 a0 15), .int (mgI M_4 a0 14), .ref b_7]) C (S_X0_dryOf h) (lw_S q974 q975 q105 q976) hd_X0_dryOf rfl rfl (Nat.le_of_ble_eq_true rfl) (Nat.le_of_ble_eq_true rfl) (Nat.le_of_ble_eq_true rfl) rfl rfl (Nat.le_of_ble_eq_true rfl) (Nat.le_of_ble_eq_true rfl) dX0_thenAt_29 (pc' := 32) rfl (fun r_11 M_10 h m_12 => ?_)
  refine r_iload_n C dX0_thenAt_32 (pc' := 33) rfl (j := 2) rfl ?_
  refine r_callSi (As := [.int x2]) (rest := [.int r_11, .int (mgI M_4 a0 17), .int x1, .int (mgI M_4 a0 15), .int (mgI M_4 a0 14), .ref b_7]) C (S_X0_drownedOf h) (lw_S q977 q978 q105 q979) hd_X0_drownedOf rfl rfl (Nat.le_of_ble_eq_true rfl) (Nat.le_of_ble_eq_true rfl) (Nat.le_of_ble_eq_true rfl) rfl rfl (Nat.le_of_ble_eq_true rfl) (Nat.le_of_ble_eq_true rfl) dX0_thenAt_33 (pc' := 36) rfl (fun r_14 M_13 h m_15 => ?_)
  refine r_bipush C dX0_thenAt_36 (pc' := 38) rfl (v := 99) rfl ?_
  refine r_callVq (As := [.int (mgI M_4 a0 14), .int (mgI M_4 a0 15), .int x1, .int (mgI M_4 a0 17), .int r_11, .int r_14, .int (99 : Int32)]) (rest := []) (Cn := RX2) (T := TX2) C (mMo.kd m_15 (mMo.kd m_12 k_9 (by decide)) (by decide)) (by decide) vc_X2 (S_X2_ofPlant (mMo.kd m_15 (mMo.kd m_12 k_9 (by decide)) (by decide)) h) (lw_V q980 q823 q824 q107 q825) rfl hd_X2_ofPlant rfl rfl (Nat.le_of_ble_eq_true rfl) (Nat.le_of_ble_eq_true rfl) (Nat.le_of_ble_eq_true rfl) rfl rfl (Nat.le_of_ble_eq_true rfl) (Nat.le_of_ble_eq_true rfl) dX0_thenAt_38 (pc' := 41) rfl (fun r_17 M_16 h m_18 => ?_)
  obtain ⟨b_19, e_20, k_21, h⟩ := h
  refine r_ref [] e_20 ?_
  exact r_aret (x := (some b_19)) C hE (Nat.le_of_ble_eq_true rfl) (Nat.le_of_ble_eq_true rfl) dX0_thenAt_41 ⟨_, rfl, h⟩
set_option maxHeartbeats 4000000 in
theorem B_X0_personComes_114 {E : mE} {M : MM} {a0 : Nat} {x1 : Int32} {x2 : Int32} {x3 : Int32} {x4 : Int32} {xs0 : Int32} {R : MM → Int32 → Prop} {X193 : MM → Prop} {Post : MM → Prop} (C : mC E yX0_personComes cX0_personComes 6 (none) { frames := 203, cells := 0, slots := 0, locals := 5475 }) (hE : mEnd E { frames := 203, cells := 0, slots := 0, locals := 5475 } (pV_ Post)) (k_a0 : mkd M a0 = 1) (h : wb_X0_personComes_114 M a0 x1 x2 x3 x4 xs0 R X193) (hR : ∀ (M' : MM) (x4' : Int32), mMo M M' → mkd M' a0 = 1 → R M' x4' → mV E M' 0 0 37 [(0, .ref a0), (1, .int x1), (2, .int x2), (3, .int x3), (4, .int x4')] []) (hX193 : ∀ (M' : MM), mMo M M' → X193 M' → mV E M' 0 0 193 [(0, .ref a0), (1, .int x1), (2, .int x2), (3, .int x3)] []) : mV E M 0 0 114 [(0, .ref a0), (1, .int x1), (2, .int x2), (3, .int x3), (4, .int x4)] [.int xs0] := by
  unfold wb_X0_personComes_114 at h
  refine r_istore C (lv' := [(5, .int xs0), (0, .ref a0), (1, .int x1), (2, .int x2), (3, .int x3), (4, .int x4)]) dX0_personComes_114 (pc' := 116) rfl xs0 rfl (Nat.le_of_ble_eq_true rfl) rfl ?_
  refine r_aload_n C dX0_personComes_116 (pc' := 117) rfl (j := 1) rfl ?_
  refine r_getf C (Cn := RX0) (T := TX0) 10 k_a0 (by decide) vc_X0 in_X0 (by decide) q364 dX0_personComes_117 (pc' := 120) rfl (v := va_rf (mgR M a0 10)) rfl ?_
  obtain ⟨b_58, e_59, k_60, h⟩ := h
  refine r_ref [] e_59 ?_
  refine r_aload_n C dX0_personComes_120 (pc' := 121) rfl (j := 1) rfl ?_
  refine r_getf C (Cn := RX0) (T := TX0) 15 k_a0 (by decide) vc_X0 in_X0 (by decide) q369 dX0_personComes_121 (pc' := 124) rfl (v := .int (mgI M a0 15)) rfl ?_
  refine r_iload_n C dX0_personComes_124 (pc' := 125) rfl (j := 4) rfl ?_
  refine r_iload C dX0_personComes_125 (pc' := 127) rfl (j := 0) rfl ?_
  refine r_iadd C dX0_personComes_127 (pc' := 128) rfl ?_
  refine r_mmin C q885 q585 q113 q586 (Nat.le_of_ble_eq_true rfl) (Nat.le_of_ble_eq_true rfl) (Nat.le_of_ble_eq_true rfl) (Nat.le_of_ble_eq_true rfl) dX0_personComes_128 (pc' := 131) rfl ?_
  obtain ⟨c_61, h⟩ := h
  refine r_aald C (t := 9) (j := (ix_ (mn_ (mgI M a0 15) (x3 + xs0)))) k_60 (by decide) rfl rfl c_61 rfl dX0_personComes_131 (pc' := 132) rfl ?_
  obtain ⟨b_62, e_63, k_64, h⟩ := h
  refine r_ref [] e_63 ?_
  refine r_iload C dX0_personComes_132 (pc' := 134) rfl (j := 5) rfl ?_
  refine r_dup2_11 C dX0_personComes_134 (pc' := 135) rfl rfl rfl ?_
  obtain ⟨c_65, h⟩ := h
  refine r_lald C (j := (ix_ x4)) k_64 c_65 rfl dX0_personComes_135 (pc' := 136) rfl ?_
  refine r_aload_n C dX0_personComes_136 (pc' := 137) rfl (j := 1) rfl ?_
  refine r_getf C (Cn := RX0) (T := TX0) 9 k_a0 (by decide) vc_X0 in_X0 (by decide) q363 dX0_personComes_137 (pc' := 140) rfl (v := va_rf (mgR M a0 9)) rfl ?_
  obtain ⟨b_66, e_67, k_68, h⟩ := h
  refine r_ref [] e_67 ?_
  refine r_iload_n C dX0_personComes_140 (pc' := 141) rfl (j := 4) rfl ?_
  obtain ⟨c_69, h⟩ := h
  refine r_aald C (t := 9) (j := (ix_ x3)) k_68 (by decide) rfl rfl c_69 rfl dX0_personComes_141 (pc' := 142) rfl ?_
  obtain ⟨b_70, e_71, k_72, h⟩ := h
  refine r_ref [] e_71 ?_
  refine r_iload C dX0_personComes_142 (pc' := 144) rfl (j := 5) rfl ?_
  obtain ⟨c_73, h⟩ := h
  refine r_lald C (j := (ix_ x4)) k_72 c_73 rfl dX0_personComes_144 (pc' := 145) rfl ?_
  refine r_aload_n C dX0_personComes_145 (pc' := 146) rfl (j := 1) rfl ?_
  refine r_getf C (Cn := RX0) (T := TX0) 12 k_a0 (by decide) vc_X0 in_X0 (by decide) q366 dX0_personComes_146 (pc' := 149) rfl (v := va_rf (mgR M a0 12)) rfl ?_
  obtain ⟨b_74, e_75, k_76, h⟩ := h
  refine r_ref [] e_75 ?_
  refine r_iload_n C dX0_personComes_149 (pc' := 150) rfl (j := 2) rfl ?_
  obtain ⟨c_77, h⟩ := h
  refine r_iald C (j := (ix_ x1)) k_76 c_77 rfl dX0_personComes_150 (pc' := 151) rfl ?_
  refine r_i2l C dX0_personComes_151 (pc' := 152) rfl ?_
  refine r_lmul C dX0_personComes_152 (pc' := 153) rfl ?_
  refine r_ladd C dX0_personComes_153 (pc' := 154) rfl ?_
  obtain ⟨c_78, h⟩ := h
  obtain ⟨M_79, e_80, h⟩ := bn_ h
  refine r_last C (j := (ix_ x4)) k_64 c_78 rfl dX0_personComes_154 (pc' := 155) rfl M_79 e_80 ?_
  refine r_aload_n C dX0_personComes_155 (pc' := 156) rfl (j := 1) rfl ?_
  refine r_getf C (Cn := RX0) (T := TX0) 10 (mMo.kd (mo_L e_80) k_a0 (by decide)) (by decide) vc_X0 in_X0 (by decide) q364 dX0_personComes_156 (pc' := 159) rfl (v := va_rf (mgR M_79 a0 10)) rfl ?_
  obtain ⟨b_81, e_82, k_83, h⟩ := h
  refine r_ref [] e_82 ?_
  refine r_iload_n C dX0_personComes_159 (pc' := 160) rfl (j := 4) rfl ?_
  obtain ⟨c_84, h⟩ := h
  refine r_aald C (t := 9) (j := (ix_ x3)) k_83 (by decide) rfl rfl c_84 rfl dX0_personComes_160 (pc' := 161) rfl ?_
  obtain ⟨b_85, e_86, k_87, h⟩ := h
  refine r_ref [] e_86 ?_
  refine r_iload C dX0_personComes_161 (pc' := 163) rfl (j := 5) rfl ?_
  refine r_dup2_11 C dX0_personComes_163 (pc' := 164) rfl rfl rfl ?_
  obtain ⟨c_88, h⟩ := h
  refine r_lald C (j := (ix_ x4)) k_87 c_88 rfl dX0_personComes_164 (pc' := 165) rfl ?_
  refine r_aload_n C dX0_personComes_165 (pc' := 166) rfl (j := 1) rfl ?_
  refine r_getf C (Cn := RX0) (T := TX0) 9 (mMo.kd (mo_L e_80) k_a0 (by decide)) (by decide) vc_X0 in_X0 (by decide) q363 dX0_personComes_166 (pc' := 169) rfl (v := va_rf (mgR M_79 a0 9)) rfl ?_
  obtain ⟨b_89, e_90, k_91, h⟩ := h
  refine r_ref [] e_90 ?_
  refine r_iload_n C dX0_personComes_169 (pc' := 170) rfl (j := 4) rfl ?_
  obtain ⟨c_92, h⟩ := h
  refine r_aald C (t := 9) (j := (ix_ x3)) k_91 (by decide) rfl rfl c_92 rfl dX0_personComes_170 (pc' := 171) rfl ?_
  obtain ⟨b_93, e_94, k_95, h⟩ := h
  refine r_ref [] e_94 ?_
  refine r_iload C dX0_personComes_171 (pc' := 173) rfl (j := 5) rfl ?_
  obtain ⟨c_96, h⟩ := h
  refine r_lald C (j := (ix_ x4)) k_95 c_96 rfl dX0_personComes_173 (pc' := 174) rfl ?_
  refine r_bipush C dX0_personComes_174 (pc' := 176) rfl (v := 10) rfl ?_
  refine r_aload_n C dX0_personComes_176 (pc' := 177) rfl (j := 1) rfl ?_
  refine r_getf C (Cn := RX0) (T := TX0) 12 (mMo.kd (mo_L e_80) k_a0 (by decide)) (by decide) vc_X0 in_X0 (by decide) q366 dX0_personComes_177 (pc' := 180) rfl (v := va_rf (mgR M_79 a0 12)) rfl ?_
  obtain ⟨b_97, e_98, k_99, h⟩ := h
  refine r_ref [] e_98 ?_
  refine r_iload_n C dX0_personComes_180 (pc' := 181) rfl (j := 2) rfl ?_
  obtain ⟨c_100, h⟩ := h
  refine r_iald C (j := (ix_ x1)) k_99 c_100 rfl dX0_personComes_181 (pc' := 182) rfl ?_
  refine r_isub C dX0_personComes_182 (pc' := 183) rfl ?_
  refine r_i2l C dX0_personComes_183 (pc' := 184) rfl ?_
  refine r_lmul C dX0_personComes_184 (pc' := 185) rfl ?_
  refine r_ladd C dX0_personComes_185 (pc' := 186) rfl ?_
  obtain ⟨c_101, h⟩ := h
  obtain ⟨M_102, e_103, h⟩ := bn_ h
  refine r_last C (j := (ix_ x4)) k_87 c_101 rfl dX0_personComes_186 (pc' := 187) rfl M_102 e_103 ?_
  obtain ⟨x4_104, e_105, h⟩ := bn_ h
  refine r_iinc C (lv' := [(4, .int x4_104), (5, .int xs0), (0, .ref a0), (1, .int x1), (2, .int x2), (3, .int x3)]) dX0_personComes_187 (pc' := 190) rfl (j := 5) rfl x4_104 (by rw [e_105]; rfl) (Nat.le_of_ble_eq_true rfl) rfl ?_
  refine r_goto C dX0_personComes_190 (tgt := 37) (by decide) ?_
  refine r_sub (lv' := [(0, .ref a0), (1, .int x1), (2, .int x2), (3, .int x3), (4, .int x4_104)]) [2, 3, 4, 5, 0] rfl ?_
  exact hR M_102 x4_104 (mMo.tr (mo_L e_80) (mo_L e_103)) (mMo.kd (mo_L e_103) (mMo.kd (mo_L e_80) k_a0 (by decide)) (by decide)) h
set_option maxHeartbeats 4000000 in
theorem B_X0_personComes_37 {E : mE} {a0 : Nat} {x1 : Int32} {x2 : Int32} {x3 : Int32} {X193 : MM → Prop} {Post : MM → Prop} (C : mC E yX0_personComes cX0_personComes 6 (none) { frames := 203, cells := 0, slots := 0, locals := 5475 }) (hE : mEnd E { frames := 203, cells := 0, slots := 0, locals := 5475 } (pV_ Post)) : ∀ (n_ : Nat) (M : MM) (x4 : Int32), mkd M a0 = 1 → wl_X0_personComes_37 a0 x1 x2 x3 X193 n_ M x4 → (∀ (M' : MM), mMo M M' → X193 M' → mV E M' 0 0 193 [(0, .ref a0), (1, .int x1), (2, .int x2), (3, .int x3)] []) → mV E M 0 0 37 [(0, .ref a0), (1, .int x1), (2, .int x2), (3, .int x3), (4, .int x4)] [] := by
  intro n_
  induction n_ with
  | zero =>
    intro M x4 k_a0 h hX193
    exact absurd h (by rw [wl_X0_personComes_37]; exact fun q => q)
  | succ n_ ih =>
    intro M x4 k_a0 h hX193
    rw [wl_X0_personComes_37] at h
    refine r_iload C dX0_personComes_37 (pc' := 39) rfl (j := 4) rfl ?_
    refine r_bipush C dX0_personComes_39 (pc' := 41) rfl (v := 20) rfl ?_
    refine r_icmp_ge C dX0_personComes_41 (pc' := 44) rfl (tgt := 193) (by decide) (fun c_24 => ?_) (fun c_24 => ?_)
    · have h := it_t h c_24
      refine r_sub (lv' := [(0, .ref a0), (1, .int x1), (2, .int x2), (3, .int x3)]) [0, 1, 2, 3] rfl ?_
      exact hX193 M mMo.rf h
    · have h := it_f h c_24
      refine r_aload_n C dX0_personComes_44 (pc' := 45) rfl (j := 0) rfl ?_
      refine r_getf C (Cn := RX0) (T := TX0) 9 k_a0 (by decide) vc_X0 in_X0 (by decide) q363 dX0_personComes_45 (pc' := 48) rfl (v := va_rf (mgR M a0 9)) rfl ?_
      obtain ⟨b_25, e_26, k_27, h⟩ := h
      refine r_ref [] e_26 ?_
      refine r_iload_n C dX0_personComes_48 (pc' := 49) rfl (j := 3) rfl ?_
      obtain ⟨c_28, h⟩ := h
      refine r_aald C (t := 9) (j := (ix_ x3)) k_27 (by decide) rfl rfl c_28 rfl dX0_personComes_49 (pc' := 50) rfl ?_
      obtain ⟨b_29, e_30, k_31, h⟩ := h
      refine r_ref [] e_30 ?_
      refine r_iload C dX0_personComes_50 (pc' := 52) rfl (j := 4) rfl ?_
      obtain ⟨c_32, h⟩ := h
      refine r_lald C (j := (ix_ x4)) k_31 c_32 rfl dX0_personComes_52 (pc' := 53) rfl ?_
      refine r_lconst C dX0_personComes_53 (pc' := 54) rfl (v := 0) rfl ?_
      refine r_lc_ne C dX0_personComes_54 (pc1 := 55) (pc' := 58) rfl dX0_personComes_55 rfl (tgt := 61) (by decide) (fun c_33 => ?_) (fun c_33 => ?_)
      · have h := it_f h c_33
        refine r_aload_n C dX0_personComes_61 (pc' := 62) rfl (j := 0) rfl ?_
        refine r_getf C (Cn := RX0) (T := TX0) 21 k_a0 (by decide) vc_X0 in_X0 (by decide) q375 dX0_personComes_62 (pc' := 65) rfl (v := .int (mgI M a0 21)) rfl ?_
        refine r_if_le C dX0_personComes_65 (pc' := 68) rfl (tgt := 87) (by decide) (fun c_34 => ?_) (fun c_34 => ?_)
        · have h := it_t h c_34
          refine r_aload_n C dX0_personComes_87 (pc' := 88) rfl (j := 0) rfl ?_
          refine r_iload_n C dX0_personComes_88 (pc' := 89) rfl (j := 3) rfl ?_
          refine r_iload C dX0_personComes_89 (pc' := 91) rfl (j := 4) rfl ?_
          refine r_callVq (As := [.int x3, .int x4]) (rest := []) (Cn := RX0) (T := TX0) C k_a0 (by decide) vc_X0 (S_X0_thenAt k_a0 h) (lw_V q969 q971 qs25 q105 q972) rfl hd_X0_thenAt rfl rfl (Nat.le_of_ble_eq_true rfl) (Nat.le_of_ble_eq_true rfl) (Nat.le_of_ble_eq_true rfl) rfl rfl (Nat.le_of_ble_eq_true rfl) (Nat.le_of_ble_eq_true rfl) dX0_personComes_91 (pc' := 94) rfl (fun r_36 M_35 h m_37 => ?_)
          obtain ⟨b_38, e_39, k_40, h⟩ := h
          refine r_ref [] e_39 ?_
          refine r_aload_n C dX0_personComes_94 (pc' := 95) rfl (j := 0) rfl ?_
          refine r_getf C (Cn := RX0) (T := TX0) 11 (mMo.kd m_37 k_a0 (by decide)) (by decide) vc_X0 in_X0 (by decide) q365 dX0_personComes_95 (pc' := 98) rfl (v := va_rf (mgR M_35 a0 11)) rfl ?_
          obtain ⟨b_41, e_42, k_43, h⟩ := h
          refine r_ref [] e_42 ?_
          refine r_iload_n C dX0_personComes_98 (pc' := 99) rfl (j := 1) rfl ?_
          obtain ⟨c_44, h⟩ := h
          refine r_iald C (j := (ix_ x1)) k_43 c_44 rfl dX0_personComes_99 (pc' := 100) rfl ?_
          refine r_aload_n C dX0_personComes_100 (pc' := 101) rfl (j := 0) rfl ?_
          refine r_getf C (Cn := RX0) (T := TX0) 12 (mMo.kd m_37 k_a0 (by decide)) (by decide) vc_X0 in_X0 (by decide) q366 dX0_personComes_101 (pc' := 104) rfl (v := va_rf (mgR M_35 a0 12)) rfl ?_
          obtain ⟨b_45, e_46, k_47, h⟩ := h
          refine r_ref [] e_46 ?_
          refine r_iload_n C dX0_personComes_104 (pc' := 105) rfl (j := 1) rfl ?_
          obtain ⟨c_48, h⟩ := h
          refine r_iald C (j := (ix_ x1)) k_47 c_48 rfl dX0_personComes_105 (pc' := 106) rfl ?_
          refine r_iconst C dX0_personComes_106 (pc' := 107) rfl (v := 0) rfl ?_
          refine r_callVq (As := [.int (mgI M_35 b_41 (ix_ x1)), .int (mgI M_35 b_45 (ix_ x1)), .int (0 : Int32)]) (rest := []) (Cn := RX2) (T := TX2) C k_40 (by decide) vc_X2 (S_X2_by k_40 h) (lw_V q981 q827 q828 q107 q829) rfl hd_X2_by rfl rfl (Nat.le_of_ble_eq_true rfl) (Nat.le_of_ble_eq_true rfl) (Nat.le_of_ble_eq_true rfl) rfl rfl (Nat.le_of_ble_eq_true rfl) (Nat.le_of_ble_eq_true rfl) dX0_personComes_107 (pc' := 110) rfl (fun r_50 M_49 h m_51 => ?_)
          obtain ⟨b_52, e_53, k_54, h⟩ := h
          refine r_ref [] e_53 ?_
          refine r_iload_n C dX0_personComes_110 (pc' := 111) rfl (j := 2) rfl ?_
          refine r_callVi (As := [.int x2]) (rest := []) (Cn := RX2) (T := TX2) C k_54 (by decide) vc_X2 (S_X2_givesBy k_54 h) (lw_V q982 q831 q832 q107 q833) rfl hd_X2_givesBy rfl rfl (Nat.le_of_ble_eq_true rfl) (Nat.le_of_ble_eq_true rfl) (Nat.le_of_ble_eq_true rfl) rfl rfl (Nat.le_of_ble_eq_true rfl) (Nat.le_of_ble_eq_true rfl) dX0_personComes_111 (pc' := 114) rfl (fun r_56 M_55 h m_57 => ?_)
          refine r_sub (lv' := [(0, .ref a0), (1, .int x1), (2, .int x2), (3, .int x3), (4, .int x4)]) [0, 1, 2, 3, 4] rfl ?_
          exact B_X0_personComes_114 C hE (mMo.kd m_57 (mMo.kd m_51 (mMo.kd m_37 k_a0 (by decide)) (by decide)) (by decide)) h (fun M8 v0 hm8 g0 h8 => ih M8 v0 g0 h8 (fun M9 hm9 h9 => hX193 M9 (mMo.tr (mMo.tr (mMo.tr (mMo.tr m_37 m_51) m_57) hm8) hm9) h9)) (fun M9 hm9 h9 => hX193 M9 (mMo.tr (mMo.tr (mMo.tr m_37 m_51) m_57) hm9) h9)
        · have h := it_f h c_34
          refine r_iload_n C dX0_personComes_68 (pc' := 69) rfl (j := 3) rfl ?_
          refine r_aload_n C dX0_personComes_69 (pc' := 70) rfl (j := 0) rfl ?_
          refine r_getf C (Cn := RX0) (T := TX0) 22 k_a0 (by decide) vc_X0 in_X0 (by decide) q376 dX0_personComes_70 (pc' := 73) rfl (v := .int (mgI M a0 22)) rfl ?_
          refine r_icmp_ge C dX0_personComes_73 (pc' := 76) rfl (tgt := 83) (by decide) (fun c_106 => ?_) (fun c_106 => ?_)
          · have h := it_t h c_106
            refine r_iconst C dX0_personComes_83 (pc' := 84) rfl (v := 0) rfl ?_
            refine r_goto C dX0_personComes_84 (tgt := 114) (by decide) ?_
            refine r_sub (lv' := [(0, .ref a0), (1, .int x1), (2, .int x2), (3, .int x3), (4, .int x4)]) [0, 1, 2, 3, 4] rfl ?_
            exact B_X0_personComes_114 C hE k_a0 h (fun M8 v0 hm8 g0 h8 => ih M8 v0 g0 h8 (fun M9 hm9 h9 => hX193 M9 (mMo.tr hm8 hm9) h9)) (fun M9 hm9 h9 => hX193 M9 hm9 h9)
          · have h := it_f h c_106
            refine r_aload_n C dX0_personComes_76 (pc' := 77) rfl (j := 0) rfl ?_
            refine r_getf C (Cn := RX0) (T := TX0) 21 k_a0 (by decide) vc_X0 in_X0 (by decide) q375 dX0_personComes_77 (pc' := 80) rfl (v := .int (mgI M a0 21)) rfl ?_
            refine r_goto C dX0_personComes_80 (tgt := 114) (by decide) ?_
            refine r_sub (lv' := [(0, .ref a0), (1, .int x1), (2, .int x2), (3, .int x3), (4, .int x4)]) [0, 1, 2, 3, 4] rfl ?_
            exact B_X0_personComes_114 C hE k_a0 h (fun M8 v0 hm8 g0 h8 => ih M8 v0 g0 h8 (fun M9 hm9 h9 => hX193 M9 (mMo.tr hm8 hm9) h9)) (fun M9 hm9 h9 => hX193 M9 hm9 h9)
      · have h := it_t h c_33
        refine r_goto C dX0_personComes_58 (tgt := 187) (by decide) ?_
        obtain ⟨x4_107, e_108, h⟩ := bn_ h
        refine r_iinc C (lv' := [(4, .int x4_107), (0, .ref a0), (1, .int x1), (2, .int x2), (3, .int x3)]) dX0_personComes_187 (pc' := 190) rfl (j := 4) rfl x4_107 (by rw [e_108]; rfl) (Nat.le_of_ble_eq_true rfl) rfl ?_
        refine r_goto C dX0_personComes_190 (tgt := 37) (by decide) ?_
        refine r_sub (lv' := [(0, .ref a0), (1, .int x1), (2, .int x2), (3, .int x3), (4, .int x4_107)]) [1, 2, 3, 4, 0] rfl ?_
        exact ih M x4_107 k_a0 h (fun M9 hm9 h9 => hX193 M9 hm9 h9)
set_option maxHeartbeats 4000000 in
theorem B_X0_personComes_28 {E : mE} {a0 : Nat} {x1 : Int32} {x2 : Int32} {X199 : MM → Prop} {Post : MM → Prop} (C : mC E yX0_personComes cX0_personComes 6 (none) { frames := 203, cells := 0, slots := 0, locals := 5475 }) (hE : mEnd E { frames := 203, cells := 0, slots := 0, locals := 5475 } (pV_ Post)) : ∀ (n_ : Nat) (M : MM) (x3 : Int32), mkd M a0 = 1 → wl_X0_personComes_28 a0 x1 x2 X199 n_ M x3 → (∀ (M' : MM), mMo M M' → X199 M' → mV E M' 0 0 199 [(0, .ref a0)] []) → mV E M 0 0 28 [(0, .ref a0), (1, .int x1), (2, .int x2), (3, .int x3)] [] := by
  intro n_
  induction n_ with
  | zero =>
    intro M x3 k_a0 h hX199
    exact absurd h (by rw [wl_X0_personComes_28]; exact fun q => q)
  | succ n_ ih =>
    intro M x3 k_a0 h hX199
    rw [wl_X0_personComes_28] at h
    refine r_iload_n C dX0_personComes_28 (pc' := 29) rfl (j := 3) rfl ?_
    refine r_bipush C dX0_personComes_29 (pc' := 31) rfl (v := 24) rfl ?_
    refine r_icmp_gt C dX0_personComes_31 (pc' := 34) rfl (tgt := 199) (by decide) (fun c_23 => ?_) (fun c_23 => ?_)
    · have h := it_t h c_23
      refine r_sub (lv' := [(0, .ref a0)]) [0] rfl ?_
      exact hX199 M mMo.rf h
    · have h := it_f h c_23
      refine r_iconst C dX0_personComes_34 (pc' := 35) rfl (v := 0) rfl ?_
      refine r_istore C (lv' := [(4, .int (0 : Int32)), (0, .ref a0), (1, .int x1), (2, .int x2), (3, .int x3)]) dX0_personComes_35 (pc' := 37) rfl (0 : Int32) rfl (Nat.le_of_ble_eq_true rfl) rfl ?_
      obtain ⟨n_109, h⟩ := h
      refine r_sub (lv' := [(0, .ref a0), (1, .int x1), (2, .int x2), (3, .int x3), (4, .int (0 : Int32))]) [1, 2, 3, 4, 0] rfl ?_
      refine B_X0_personComes_37 C hE n_109 M (0 : Int32) k_a0 h (fun M_110 m_111 h => ?_)
      obtain ⟨x3_112, e_113, h⟩ := bn_ h
      refine r_iinc C (lv' := [(3, .int x3_112), (0, .ref a0), (1, .int x1), (2, .int x2)]) dX0_personComes_193 (pc' := 196) rfl (j := 3) rfl x3_112 (by rw [e_113]; rfl) (Nat.le_of_ble_eq_true rfl) rfl ?_
      refine r_goto C dX0_personComes_196 (tgt := 28) (by decide) ?_
      refine r_sub (lv' := [(0, .ref a0), (1, .int x1), (2, .int x2), (3, .int x3_112)]) [1, 2, 3, 0] rfl ?_
      exact ih M_110 x3_112 (mMo.kd m_111 k_a0 (by decide)) h (fun M9 hm9 h9 => hX199 M9 (mMo.tr m_111 hm9) h9)
set_option maxHeartbeats 4000000 in
theorem S_X0_personComes {D : DD} {l : Launch} {M : MM} {a0 : Nat} {x1 : Int32} {Post : MM → Prop} (k_a0 : mkd M a0 = 1) (h : wp_X0_personComes M a0 x1 Post) : mMet D l yX0_personComes cX0_personComes 6 (none) { frames := 203, cells := 0, slots := 0, locals := 5475 } M [.ref a0, .int x1] (pV_ Post) := by
  refine m_of2 [(0, .ref a0), (1, .int x1)] (by decide +kernel) (Nat.le_of_ble_eq_true rfl) rfl (fun E hED hEl C hE => ?_)
  subst hED
  subst hEl
  unfold wp_X0_personComes at h
  refine r_aload_n C dX0_personComes_0 (pc' := 1) rfl (j := 0) rfl ?_
  refine r_aload_n C dX0_personComes_1 (pc' := 2) rfl (j := 0) rfl ?_
  refine r_getf C (Cn := RX0) (T := TX0) 10 k_a0 (by decide) vc_X0 in_X0 (by decide) q364 dX0_personComes_2 (pc' := 5) rfl (v := va_rf (mgR M a0 10)) rfl ?_
  obtain ⟨b_1, e_2, k_3, h⟩ := h
  refine r_ref [] e_2 ?_
  refine r_callVv (As := [.ref b_1]) (rest := []) (Cn := RX0) (T := TX0) C k_a0 (by decide) vc_X0 (S_X0_clears k_a0 k_3 h) (lw_V q958 q960 qs23 q105 q961) rfl hd_X0_clears rfl rfl (Nat.le_of_ble_eq_true rfl) (Nat.le_of_ble_eq_true rfl) (Nat.le_of_ble_eq_true rfl) rfl rfl (Nat.le_of_ble_eq_true rfl) (Nat.le_of_ble_eq_true rfl) dX0_personComes_5 (pc' := 8) rfl (fun M_4 h m_6 => ?_)
  refine r_aload_n C dX0_personComes_8 (pc' := 9) rfl (j := 0) rfl ?_
  refine r_getf C (Cn := RX0) (T := TX0) 1 (mMo.kd m_6 k_a0 (by decide)) (by decide) vc_X0 in_X0 (by decide) q351 dX0_personComes_9 (pc' := 12) rfl (v := va_rf (mgR M_4 a0 1)) rfl ?_
  obtain ⟨b_7, e_8, k_9, h⟩ := h
  refine r_ref [] e_8 ?_
  refine r_getfN C (Cn := RX3) (T := TX3) 1 k_9 (by decide) vc_X3 in_X3 (by decide) (List.mem_of_getElem? (i := 2) rfl) dX0_personComes_12 (pc' := 15) rfl (v := va_rf (mgR M_4 b_7 1)) rfl ?_
  obtain ⟨b_10, e_11, k_12, h⟩ := h
  refine r_ref [] e_11 ?_
  refine r_aload_n C dX0_personComes_15 (pc' := 16) rfl (j := 0) rfl ?_
  refine r_getf C (Cn := RX0) (T := TX0) 11 (mMo.kd m_6 k_a0 (by decide)) (by decide) vc_X0 in_X0 (by decide) q365 dX0_personComes_16 (pc' := 19) rfl (v := va_rf (mgR M_4 a0 11)) rfl ?_
  obtain ⟨b_13, e_14, k_15, h⟩ := h
  refine r_ref [] e_14 ?_
  refine r_iload_n C dX0_personComes_19 (pc' := 20) rfl (j := 1) rfl ?_
  obtain ⟨c_16, h⟩ := h
  refine r_iald C (j := (ix_ x1)) k_15 c_16 rfl dX0_personComes_20 (pc' := 21) rfl ?_
  obtain ⟨c_17, h⟩ := h
  refine r_aald C (t := 4) (j := (ix_ (mgI M_4 b_13 (ix_ x1)))) k_12 (by decide) rfl rfl c_17 rfl dX0_personComes_21 (pc' := 22) rfl ?_
  obtain ⟨b_18, e_19, k_20, h⟩ := h
  refine r_ref [] e_19 ?_
  refine r_getfN C (Cn := RX5) (T := TX5) 1 k_20 (by decide) vc_X5 in_X5 (by decide) (List.mem_of_getElem? (i := 14) rfl) dX0_personComes_22 (pc' := 25) rfl (v := .int (mgI M_4 b_18 1)) rfl ?_
  obtain ⟨x2_21, e_22, h⟩ := bn_ h
  refine r_istore_n C (lv' := [(2, .int x2_21), (0, .ref a0), (1, .int x1)]) dX0_personComes_25 (pc' := 26) rfl rfl x2_21 e_22 (Nat.le_of_ble_eq_true rfl) rfl ?_
  refine r_iconst C dX0_personComes_26 (pc' := 27) rfl (v := 0) rfl ?_
  refine r_istore_n C (lv' := [(3, .int (0 : Int32)), (2, .int x2_21), (0, .ref a0), (1, .int x1)]) dX0_personComes_27 (pc' := 28) rfl rfl (0 : Int32) rfl (Nat.le_of_ble_eq_true rfl) rfl ?_
  obtain ⟨n_114, h⟩ := h
  refine r_sub (lv' := [(0, .ref a0), (1, .int x1), (2, .int x2_21), (3, .int (0 : Int32))]) [2, 3, 1, 0] rfl ?_
  refine B_X0_personComes_28 C hE n_114 M_4 (0 : Int32) (mMo.kd m_6 k_a0 (by decide)) h (fun M_115 m_116 h => ?_)
  refine r_aload_n C dX0_personComes_199 (pc' := 200) rfl (j := 0) rfl ?_
  refine r_callVv (As := []) (rest := []) (Cn := RX0) (T := TX0) C (mMo.kd m_116 (mMo.kd m_6 k_a0 (by decide)) (by decide)) (by decide) vc_X0 (S_X0_takesComes (mMo.kd m_116 (mMo.kd m_6 k_a0 (by decide)) (by decide)) h) (lw_V q983 q985 qs26 q105 q986) rfl hd_X0_takesComes rfl rfl (Nat.le_of_ble_eq_true rfl) (Nat.le_of_ble_eq_true rfl) (Nat.le_of_ble_eq_true rfl) rfl rfl (Nat.le_of_ble_eq_true rfl) (Nat.le_of_ble_eq_true rfl) dX0_personComes_200 (pc' := 203) rfl (fun M_117 h m_119 => ?_)
  exact r_vret C hE (Nat.le_of_ble_eq_true rfl) (Nat.le_of_ble_eq_true rfl) dX0_personComes_203 ⟨rfl, h⟩
set_option maxHeartbeats 4000000 in
theorem B_X0_endsBy_65 {E : mE} {M : MM} {a0 : Nat} {x4 : Int64} {Post : MM → Prop} (C : mC E yX0_endsBy cX0_endsBy 9 (none) { frames := 1, cells := 0, slots := 0, locals := 20 }) (hE : mEnd E { frames := 1, cells := 0, slots := 0, locals := 20 } (pV_ Post)) (k_a0 : mkd M a0 = 1) (h : wb_X0_endsBy_65 M a0 x4 Post) : mV E M 0 0 65 [(0, .ref a0), (4, .long x4)] [] := by
  unfold wb_X0_endsBy_65 at h
  refine r_aload_n C dX0_endsBy_65 (pc' := 66) rfl (j := 0) rfl ?_
  refine r_dup C dX0_endsBy_66 (pc' := 67) rfl rfl ?_
  refine r_getf C (Cn := RX0) (T := TX0) 20 k_a0 (by decide) vc_X0 in_X0 (by decide) q374 dX0_endsBy_67 (pc' := 70) rfl (v := .long (mgL M a0 20)) rfl ?_
  refine r_lload C dX0_endsBy_70 (pc' := 72) rfl (j := 1) rfl ?_
  refine r_ladd C dX0_endsBy_72 (pc' := 73) rfl ?_
  obtain ⟨M_6, e_7, h⟩ := bn_ h
  refine r_putL C (Cn := RX0) (T := TX0) tyX0 20 k_a0 (by decide) vc_X0 in_X0 tyX0_ok nmX0 (by decide) q374 rfl rfl dX0_endsBy_73 (pc' := 76) rfl rfl rfl M_6 e_7 ?_
  refine r_goto C dX0_endsBy_76 (tgt := 107) (by decide) ?_
  exact r_vret C hE (Nat.le_of_ble_eq_true rfl) (Nat.le_of_ble_eq_true rfl) dX0_endsBy_107 ⟨rfl, h⟩
set_option maxHeartbeats 4000000 in
theorem B_X0_endsBy_101 {E : mE} {M : MM} {x4 : Int64} {as0 : Nat} {xs1 : Int32} {Post : MM → Prop} (C : mC E yX0_endsBy cX0_endsBy 9 (none) { frames := 1, cells := 0, slots := 0, locals := 20 }) (hE : mEnd E { frames := 1, cells := 0, slots := 0, locals := 20 } (pV_ Post)) (k_as0 : mkd M as0 = 101) (h : wb_X0_endsBy_101 M x4 as0 xs1 Post) : mV E M 0 0 101 [(4, .long x4)] [.int xs1, .ref as0] := by
  unfold wb_X0_endsBy_101 at h
  refine r_dup2_11 C dX0_endsBy_101 (pc' := 102) rfl rfl rfl ?_
  obtain ⟨c_17, h⟩ := h
  refine r_lald C (j := (ix_ xs1)) k_as0 c_17 rfl dX0_endsBy_102 (pc' := 103) rfl ?_
  refine r_lload C dX0_endsBy_103 (pc' := 105) rfl (j := 0) rfl ?_
  refine r_ladd C dX0_endsBy_105 (pc' := 106) rfl ?_
  obtain ⟨c_18, h⟩ := h
  obtain ⟨M_19, e_20, h⟩ := bn_ h
  refine r_last C (j := (ix_ xs1)) k_as0 c_18 rfl dX0_endsBy_106 (pc' := 107) rfl M_19 e_20 ?_
  exact r_vret C hE (Nat.le_of_ble_eq_true rfl) (Nat.le_of_ble_eq_true rfl) dX0_endsBy_107 ⟨rfl, h⟩
set_option maxHeartbeats 4000000 in
theorem B_X0_endsBy_45 {E : mE} {M : MM} {a0 : Nat} {x4 : Int64} {x6 : Int32} {x7 : Int32} {xs0 : Int32} {Post : MM → Prop} (C : mC E yX0_endsBy cX0_endsBy 9 (none) { frames := 1, cells := 0, slots := 0, locals := 20 }) (hE : mEnd E { frames := 1, cells := 0, slots := 0, locals := 20 } (pV_ Post)) (k_a0 : mkd M a0 = 1) (h : wb_X0_endsBy_45 M a0 x4 x6 x7 xs0 Post) : mV E M 0 0 45 [(0, .ref a0), (4, .long x4), (6, .int x6), (7, .int x7)] [.int xs0] := by
  unfold wb_X0_endsBy_45 at h
  refine r_istore C (lv' := [(8, .int xs0), (0, .ref a0), (4, .long x4), (6, .int x6), (7, .int x7)]) dX0_endsBy_45 (pc' := 47) rfl xs0 rfl (Nat.le_of_ble_eq_true rfl) rfl ?_
  refine r_iload C dX0_endsBy_47 (pc' := 49) rfl (j := 4) rfl ?_
  refine r_aload_n C dX0_endsBy_49 (pc' := 50) rfl (j := 1) rfl ?_
  refine r_getf C (Cn := RX0) (T := TX0) 16 k_a0 (by decide) vc_X0 in_X0 (by decide) q370 dX0_endsBy_50 (pc' := 53) rfl (v := .int (mgI M a0 16)) rfl ?_
  refine r_icmp_ge C dX0_endsBy_53 (pc' := 56) rfl (tgt := 65) (by decide) (fun c_5 => ?_) (fun c_5 => ?_)
  · have h := it_t h c_5
    refine r_sub (lv' := [(0, .ref a0), (4, .long x4)]) [1, 2] rfl ?_
    exact B_X0_endsBy_65 C hE k_a0 h
  · have h := it_f h c_5
    refine r_iload C dX0_endsBy_56 (pc' := 58) rfl (j := 0) rfl ?_
    refine r_aload_n C dX0_endsBy_58 (pc' := 59) rfl (j := 1) rfl ?_
    refine r_getf C (Cn := RX0) (T := TX0) 16 k_a0 (by decide) vc_X0 in_X0 (by decide) q370 dX0_endsBy_59 (pc' := 62) rfl (v := .int (mgI M a0 16)) rfl ?_
    refine r_icmp_lt C dX0_endsBy_62 (pc' := 65) rfl (tgt := 79) (by decide) (fun c_8 => ?_) (fun c_8 => ?_)
    · have h := it_t h c_8
      refine r_aload_n C dX0_endsBy_79 (pc' := 80) rfl (j := 1) rfl ?_
      refine r_getf C (Cn := RX0) (T := TX0) 10 k_a0 (by decide) vc_X0 in_X0 (by decide) q364 dX0_endsBy_80 (pc' := 83) rfl (v := va_rf (mgR M a0 10)) rfl ?_
      obtain ⟨b_9, e_10, k_11, h⟩ := h
      refine r_ref [] e_10 ?_
      refine r_iload C dX0_endsBy_83 (pc' := 85) rfl (j := 3) rfl ?_
      obtain ⟨c_12, h⟩ := h
      refine r_aald C (t := 9) (j := (ix_ x6)) k_11 (by decide) rfl rfl c_12 rfl dX0_endsBy_85 (pc' := 86) rfl ?_
      obtain ⟨b_13, e_14, k_15, h⟩ := h
      refine r_ref [] e_14 ?_
      refine r_iload C dX0_endsBy_86 (pc' := 88) rfl (j := 0) rfl ?_
      refine r_if_le C dX0_endsBy_88 (pc' := 91) rfl (tgt := 99) (by decide) (fun c_16 => ?_) (fun c_16 => ?_)
      · have h := it_t h c_16
        refine r_iload C dX0_endsBy_99 (pc' := 101) rfl (j := 4) rfl ?_
        refine r_sub (lv' := [(4, .long x4)]) [2] rfl ?_
        exact B_X0_endsBy_101 C hE k_15 h
      · have h := it_f h c_16
        refine r_bipush C dX0_endsBy_91 (pc' := 93) rfl (v := 10) rfl ?_
        refine r_iload C dX0_endsBy_93 (pc' := 95) rfl (j := 0) rfl ?_
        refine r_iadd C dX0_endsBy_95 (pc' := 96) rfl ?_
        refine r_goto C dX0_endsBy_96 (tgt := 101) (by decide) ?_
        refine r_sub (lv' := [(4, .long x4)]) [2] rfl ?_
        exact B_X0_endsBy_101 C hE k_15 h
    · have h := it_f h c_8
      refine r_sub (lv' := [(0, .ref a0), (4, .long x4)]) [1, 2] rfl ?_
      exact B_X0_endsBy_65 C hE k_a0 h
set_option maxHeartbeats 4000000 in
theorem B_X0_endsBy_24 {E : mE} {M : MM} {a0 : Nat} {x2 : Int32} {x4 : Int64} {x6 : Int32} {xs0 : Int32} {Post : MM → Prop} (C : mC E yX0_endsBy cX0_endsBy 9 (none) { frames := 1, cells := 0, slots := 0, locals := 20 }) (hE : mEnd E { frames := 1, cells := 0, slots := 0, locals := 20 } (pV_ Post)) (k_a0 : mkd M a0 = 1) (h : wb_X0_endsBy_24 M a0 x2 x4 x6 xs0 Post) : mV E M 0 0 24 [(0, .ref a0), (2, .int x2), (4, .long x4), (6, .int x6)] [.int xs0] := by
  unfold wb_X0_endsBy_24 at h
  refine r_istore C (lv' := [(7, .int xs0), (0, .ref a0), (2, .int x2), (4, .long x4), (6, .int x6)]) dX0_endsBy_24 (pc' := 26) rfl xs0 rfl (Nat.le_of_ble_eq_true rfl) rfl ?_
  refine r_iload C dX0_endsBy_26 (pc' := 28) rfl (j := 4) rfl ?_
  refine r_aload_n C dX0_endsBy_28 (pc' := 29) rfl (j := 1) rfl ?_
  refine r_getf C (Cn := RX0) (T := TX0) 15 k_a0 (by decide) vc_X0 in_X0 (by decide) q369 dX0_endsBy_29 (pc' := 32) rfl (v := .int (mgI M a0 15)) rfl ?_
  refine r_icmp_ne C dX0_endsBy_32 (pc' := 35) rfl (tgt := 44) (by decide) (fun c_4 => ?_) (fun c_4 => ?_)
  · have h := it_f h c_4
    refine r_iconst C dX0_endsBy_44 (pc' := 45) rfl (v := 0) rfl ?_
    refine r_sub (lv' := [(0, .ref a0), (4, .long x4), (6, .int x6), (7, .int xs0)]) [1, 3, 4, 0] rfl ?_
    exact B_X0_endsBy_45 C hE k_a0 h
  · have h := it_t h c_4
    refine r_iload_n C dX0_endsBy_35 (pc' := 36) rfl (j := 2) rfl ?_
    refine r_callSi (As := [.int x2]) (rest := []) C (S_X0_drownedOf h) (lw_S q977 q978 q105 q979) hd_X0_drownedOf rfl rfl (Nat.le_of_ble_eq_true rfl) (Nat.le_of_ble_eq_true rfl) (Nat.le_of_ble_eq_true rfl) rfl rfl (Nat.le_of_ble_eq_true rfl) (Nat.le_of_ble_eq_true rfl) dX0_endsBy_36 (pc' := 39) rfl (fun r_22 M_21 h m_23 => ?_)
    refine r_iconst C dX0_endsBy_39 (pc' := 40) rfl (v := 1) rfl ?_
    refine r_iadd C dX0_endsBy_40 (pc' := 41) rfl ?_
    refine r_goto C dX0_endsBy_41 (tgt := 45) (by decide) ?_
    refine r_sub (lv' := [(0, .ref a0), (4, .long x4), (6, .int x6), (7, .int xs0)]) [1, 3, 4, 0] rfl ?_
    exact B_X0_endsBy_45 C hE (mMo.kd m_23 k_a0 (by decide)) h
set_option maxHeartbeats 4000000 in
theorem S_X0_endsBy {D : DD} {l : Launch} {M : MM} {a0 : Nat} {x1 : Int32} {x2 : Int32} {x3 : Int32} {x4 : Int64} {Post : MM → Prop} (k_a0 : mkd M a0 = 1) (h : wp_X0_endsBy M a0 x1 x2 x3 x4 Post) : mMet D l yX0_endsBy cX0_endsBy 9 (none) { frames := 1, cells := 0, slots := 0, locals := 20 } M [.ref a0, .int x1, .int x2, .int x3, .long x4] (pV_ Post) := by
  refine m_of2 [(0, .ref a0), (1, .int x1), (2, .int x2), (3, .int x3), (4, .long x4)] (by decide +kernel) (Nat.le_of_ble_eq_true rfl) rfl (fun E hED hEl C hE => ?_)
  subst hED
  subst hEl
  unfold wp_X0_endsBy at h
  refine r_iconst C dX0_endsBy_0 (pc' := 1) rfl (v := 0) rfl ?_
  refine r_iload_n C dX0_endsBy_1 (pc' := 2) rfl (j := 1) rfl ?_
  refine r_iload_n C dX0_endsBy_2 (pc' := 3) rfl (j := 3) rfl ?_
  refine r_isub C dX0_endsBy_3 (pc' := 4) rfl ?_
  refine r_mmax C q886 q490 q113 q491 (Nat.le_of_ble_eq_true rfl) (Nat.le_of_ble_eq_true rfl) (Nat.le_of_ble_eq_true rfl) (Nat.le_of_ble_eq_true rfl) dX0_endsBy_4 (pc' := 7) rfl ?_
  obtain ⟨x6_1, e_2, h⟩ := bn_ h
  refine r_istore C (lv' := [(6, .int x6_1), (0, .ref a0), (1, .int x1), (2, .int x2), (3, .int x3), (4, .long x4)]) dX0_endsBy_7 (pc' := 9) rfl x6_1 e_2 (Nat.le_of_ble_eq_true rfl) rfl ?_
  refine r_iload C dX0_endsBy_9 (pc' := 11) rfl (j := 0) rfl ?_
  refine r_if_ne C dX0_endsBy_11 (pc' := 14) rfl (tgt := 23) (by decide) (fun c_3 => ?_) (fun c_3 => ?_)
  · have h := it_f h c_3
    refine r_iconst C dX0_endsBy_23 (pc' := 24) rfl (v := 0) rfl ?_
    refine r_sub (lv' := [(0, .ref a0), (2, .int x2), (4, .long x4), (6, .int x6_1)]) [1, 3, 5, 0] rfl ?_
    exact B_X0_endsBy_24 C hE k_a0 h
  · have h := it_t h c_3
    refine r_iload_n C dX0_endsBy_14 (pc' := 15) rfl (j := 3) rfl ?_
    refine r_callSi (As := [.int x2]) (rest := []) C (S_X0_dryOf h) (lw_S q974 q975 q105 q976) hd_X0_dryOf rfl rfl (Nat.le_of_ble_eq_true rfl) (Nat.le_of_ble_eq_true rfl) (Nat.le_of_ble_eq_true rfl) rfl rfl (Nat.le_of_ble_eq_true rfl) (Nat.le_of_ble_eq_true rfl) dX0_endsBy_15 (pc' := 18) rfl (fun r_25 M_24 h m_26 => ?_)
    refine r_iconst C dX0_endsBy_18 (pc' := 19) rfl (v := 1) rfl ?_
    refine r_iadd C dX0_endsBy_19 (pc' := 20) rfl ?_
    refine r_goto C dX0_endsBy_20 (tgt := 24) (by decide) ?_
    refine r_sub (lv' := [(0, .ref a0), (2, .int x2), (4, .long x4), (6, .int x6_1)]) [1, 3, 5, 0] rfl ?_
    exact B_X0_endsBy_24 C hE (mMo.kd m_26 k_a0 (by decide)) h
set_option maxHeartbeats 4000000 in
theorem B_X0_sunComes_18 {E : mE} {a0 : Nat} {x1 : Int32} {X116 : MM → Prop} {Post : MM → Prop} (C : mC E yX0_sunComes cX0_sunComes 5 (none) { frames := 203, cells := 0, slots := 0, locals := 5476 }) (hE : mEnd E { frames := 203, cells := 0, slots := 0, locals := 5476 } (pV_ Post)) : ∀ (n_ : Nat) (M : MM) (x2 : Int32), mkd M a0 = 1 → wl_X0_sunComes_18 a0 x1 X116 n_ M x2 → (∀ (M' : MM), mMo M M' → X116 M' → mV E M' 0 0 116 [(0, .ref a0), (1, .int x1)] []) → mV E M 0 0 18 [(0, .ref a0), (1, .int x1), (2, .int x2)] [] := by
  intro n_
  induction n_ with
  | zero =>
    intro M x2 k_a0 h hX116
    exact absurd h (by rw [wl_X0_sunComes_18]; exact fun q => q)
  | succ n_ ih =>
    intro M x2 k_a0 h hX116
    rw [wl_X0_sunComes_18] at h
    refine r_iload_n C dX0_sunComes_18 (pc' := 19) rfl (j := 2) rfl ?_
    refine r_bipush C dX0_sunComes_19 (pc' := 21) rfl (v := 20) rfl ?_
    refine r_icmp_ge C dX0_sunComes_21 (pc' := 24) rfl (tgt := 116) (by decide) (fun c_8 => ?_) (fun c_8 => ?_)
    · have h := it_t h c_8
      refine r_sub (lv' := [(0, .ref a0), (1, .int x1)]) [0, 1] rfl ?_
      exact hX116 M mMo.rf h
    · have h := it_f h c_8
      refine r_aload_n C dX0_sunComes_24 (pc' := 25) rfl (j := 0) rfl ?_
      refine r_getf C (Cn := RX0) (T := TX0) 9 k_a0 (by decide) vc_X0 in_X0 (by decide) q363 dX0_sunComes_25 (pc' := 28) rfl (v := va_rf (mgR M a0 9)) rfl ?_
      obtain ⟨b_9, e_10, k_11, h⟩ := h
      refine r_ref [] e_10 ?_
      refine r_iload_n C dX0_sunComes_28 (pc' := 29) rfl (j := 1) rfl ?_
      obtain ⟨c_12, h⟩ := h
      refine r_aald C (t := 9) (j := (ix_ x1)) k_11 (by decide) rfl rfl c_12 rfl dX0_sunComes_29 (pc' := 30) rfl ?_
      obtain ⟨b_13, e_14, k_15, h⟩ := h
      refine r_ref [] e_14 ?_
      refine r_iload_n C dX0_sunComes_30 (pc' := 31) rfl (j := 2) rfl ?_
      obtain ⟨c_16, h⟩ := h
      refine r_lald C (j := (ix_ x2)) k_15 c_16 rfl dX0_sunComes_31 (pc' := 32) rfl ?_
      refine r_lconst C dX0_sunComes_32 (pc' := 33) rfl (v := 0) rfl ?_
      refine r_lc_ne C dX0_sunComes_33 (pc1 := 34) (pc' := 37) rfl dX0_sunComes_34 rfl (tgt := 40) (by decide) (fun c_17 => ?_) (fun c_17 => ?_)
      · have h := it_f h c_17
        refine r_aload_n C dX0_sunComes_40 (pc' := 41) rfl (j := 0) rfl ?_
        refine r_iload_n C dX0_sunComes_41 (pc' := 42) rfl (j := 1) rfl ?_
        refine r_iload_n C dX0_sunComes_42 (pc' := 43) rfl (j := 2) rfl ?_
        refine r_callVq (As := [.int x1, .int x2]) (rest := []) (Cn := RX0) (T := TX0) C k_a0 (by decide) vc_X0 (S_X0_thenAt k_a0 h) (lw_V q969 q971 qs25 q105 q972) rfl hd_X0_thenAt rfl rfl (Nat.le_of_ble_eq_true rfl) (Nat.le_of_ble_eq_true rfl) (Nat.le_of_ble_eq_true rfl) rfl rfl (Nat.le_of_ble_eq_true rfl) (Nat.le_of_ble_eq_true rfl) dX0_sunComes_43 (pc' := 46) rfl (fun r_19 M_18 h m_20 => ?_)
        obtain ⟨b_21, e_22, k_23, h⟩ := h
        refine r_ref [] e_22 ?_
        refine r_bipush C dX0_sunComes_46 (pc' := 48) rfl (v := 101) rfl ?_
        refine r_bipush C dX0_sunComes_48 (pc' := 50) rfl (v := 9) rfl ?_
        refine r_callVi (As := [.int (101 : Int32), .int (9 : Int32)]) (rest := []) (Cn := RX2) (T := TX2) C k_23 (by decide) vc_X2 (S_X2_tells k_23 h) (lw_V q991 q893 q894 q107 q895) rfl hd_X2_tells rfl rfl (Nat.le_of_ble_eq_true rfl) (Nat.le_of_ble_eq_true rfl) (Nat.le_of_ble_eq_true rfl) rfl rfl (Nat.le_of_ble_eq_true rfl) (Nat.le_of_ble_eq_true rfl) dX0_sunComes_50 (pc' := 53) rfl (fun r_25 M_24 h m_26 => ?_)
        refine r_istore_n C (lv' := [(3, .int r_25), (0, .ref a0), (1, .int x1), (2, .int x2)]) dX0_sunComes_53 (pc' := 54) rfl rfl r_25 rfl (Nat.le_of_ble_eq_true rfl) rfl ?_
        refine r_aload_n C dX0_sunComes_54 (pc' := 55) rfl (j := 1) rfl ?_
        refine r_iload_n C dX0_sunComes_55 (pc' := 56) rfl (j := 2) rfl ?_
        refine r_iload_n C dX0_sunComes_56 (pc' := 57) rfl (j := 3) rfl ?_
        refine r_callVq (As := [.int x1, .int x2]) (rest := []) (Cn := RX0) (T := TX0) C (mMo.kd m_26 (mMo.kd m_20 k_a0 (by decide)) (by decide)) (by decide) vc_X0 (S_X0_thenAt (mMo.kd m_26 (mMo.kd m_20 k_a0 (by decide)) (by decide)) h) (lw_V q969 q971 qs25 q105 q972) rfl hd_X0_thenAt rfl rfl (Nat.le_of_ble_eq_true rfl) (Nat.le_of_ble_eq_true rfl) (Nat.le_of_ble_eq_true rfl) rfl rfl (Nat.le_of_ble_eq_true rfl) (Nat.le_of_ble_eq_true rfl) dX0_sunComes_57 (pc' := 60) rfl (fun r_28 M_27 h m_29 => ?_)
        obtain ⟨b_30, e_31, k_32, h⟩ := h
        refine r_ref [] e_31 ?_
        refine r_bipush C dX0_sunComes_60 (pc' := 62) rfl (v := 104) rfl ?_
        refine r_bipush C dX0_sunComes_62 (pc' := 64) rfl (v := 9) rfl ?_
        refine r_callVi (As := [.int (104 : Int32), .int (9 : Int32)]) (rest := []) (Cn := RX2) (T := TX2) C k_32 (by decide) vc_X2 (S_X2_tells k_32 h) (lw_V q991 q893 q894 q107 q895) rfl hd_X2_tells rfl rfl (Nat.le_of_ble_eq_true rfl) (Nat.le_of_ble_eq_true rfl) (Nat.le_of_ble_eq_true rfl) rfl rfl (Nat.le_of_ble_eq_true rfl) (Nat.le_of_ble_eq_true rfl) dX0_sunComes_64 (pc' := 67) rfl (fun r_34 M_33 h m_35 => ?_)
        refine r_istore C (lv' := [(4, .int r_34), (3, .int r_25), (0, .ref a0), (1, .int x1), (2, .int x2)]) dX0_sunComes_67 (pc' := 69) rfl r_34 rfl (Nat.le_of_ble_eq_true rfl) rfl ?_
        refine r_aload_n C dX0_sunComes_69 (pc' := 70) rfl (j := 2) rfl ?_
        refine r_iload_n C dX0_sunComes_70 (pc' := 71) rfl (j := 3) rfl ?_
        refine r_iload_n C dX0_sunComes_71 (pc' := 72) rfl (j := 4) rfl ?_
        refine r_iload_n C dX0_sunComes_72 (pc' := 73) rfl (j := 1) rfl ?_
        refine r_iload C dX0_sunComes_73 (pc' := 75) rfl (j := 0) rfl ?_
        refine r_iadd C dX0_sunComes_75 (pc' := 76) rfl ?_
        refine r_aload_n C dX0_sunComes_76 (pc' := 77) rfl (j := 2) rfl ?_
        refine r_getf C (Cn := RX0) (T := TX0) 9 (mMo.kd m_35 (mMo.kd m_29 (mMo.kd m_26 (mMo.kd m_20 k_a0 (by decide)) (by decide)) (by decide)) (by decide)) (by decide) vc_X0 in_X0 (by decide) q363 dX0_sunComes_77 (pc' := 80) rfl (v := va_rf (mgR M_33 a0 9)) rfl ?_
        obtain ⟨b_36, e_37, k_38, h⟩ := h
        refine r_ref [] e_37 ?_
        refine r_iload_n C dX0_sunComes_80 (pc' := 81) rfl (j := 3) rfl ?_
        obtain ⟨c_39, h⟩ := h
        refine r_aald C (t := 9) (j := (ix_ x1)) k_38 (by decide) rfl rfl c_39 rfl dX0_sunComes_81 (pc' := 82) rfl ?_
        obtain ⟨b_40, e_41, k_42, h⟩ := h
        refine r_ref [] e_41 ?_
        refine r_iload_n C dX0_sunComes_82 (pc' := 83) rfl (j := 4) rfl ?_
        obtain ⟨c_43, h⟩ := h
        refine r_lald C (j := (ix_ x2)) k_42 c_43 rfl dX0_sunComes_83 (pc' := 84) rfl ?_
        refine r_ldc2 C dX0_sunComes_84 (pc' := 87) rfl q992 ?_
        refine r_lmul C dX0_sunComes_87 (pc' := 88) rfl ?_
        refine r_callVv (As := [.int x1, .int x2, .int (r_25 + r_34), .long ((mgL M_33 b_40 (ix_ x2)) * (5 : Int64))]) (rest := []) (Cn := RX0) (T := TX0) C (mMo.kd m_35 (mMo.kd m_29 (mMo.kd m_26 (mMo.kd m_20 k_a0 (by decide)) (by decide)) (by decide)) (by decide)) (by decide) vc_X0 (S_X0_endsBy (mMo.kd m_35 (mMo.kd m_29 (mMo.kd m_26 (mMo.kd m_20 k_a0 (by decide)) (by decide)) (by decide)) (by decide)) h) (lw_V q993 q995 qs28 q105 q996) rfl hd_X0_endsBy rfl rfl (Nat.le_of_ble_eq_true rfl) (Nat.le_of_ble_eq_true rfl) (Nat.le_of_ble_eq_true rfl) rfl rfl (Nat.le_of_ble_eq_true rfl) (Nat.le_of_ble_eq_true rfl) dX0_sunComes_88 (pc' := 91) rfl (fun M_44 h m_46 => ?_)
        refine r_aload_n C dX0_sunComes_91 (pc' := 92) rfl (j := 2) rfl ?_
        refine r_iload_n C dX0_sunComes_92 (pc' := 93) rfl (j := 3) rfl ?_
        refine r_iload_n C dX0_sunComes_93 (pc' := 94) rfl (j := 4) rfl ?_
        refine r_iload_n C dX0_sunComes_94 (pc' := 95) rfl (j := 1) rfl ?_
        refine r_aload_n C dX0_sunComes_95 (pc' := 96) rfl (j := 2) rfl ?_
        refine r_getf C (Cn := RX0) (T := TX0) 9 (mMo.kd m_46 (mMo.kd m_35 (mMo.kd m_29 (mMo.kd m_26 (mMo.kd m_20 k_a0 (by decide)) (by decide)) (by decide)) (by decide)) (by decide)) (by decide) vc_X0 in_X0 (by decide) q363 dX0_sunComes_96 (pc' := 99) rfl (v := va_rf (mgR M_44 a0 9)) rfl ?_
        obtain ⟨b_47, e_48, k_49, h⟩ := h
        refine r_ref [] e_48 ?_
        refine r_iload_n C dX0_sunComes_99 (pc' := 100) rfl (j := 3) rfl ?_
        obtain ⟨c_50, h⟩ := h
        refine r_aald C (t := 9) (j := (ix_ x1)) k_49 (by decide) rfl rfl c_50 rfl dX0_sunComes_100 (pc' := 101) rfl ?_
        obtain ⟨b_51, e_52, k_53, h⟩ := h
        refine r_ref [] e_52 ?_
        refine r_iload_n C dX0_sunComes_101 (pc' := 102) rfl (j := 4) rfl ?_
        obtain ⟨c_54, h⟩ := h
        refine r_lald C (j := (ix_ x2)) k_53 c_54 rfl dX0_sunComes_102 (pc' := 103) rfl ?_
        refine r_ldc2 C dX0_sunComes_103 (pc' := 106) rfl q992 ?_
        refine r_lmul C dX0_sunComes_106 (pc' := 107) rfl ?_
        refine r_callVv (As := [.int x1, .int x2, .int r_25, .long ((mgL M_44 b_51 (ix_ x2)) * (5 : Int64))]) (rest := []) (Cn := RX0) (T := TX0) C (mMo.kd m_46 (mMo.kd m_35 (mMo.kd m_29 (mMo.kd m_26 (mMo.kd m_20 k_a0 (by decide)) (by decide)) (by decide)) (by decide)) (by decide)) (by decide) vc_X0 (S_X0_endsBy (mMo.kd m_46 (mMo.kd m_35 (mMo.kd m_29 (mMo.kd m_26 (mMo.kd m_20 k_a0 (by decide)) (by decide)) (by decide)) (by decide)) (by decide)) h) (lw_V q993 q995 qs28 q105 q996) rfl hd_X0_endsBy rfl rfl (Nat.le_of_ble_eq_true rfl) (Nat.le_of_ble_eq_true rfl) (Nat.le_of_ble_eq_true rfl) rfl rfl (Nat.le_of_ble_eq_true rfl) (Nat.le_of_ble_eq_true rfl) dX0_sunComes_107 (pc' := 110) rfl (fun M_55 h m_57 => ?_)
        obtain ⟨x2_58, e_59, h⟩ := bn_ h
        refine r_iinc C (lv' := [(2, .int x2_58), (4, .int r_34), (3, .int r_25), (0, .ref a0), (1, .int x1)]) dX0_sunComes_110 (pc' := 113) rfl (j := 4) rfl x2_58 (by rw [e_59]; rfl) (Nat.le_of_ble_eq_true rfl) rfl ?_
        refine r_goto C dX0_sunComes_113 (tgt := 18) (by decide) ?_
        refine r_sub (lv' := [(0, .ref a0), (1, .int x1), (2, .int x2_58)]) [3, 4, 0] rfl ?_
        exact ih M_55 x2_58 (mMo.kd m_57 (mMo.kd m_46 (mMo.kd m_35 (mMo.kd m_29 (mMo.kd m_26 (mMo.kd m_20 k_a0 (by decide)) (by decide)) (by decide)) (by decide)) (by decide)) (by decide)) h (fun M9 hm9 h9 => hX116 M9 (mMo.tr (mMo.tr (mMo.tr (mMo.tr (mMo.tr (mMo.tr m_20 m_26) m_29) m_35) m_46) m_57) hm9) h9)
      · have h := it_t h c_17
        refine r_goto C dX0_sunComes_37 (tgt := 110) (by decide) ?_
        obtain ⟨x2_60, e_61, h⟩ := bn_ h
        refine r_iinc C (lv' := [(2, .int x2_60), (0, .ref a0), (1, .int x1)]) dX0_sunComes_110 (pc' := 113) rfl (j := 2) rfl x2_60 (by rw [e_61]; rfl) (Nat.le_of_ble_eq_true rfl) rfl ?_
        refine r_goto C dX0_sunComes_113 (tgt := 18) (by decide) ?_
        refine r_sub (lv' := [(0, .ref a0), (1, .int x1), (2, .int x2_60)]) [1, 2, 0] rfl ?_
        exact ih M x2_60 k_a0 h (fun M9 hm9 h9 => hX116 M9 hm9 h9)
set_option maxHeartbeats 4000000 in
theorem B_X0_sunComes_10 {E : mE} {a0 : Nat} {X122 : MM → Prop} {Post : MM → Prop} (C : mC E yX0_sunComes cX0_sunComes 5 (none) { frames := 203, cells := 0, slots := 0, locals := 5476 }) (hE : mEnd E { frames := 203, cells := 0, slots := 0, locals := 5476 } (pV_ Post)) : ∀ (n_ : Nat) (M : MM) (x1 : Int32), mkd M a0 = 1 → wl_X0_sunComes_10 a0 X122 n_ M x1 → (∀ (M' : MM), mMo M M' → X122 M' → mV E M' 0 0 122 [(0, .ref a0)] []) → mV E M 0 0 10 [(0, .ref a0), (1, .int x1)] [] := by
  intro n_
  induction n_ with
  | zero =>
    intro M x1 k_a0 h hX122
    exact absurd h (by rw [wl_X0_sunComes_10]; exact fun q => q)
  | succ n_ ih =>
    intro M x1 k_a0 h hX122
    rw [wl_X0_sunComes_10] at h
    refine r_iload_n C dX0_sunComes_10 (pc' := 11) rfl (j := 1) rfl ?_
    refine r_bipush C dX0_sunComes_11 (pc' := 13) rfl (v := 24) rfl ?_
    refine r_icmp_gt C dX0_sunComes_13 (pc' := 16) rfl (tgt := 122) (by decide) (fun c_7 => ?_) (fun c_7 => ?_)
    · have h := it_t h c_7
      refine r_sub (lv' := [(0, .ref a0)]) [0] rfl ?_
      exact hX122 M mMo.rf h
    · have h := it_f h c_7
      refine r_iconst C dX0_sunComes_16 (pc' := 17) rfl (v := 0) rfl ?_
      refine r_istore_n C (lv' := [(2, .int (0 : Int32)), (0, .ref a0), (1, .int x1)]) dX0_sunComes_17 (pc' := 18) rfl rfl (0 : Int32) rfl (Nat.le_of_ble_eq_true rfl) rfl ?_
      obtain ⟨n_62, h⟩ := h
      refine r_sub (lv' := [(0, .ref a0), (1, .int x1), (2, .int (0 : Int32))]) [1, 2, 0] rfl ?_
      refine B_X0_sunComes_18 C hE n_62 M (0 : Int32) k_a0 h (fun M_63 m_64 h => ?_)
      obtain ⟨x1_65, e_66, h⟩ := bn_ h
      refine r_iinc C (lv' := [(1, .int x1_65), (0, .ref a0)]) dX0_sunComes_116 (pc' := 119) rfl (j := 1) rfl x1_65 (by rw [e_66]; rfl) (Nat.le_of_ble_eq_true rfl) rfl ?_
      refine r_goto C dX0_sunComes_119 (tgt := 10) (by decide) ?_
      refine r_sub (lv' := [(0, .ref a0), (1, .int x1_65)]) [1, 0] rfl ?_
      exact ih M_63 x1_65 (mMo.kd m_64 k_a0 (by decide)) h (fun M9 hm9 h9 => hX122 M9 (mMo.tr m_64 hm9) h9)
set_option maxHeartbeats 4000000 in
theorem S_X0_sunComes {D : DD} {l : Launch} {M : MM} {a0 : Nat} {Post : MM → Prop} (k_a0 : mkd M a0 = 1) (h : wp_X0_sunComes M a0 Post) : mMet D l yX0_sunComes cX0_sunComes 5 (none) { frames := 203, cells := 0, slots := 0, locals := 5476 } M [.ref a0] (pV_ Post) := by
  refine m_of2 [(0, .ref a0)] (by decide +kernel) (Nat.le_of_ble_eq_true rfl) rfl (fun E hED hEl C hE => ?_)
  subst hED
  subst hEl
  unfold wp_X0_sunComes at h
  refine r_aload_n C dX0_sunComes_0 (pc' := 1) rfl (j := 0) rfl ?_
  refine r_aload_n C dX0_sunComes_1 (pc' := 2) rfl (j := 0) rfl ?_
  refine r_getf C (Cn := RX0) (T := TX0) 10 k_a0 (by decide) vc_X0 in_X0 (by decide) q364 dX0_sunComes_2 (pc' := 5) rfl (v := va_rf (mgR M a0 10)) rfl ?_
  obtain ⟨b_1, e_2, k_3, h⟩ := h
  refine r_ref [] e_2 ?_
  refine r_callVv (As := [.ref b_1]) (rest := []) (Cn := RX0) (T := TX0) C k_a0 (by decide) vc_X0 (S_X0_clears k_a0 k_3 h) (lw_V q958 q960 qs23 q105 q961) rfl hd_X0_clears rfl rfl (Nat.le_of_ble_eq_true rfl) (Nat.le_of_ble_eq_true rfl) (Nat.le_of_ble_eq_true rfl) rfl rfl (Nat.le_of_ble_eq_true rfl) (Nat.le_of_ble_eq_true rfl) dX0_sunComes_5 (pc' := 8) rfl (fun M_4 h m_6 => ?_)
  refine r_iconst C dX0_sunComes_8 (pc' := 9) rfl (v := 0) rfl ?_
  refine r_istore_n C (lv' := [(1, .int (0 : Int32)), (0, .ref a0)]) dX0_sunComes_9 (pc' := 10) rfl rfl (0 : Int32) rfl (Nat.le_of_ble_eq_true rfl) rfl ?_
  obtain ⟨n_67, h⟩ := h
  refine r_sub (lv' := [(0, .ref a0), (1, .int (0 : Int32))]) [1, 0] rfl ?_
  refine B_X0_sunComes_10 C hE n_67 M_4 (0 : Int32) (mMo.kd m_6 k_a0 (by decide)) h (fun M_68 m_69 h => ?_)
  refine r_aload_n C dX0_sunComes_122 (pc' := 123) rfl (j := 0) rfl ?_
  refine r_callVv (As := []) (rest := []) (Cn := RX0) (T := TX0) C (mMo.kd m_69 (mMo.kd m_6 k_a0 (by decide)) (by decide)) (by decide) vc_X0 (S_X0_takesComes (mMo.kd m_69 (mMo.kd m_6 k_a0 (by decide)) (by decide)) h) (lw_V q983 q985 qs26 q105 q986) rfl hd_X0_takesComes rfl rfl (Nat.le_of_ble_eq_true rfl) (Nat.le_of_ble_eq_true rfl) (Nat.le_of_ble_eq_true rfl) rfl rfl (Nat.le_of_ble_eq_true rfl) (Nat.le_of_ble_eq_true rfl) dX0_sunComes_123 (pc' := 126) rfl (fun M_70 h m_72 => ?_)
  exact r_vret C hE (Nat.le_of_ble_eq_true rfl) (Nat.le_of_ble_eq_true rfl) dX0_sunComes_126 ⟨rfl, h⟩
set_option maxHeartbeats 4000000 in
theorem B_X0_laysDays_147 {E : mE} {a0 : Nat} {x2 : Int32} {x3 : Int32} {x6 : Int32} {X165 : MM → Prop} {Post : Int64 → MM → Prop} (C : mC E yX0_laysDays cX0_laysDays 8 ((some .long)) { frames := 204, cells := 0, slots := 0, locals := 5500 }) (hE : mEnd E { frames := 204, cells := 0, slots := 0, locals := 5500 } (pL_ Post)) : ∀ (n_ : Nat) (M : MM) (x7 : Int32), mkd M a0 = 1 → wl_X0_laysDays_147 a0 x2 x3 x6 X165 n_ M x7 → (∀ (M' : MM), mMo M M' → X165 M' → mV E M' 0 0 165 [(0, .ref a0), (2, .int x2), (3, .int x3), (6, .int x6)] []) → mV E M 0 0 147 [(0, .ref a0), (2, .int x2), (3, .int x3), (6, .int x6), (7, .int x7)] [] := by
  intro n_
  induction n_ with
  | zero =>
    intro M x7 k_a0 h hX165
    exact absurd h (by rw [wl_X0_laysDays_147]; exact fun q => q)
  | succ n_ ih =>
    intro M x7 k_a0 h hX165
    rw [wl_X0_laysDays_147] at h
    refine r_iload C dX0_laysDays_147 (pc' := 149) rfl (j := 4) rfl ?_
    refine r_iload_n C dX0_laysDays_149 (pc' := 150) rfl (j := 2) rfl ?_
    refine r_icmp_ge C dX0_laysDays_150 (pc' := 153) rfl (tgt := 165) (by decide) (fun c_57 => ?_) (fun c_57 => ?_)
    · have h := it_t h c_57
      refine r_sub (lv' := [(0, .ref a0), (2, .int x2), (3, .int x3), (6, .int x6)]) [0, 1, 2, 3] rfl ?_
      exact hX165 M mMo.rf h
    · have h := it_f h c_57
      refine r_aload_n C dX0_laysDays_153 (pc' := 154) rfl (j := 0) rfl ?_
      refine r_iload C dX0_laysDays_154 (pc' := 156) rfl (j := 4) rfl ?_
      refine r_callVv (As := [.int x7]) (rest := []) (Cn := RX0) (T := TX0) C k_a0 (by decide) vc_X0 (S_X0_personComes k_a0 h) (lw_V q965 q967 qs24 q105 q968) rfl hd_X0_personComes rfl rfl (Nat.le_of_ble_eq_true rfl) (Nat.le_of_ble_eq_true rfl) (Nat.le_of_ble_eq_true rfl) rfl rfl (Nat.le_of_ble_eq_true rfl) (Nat.le_of_ble_eq_true rfl) dX0_laysDays_156 (pc' := 159) rfl (fun M_58 h m_60 => ?_)
      obtain ⟨x7_61, e_62, h⟩ := bn_ h
      refine r_iinc C (lv' := [(7, .int x7_61), (0, .ref a0), (2, .int x2), (3, .int x3), (6, .int x6)]) dX0_laysDays_159 (pc' := 162) rfl (j := 4) rfl x7_61 (by rw [e_62]; rfl) (Nat.le_of_ble_eq_true rfl) rfl ?_
      refine r_goto C dX0_laysDays_162 (tgt := 147) (by decide) ?_
      refine r_sub (lv' := [(0, .ref a0), (2, .int x2), (3, .int x3), (6, .int x6), (7, .int x7_61)]) [1, 2, 3, 4, 0] rfl ?_
      exact ih M_58 x7_61 (mMo.kd m_60 k_a0 (by decide)) h (fun M9 hm9 h9 => hX165 M9 (mMo.tr m_60 hm9) h9)
set_option maxHeartbeats 4000000 in
theorem B_X0_laysDays_107 {E : mE} {a0 : Nat} {x2 : Int32} {x3 : Int32} {X175 : MM → Prop} {Post : Int64 → MM → Prop} (C : mC E yX0_laysDays cX0_laysDays 8 ((some .long)) { frames := 204, cells := 0, slots := 0, locals := 5500 }) (hE : mEnd E { frames := 204, cells := 0, slots := 0, locals := 5500 } (pL_ Post)) : ∀ (n_ : Nat) (M : MM) (x6 : Int32), mkd M a0 = 1 → wl_X0_laysDays_107 a0 x2 x3 X175 n_ M x6 → (∀ (M' : MM), mMo M M' → X175 M' → mV E M' 0 0 175 [(0, .ref a0), (2, .int x2), (3, .int x3)] []) → mV E M 0 0 107 [(0, .ref a0), (2, .int x2), (3, .int x3), (6, .int x6)] [] := by
  intro n_
  induction n_ with
  | zero =>
    intro M x6 k_a0 h hX175
    exact absurd h (by rw [wl_X0_laysDays_107]; exact fun q => q)
  | succ n_ ih =>
    intro M x6 k_a0 h hX175
    rw [wl_X0_laysDays_107] at h
    refine r_iload C dX0_laysDays_107 (pc' := 109) rfl (j := 3) rfl ?_
    refine r_iload_n C dX0_laysDays_109 (pc' := 110) rfl (j := 1) rfl ?_
    refine r_icmp_ge C dX0_laysDays_110 (pc' := 113) rfl (tgt := 175) (by decide) (fun c_46 => ?_) (fun c_46 => ?_)
    · have h := it_t h c_46
      refine r_sub (lv' := [(0, .ref a0), (2, .int x2), (3, .int x3)]) [0, 1, 2] rfl ?_
      exact hX175 M mMo.rf h
    · have h := it_f h c_46
      refine r_aload_n C dX0_laysDays_113 (pc' := 114) rfl (j := 0) rfl ?_
      refine r_aload_n C dX0_laysDays_114 (pc' := 115) rfl (j := 0) rfl ?_
      refine r_getf C (Cn := RX0) (T := TX0) 1 k_a0 (by decide) vc_X0 in_X0 (by decide) q351 dX0_laysDays_115 (pc' := 118) rfl (v := va_rf (mgR M a0 1)) rfl ?_
      obtain ⟨b_47, e_48, k_49, h⟩ := h
      refine r_ref [] e_48 ?_
      refine r_getfN C (Cn := RX3) (T := TX3) 2 k_49 (by decide) vc_X3 in_X3 (by decide) (List.mem_of_getElem? (i := 20) rfl) dX0_laysDays_118 (pc' := 121) rfl (v := .int (mgI M b_47 2)) rfl ?_
      refine r_iload C dX0_laysDays_121 (pc' := 123) rfl (j := 3) rfl ?_
      refine r_iadd C dX0_laysDays_123 (pc' := 124) rfl ?_
      obtain ⟨M_50, e_51, h⟩ := bn_ h
      refine r_putI C (Cn := RX0) (T := TX0) tyX0 18 k_a0 (by decide) vc_X0 in_X0 tyX0_ok nmX0 (by decide) q372 rfl rfl dX0_laysDays_124 (pc' := 127) rfl rfl rfl M_50 e_51 ?_
      refine r_aload_n C dX0_laysDays_127 (pc' := 128) rfl (j := 0) rfl ?_
      refine r_dup C dX0_laysDays_128 (pc' := 129) rfl rfl ?_
      refine r_getf C (Cn := RX0) (T := TX0) 20 (mMo.kd (mo_I e_51) k_a0 (by decide)) (by decide) vc_X0 in_X0 (by decide) q374 dX0_laysDays_129 (pc' := 132) rfl (v := .long (mgL M_50 a0 20)) rfl ?_
      refine r_bipush C dX0_laysDays_132 (pc' := 134) rfl (v := 10) rfl ?_
      refine r_iload_n C dX0_laysDays_134 (pc' := 135) rfl (j := 2) rfl ?_
      refine r_iconst C dX0_laysDays_135 (pc' := 136) rfl (v := 1) rfl ?_
      refine r_iadd C dX0_laysDays_136 (pc' := 137) rfl ?_
      refine r_callSl (As := [.int (10 : Int32), .int (x3 + (1 : Int32))]) (rest := [.long (mgL M_50 a0 20), .ref a0]) C (S_X0_powerOf h) (lw_S q962 q963 q105 q964) hd_X0_powerOf rfl rfl (Nat.le_of_ble_eq_true rfl) (Nat.le_of_ble_eq_true rfl) (Nat.le_of_ble_eq_true rfl) rfl rfl (Nat.le_of_ble_eq_true rfl) (Nat.le_of_ble_eq_true rfl) dX0_laysDays_137 (pc' := 140) rfl (fun r_53 M_52 h m_54 => ?_)
      refine r_lmul C dX0_laysDays_140 (pc' := 141) rfl ?_
      obtain ⟨M_55, e_56, h⟩ := bn_ h
      refine r_putL C (Cn := RX0) (T := TX0) tyX0 20 (mMo.kd m_54 (mMo.kd (mo_I e_51) k_a0 (by decide)) (by decide)) (by decide) vc_X0 in_X0 tyX0_ok nmX0 (by decide) q374 rfl rfl dX0_laysDays_141 (pc' := 144) rfl rfl rfl M_55 e_56 ?_
      refine r_iconst C dX0_laysDays_144 (pc' := 145) rfl (v := 0) rfl ?_
      refine r_istore C (lv' := [(7, .int (0 : Int32)), (0, .ref a0), (2, .int x2), (3, .int x3), (6, .int x6)]) dX0_laysDays_145 (pc' := 147) rfl (0 : Int32) rfl (Nat.le_of_ble_eq_true rfl) rfl ?_
      obtain ⟨n_63, h⟩ := h
      refine r_sub (lv' := [(0, .ref a0), (2, .int x2), (3, .int x3), (6, .int x6), (7, .int (0 : Int32))]) [1, 2, 3, 4, 0] rfl ?_
      refine B_X0_laysDays_147 C hE n_63 M_55 (0 : Int32) (mMo.kd (mo_L e_56) (mMo.kd m_54 (mMo.kd (mo_I e_51) k_a0 (by decide)) (by decide)) (by decide)) h (fun M_64 m_65 h => ?_)
      refine r_aload_n C dX0_laysDays_165 (pc' := 166) rfl (j := 0) rfl ?_
      refine r_callVv (As := []) (rest := []) (Cn := RX0) (T := TX0) C (mMo.kd m_65 (mMo.kd (mo_L e_56) (mMo.kd m_54 (mMo.kd (mo_I e_51) k_a0 (by decide)) (by decide)) (by decide)) (by decide)) (by decide) vc_X0 (S_X0_sunComes (mMo.kd m_65 (mMo.kd (mo_L e_56) (mMo.kd m_54 (mMo.kd (mo_I e_51) k_a0 (by decide)) (by decide)) (by decide)) (by decide)) h) (lw_V q987 q989 qs27 q105 q990) rfl hd_X0_sunComes rfl rfl (Nat.le_of_ble_eq_true rfl) (Nat.le_of_ble_eq_true rfl) (Nat.le_of_ble_eq_true rfl) rfl rfl (Nat.le_of_ble_eq_true rfl) (Nat.le_of_ble_eq_true rfl) dX0_laysDays_166 (pc' := 169) rfl (fun M_66 h m_68 => ?_)
      obtain ⟨x6_69, e_70, h⟩ := bn_ h
      refine r_iinc C (lv' := [(6, .int x6_69), (0, .ref a0), (2, .int x2), (3, .int x3)]) dX0_laysDays_169 (pc' := 172) rfl (j := 3) rfl x6_69 (by rw [e_70]; rfl) (Nat.le_of_ble_eq_true rfl) rfl ?_
      refine r_goto C dX0_laysDays_172 (tgt := 107) (by decide) ?_
      refine r_sub (lv' := [(0, .ref a0), (2, .int x2), (3, .int x3), (6, .int x6_69)]) [1, 2, 3, 0] rfl ?_
      exact ih M_66 x6_69 (mMo.kd m_68 (mMo.kd m_65 (mMo.kd (mo_L e_56) (mMo.kd m_54 (mMo.kd (mo_I e_51) k_a0 (by decide)) (by decide)) (by decide)) (by decide)) (by decide)) h (fun M9 hm9 h9 => hX175 M9 (mMo.tr (mMo.tr (mMo.tr (mMo.tr (mMo.tr (mo_I e_51) m_54) (mo_L e_56)) m_65) m_68) hm9) h9)
set_option maxHeartbeats 4000000 in
theorem B_X0_laysDays_102 {E : mE} {M : MM} {a0 : Nat} {x2 : Int32} {x3 : Int32} {as0 : Nat} {xs1 : Int32} {Post : Int64 → MM → Prop} (C : mC E yX0_laysDays cX0_laysDays 8 ((some .long)) { frames := 204, cells := 0, slots := 0, locals := 5500 }) (hE : mEnd E { frames := 204, cells := 0, slots := 0, locals := 5500 } (pL_ Post)) (k_a0 : mkd M a0 = 1) (k_as0 : mkd M as0 = 101) (h : wb_X0_laysDays_102 M a0 x2 x3 as0 xs1 Post) : mV E M 0 0 102 [(0, .ref a0), (2, .int x2), (3, .int x3)] [.int xs1, .ref as0] := by
  unfold wb_X0_laysDays_102 at h
  refine r_lconst C dX0_laysDays_102 (pc' := 103) rfl (v := 1) rfl ?_
  obtain ⟨c_43, h⟩ := h
  obtain ⟨M_44, e_45, h⟩ := bn_ h
  refine r_last C (j := (ix_ xs1)) k_as0 c_43 rfl dX0_laysDays_103 (pc' := 104) rfl M_44 e_45 ?_
  refine r_iconst C dX0_laysDays_104 (pc' := 105) rfl (v := 0) rfl ?_
  refine r_istore C (lv' := [(6, .int (0 : Int32)), (0, .ref a0), (2, .int x2), (3, .int x3)]) dX0_laysDays_105 (pc' := 107) rfl (0 : Int32) rfl (Nat.le_of_ble_eq_true rfl) rfl ?_
  obtain ⟨n_71, h⟩ := h
  refine r_sub (lv' := [(0, .ref a0), (2, .int x2), (3, .int x3), (6, .int (0 : Int32))]) [1, 2, 3, 0] rfl ?_
  refine B_X0_laysDays_107 C hE n_71 M_44 (0 : Int32) (mMo.kd (mo_L e_45) k_a0 (by decide)) h (fun M_72 m_73 h => ?_)
  refine r_bipush C dX0_laysDays_175 (pc' := 177) rfl (v := 10) rfl ?_
  refine r_iload_n C dX0_laysDays_177 (pc' := 178) rfl (j := 1) rfl ?_
  refine r_iload_n C dX0_laysDays_178 (pc' := 179) rfl (j := 2) rfl ?_
  refine r_iconst C dX0_laysDays_179 (pc' := 180) rfl (v := 1) rfl ?_
  refine r_iadd C dX0_laysDays_180 (pc' := 181) rfl ?_
  refine r_imul C dX0_laysDays_181 (pc' := 182) rfl ?_
  refine r_callSl (As := [.int (10 : Int32), .int (x2 * (x3 + (1 : Int32)))]) (rest := []) C (S_X0_powerOf h) (lw_S q962 q963 q105 q964) hd_X0_powerOf rfl rfl (Nat.le_of_ble_eq_true rfl) (Nat.le_of_ble_eq_true rfl) (Nat.le_of_ble_eq_true rfl) rfl rfl (Nat.le_of_ble_eq_true rfl) (Nat.le_of_ble_eq_true rfl) dX0_laysDays_182 (pc' := 185) rfl (fun r_75 M_74 h m_76 => ?_)
  refine r_aload_n C dX0_laysDays_185 (pc' := 186) rfl (j := 0) rfl ?_
  refine r_getf C (Cn := RX0) (T := TX0) 20 (mMo.kd m_76 (mMo.kd m_73 (mMo.kd (mo_L e_45) k_a0 (by decide)) (by decide)) (by decide)) (by decide) vc_X0 in_X0 (by decide) q374 dX0_laysDays_186 (pc' := 189) rfl (v := .long (mgL M_74 a0 20)) rfl ?_
  refine r_lsub C dX0_laysDays_189 (pc' := 190) rfl ?_
  exact r_lret C hE (Nat.le_of_ble_eq_true rfl) (Nat.le_of_ble_eq_true rfl) dX0_laysDays_190 ⟨_, rfl, h⟩
set_option maxHeartbeats 4000000 in
theorem S_X0_laysDays {D : DD} {l : Launch} {M : MM} {a0 : Nat} {x1 : Int32} {x2 : Int32} {x3 : Int32} {x4 : Int32} {Post : Int64 → MM → Prop} (k_a0 : mkd M a0 = 1) (h : wp_X0_laysDays M a0 x1 x2 x3 x4 Post) : mMet D l yX0_laysDays cX0_laysDays 8 ((some .long)) { frames := 204, cells := 0, slots := 0, locals := 5500 } M [.ref a0, .int x1, .int x2, .int x3, .int x4] (pL_ Post) := by
  refine m_of2 [(0, .ref a0), (1, .int x1), (2, .int x2), (3, .int x3), (4, .int x4)] (by decide +kernel) (Nat.le_of_ble_eq_true rfl) rfl (fun E hED hEl C hE => ?_)
  subst hED
  subst hEl
  unfold wp_X0_laysDays at h
  refine r_aload_n C dX0_laysDays_0 (pc' := 1) rfl (j := 0) rfl ?_
  refine r_getf C (Cn := RX0) (T := TX0) 1 k_a0 (by decide) vc_X0 in_X0 (by decide) q351 dX0_laysDays_1 (pc' := 4) rfl (v := va_rf (mgR M a0 1)) rfl ?_
  obtain ⟨b_1, e_2, k_3, h⟩ := h
  refine r_ref [] e_2 ?_
  refine r_getfN C (Cn := RX3) (T := TX3) 0 k_3 (by decide) vc_X3 in_X3 (by decide) (List.mem_of_getElem? (i := 0) rfl) dX0_laysDays_4 (pc' := 7) rfl (v := va_rf (mgR M b_1 0)) rfl ?_
  obtain ⟨b_4, e_5, k_6, h⟩ := h
  refine r_ref [] e_5 ?_
  refine r_iload_n C dX0_laysDays_7 (pc' := 8) rfl (j := 1) rfl ?_
  obtain ⟨c_7, h⟩ := h
  refine r_aald C (t := 3) (j := (ix_ x1)) k_6 (by decide) rfl rfl c_7 rfl dX0_laysDays_8 (pc' := 9) rfl ?_
  obtain ⟨b_8, e_9, k_10, h⟩ := h
  refine r_ref [] e_9 ?_
  refine r_astore C (lv' := [(5, .ref b_8), (0, .ref a0), (1, .int x1), (2, .int x2), (3, .int x3), (4, .int x4)]) dX0_laysDays_9 (pc' := 11) rfl b_8 rfl (Nat.le_of_ble_eq_true rfl) rfl ?_
  refine r_aload_n C dX0_laysDays_11 (pc' := 12) rfl (j := 1) rfl ?_
  refine r_iload_n C dX0_laysDays_12 (pc' := 13) rfl (j := 2) rfl ?_
  obtain ⟨M_11, e_12, h⟩ := bn_ h
  refine r_putI C (Cn := RX0) (T := TX0) tyX0 14 k_a0 (by decide) vc_X0 in_X0 tyX0_ok nmX0 (by decide) q368 rfl rfl dX0_laysDays_13 (pc' := 16) rfl rfl rfl M_11 e_12 ?_
  refine r_aload_n C dX0_laysDays_16 (pc' := 17) rfl (j := 1) rfl ?_
  refine r_iload C dX0_laysDays_17 (pc' := 19) rfl (j := 5) rfl ?_
  obtain ⟨M_13, e_14, h⟩ := bn_ h
  refine r_putI C (Cn := RX0) (T := TX0) tyX0 15 (mMo.kd (mo_I e_12) k_a0 (by decide)) (by decide) vc_X0 in_X0 tyX0_ok nmX0 (by decide) q369 rfl rfl dX0_laysDays_19 (pc' := 22) rfl rfl rfl M_13 e_14 ?_
  refine r_aload_n C dX0_laysDays_22 (pc' := 23) rfl (j := 1) rfl ?_
  refine r_aload C dX0_laysDays_23 (pc' := 25) rfl (j := 0) rfl ?_
  refine r_getfN C (Cn := RX4) (T := TX4) 3 (mMo.kd (mo_I e_14) (mMo.kd (mo_I e_12) k_10 (by decide)) (by decide)) (by decide) vc_X4 in_X4 (by decide) (List.mem_of_getElem? (i := 8) rfl) dX0_laysDays_25 (pc' := 28) rfl (v := .int (mgI M_13 b_8 3)) rfl ?_
  obtain ⟨M_15, e_16, h⟩ := bn_ h
  refine r_putI C (Cn := RX0) (T := TX0) tyX0 16 (mMo.kd (mo_I e_14) (mMo.kd (mo_I e_12) k_a0 (by decide)) (by decide)) (by decide) vc_X0 in_X0 tyX0_ok nmX0 (by decide) q370 rfl rfl dX0_laysDays_28 (pc' := 31) rfl rfl rfl M_15 e_16 ?_
  refine r_aload_n C dX0_laysDays_31 (pc' := 32) rfl (j := 1) rfl ?_
  refine r_iload C dX0_laysDays_32 (pc' := 34) rfl (j := 5) rfl ?_
  refine r_aload C dX0_laysDays_34 (pc' := 36) rfl (j := 0) rfl ?_
  refine r_getfN C (Cn := RX4) (T := TX4) 2 (mMo.kd (mo_I e_16) (mMo.kd (mo_I e_14) (mMo.kd (mo_I e_12) k_10 (by decide)) (by decide)) (by decide)) (by decide) vc_X4 in_X4 (by decide) (List.mem_of_getElem? (i := 7) rfl) dX0_laysDays_36 (pc' := 39) rfl (v := .int (mgI M_15 b_8 2)) rfl ?_
  refine r_mmin C q885 q585 q113 q586 (Nat.le_of_ble_eq_true rfl) (Nat.le_of_ble_eq_true rfl) (Nat.le_of_ble_eq_true rfl) (Nat.le_of_ble_eq_true rfl) dX0_laysDays_39 (pc' := 42) rfl ?_
  obtain ⟨M_17, e_18, h⟩ := bn_ h
  refine r_putI C (Cn := RX0) (T := TX0) tyX0 17 (mMo.kd (mo_I e_16) (mMo.kd (mo_I e_14) (mMo.kd (mo_I e_12) k_a0 (by decide)) (by decide)) (by decide)) (by decide) vc_X0 in_X0 tyX0_ok nmX0 (by decide) q371 rfl rfl dX0_laysDays_42 (pc' := 45) rfl rfl rfl M_17 e_18 ?_
  refine r_aload_n C dX0_laysDays_45 (pc' := 46) rfl (j := 1) rfl ?_
  refine r_aload_n C dX0_laysDays_46 (pc' := 47) rfl (j := 1) rfl ?_
  refine r_getf C (Cn := RX0) (T := TX0) 1 (mMo.kd (mo_I e_18) (mMo.kd (mo_I e_16) (mMo.kd (mo_I e_14) (mMo.kd (mo_I e_12) k_a0 (by decide)) (by decide)) (by decide)) (by decide)) (by decide) vc_X0 in_X0 (by decide) q351 dX0_laysDays_47 (pc' := 50) rfl (v := va_rf (mgR M_17 a0 1)) rfl ?_
  obtain ⟨b_19, e_20, k_21, h⟩ := h
  refine r_ref [] e_20 ?_
  refine r_callVi (As := []) (rest := [.ref a0]) (Cn := RX3) (T := TX3) C k_21 (by decide) vc_X3 (S_X3_toldPeople k_21 h) (lw_V q957 q811 q812 q108 q813) rfl hd_X3_toldPeople rfl rfl (Nat.le_of_ble_eq_true rfl) (Nat.le_of_ble_eq_true rfl) (Nat.le_of_ble_eq_true rfl) rfl rfl (Nat.le_of_ble_eq_true rfl) (Nat.le_of_ble_eq_true rfl) dX0_laysDays_50 (pc' := 53) rfl (fun r_23 M_22 h m_24 => ?_)
  obtain ⟨M_25, e_26, h⟩ := bn_ h
  refine r_putI C (Cn := RX0) (T := TX0) tyX0 19 (mMo.kd m_24 (mMo.kd (mo_I e_18) (mMo.kd (mo_I e_16) (mMo.kd (mo_I e_14) (mMo.kd (mo_I e_12) k_a0 (by decide)) (by decide)) (by decide)) (by decide)) (by decide)) (by decide) vc_X0 in_X0 tyX0_ok nmX0 (by decide) q373 rfl rfl dX0_laysDays_53 (pc' := 56) rfl rfl rfl M_25 e_26 ?_
  refine r_aload_n C dX0_laysDays_56 (pc' := 57) rfl (j := 1) rfl ?_
  refine r_lconst C dX0_laysDays_57 (pc' := 58) rfl (v := 0) rfl ?_
  obtain ⟨M_27, e_28, h⟩ := bn_ h
  refine r_putL C (Cn := RX0) (T := TX0) tyX0 20 (mMo.kd (mo_I e_26) (mMo.kd m_24 (mMo.kd (mo_I e_18) (mMo.kd (mo_I e_16) (mMo.kd (mo_I e_14) (mMo.kd (mo_I e_12) k_a0 (by decide)) (by decide)) (by decide)) (by decide)) (by decide)) (by decide)) (by decide) vc_X0 in_X0 tyX0_ok nmX0 (by decide) q374 rfl rfl dX0_laysDays_58 (pc' := 61) rfl rfl rfl M_27 e_28 ?_
  refine r_aload_n C dX0_laysDays_61 (pc' := 62) rfl (j := 1) rfl ?_
  refine r_aload_n C dX0_laysDays_62 (pc' := 63) rfl (j := 1) rfl ?_
  refine r_getf C (Cn := RX0) (T := TX0) 9 (mMo.kd (mo_L e_28) (mMo.kd (mo_I e_26) (mMo.kd m_24 (mMo.kd (mo_I e_18) (mMo.kd (mo_I e_16) (mMo.kd (mo_I e_14) (mMo.kd (mo_I e_12) k_a0 (by decide)) (by decide)) (by decide)) (by decide)) (by decide)) (by decide)) (by decide)) (by decide) vc_X0 in_X0 (by decide) q363 dX0_laysDays_63 (pc' := 66) rfl (v := va_rf (mgR M_27 a0 9)) rfl ?_
  obtain ⟨b_29, e_30, k_31, h⟩ := h
  refine r_ref [] e_30 ?_
  refine r_callVv (As := [.ref b_29]) (rest := []) (Cn := RX0) (T := TX0) C (mMo.kd (mo_L e_28) (mMo.kd (mo_I e_26) (mMo.kd m_24 (mMo.kd (mo_I e_18) (mMo.kd (mo_I e_16) (mMo.kd (mo_I e_14) (mMo.kd (mo_I e_12) k_a0 (by decide)) (by decide)) (by decide)) (by decide)) (by decide)) (by decide)) (by decide)) (by decide) vc_X0 (S_X0_clears (mMo.kd (mo_L e_28) (mMo.kd (mo_I e_26) (mMo.kd m_24 (mMo.kd (mo_I e_18) (mMo.kd (mo_I e_16) (mMo.kd (mo_I e_14) (mMo.kd (mo_I e_12) k_a0 (by decide)) (by decide)) (by decide)) (by decide)) (by decide)) (by decide)) (by decide)) k_31 h) (lw_V q958 q960 qs23 q105 q961) rfl hd_X0_clears rfl rfl (Nat.le_of_ble_eq_true rfl) (Nat.le_of_ble_eq_true rfl) (Nat.le_of_ble_eq_true rfl) rfl rfl (Nat.le_of_ble_eq_true rfl) (Nat.le_of_ble_eq_true rfl) dX0_laysDays_66 (pc' := 69) rfl (fun M_32 h m_34 => ?_)
  refine r_aload_n C dX0_laysDays_69 (pc' := 70) rfl (j := 1) rfl ?_
  refine r_getf C (Cn := RX0) (T := TX0) 9 (mMo.kd m_34 (mMo.kd (mo_L e_28) (mMo.kd (mo_I e_26) (mMo.kd m_24 (mMo.kd (mo_I e_18) (mMo.kd (mo_I e_16) (mMo.kd (mo_I e_14) (mMo.kd (mo_I e_12) k_a0 (by decide)) (by decide)) (by decide)) (by decide)) (by decide)) (by decide)) (by decide)) (by decide)) (by decide) vc_X0 in_X0 (by decide) q363 dX0_laysDays_70 (pc' := 73) rfl (v := va_rf (mgR M_32 a0 9)) rfl ?_
  obtain ⟨b_35, e_36, k_37, h⟩ := h
  refine r_ref [] e_36 ?_
  refine r_aload_n C dX0_laysDays_73 (pc' := 74) rfl (j := 1) rfl ?_
  refine r_getf C (Cn := RX0) (T := TX0) 17 (mMo.kd m_34 (mMo.kd (mo_L e_28) (mMo.kd (mo_I e_26) (mMo.kd m_24 (mMo.kd (mo_I e_18) (mMo.kd (mo_I e_16) (mMo.kd (mo_I e_14) (mMo.kd (mo_I e_12) k_a0 (by decide)) (by decide)) (by decide)) (by decide)) (by decide)) (by decide)) (by decide)) (by decide)) (by decide) vc_X0 in_X0 (by decide) q371 dX0_laysDays_74 (pc' := 77) rfl (v := .int (mgI M_32 a0 17)) rfl ?_
  obtain ⟨c_38, h⟩ := h
  refine r_aald C (t := 9) (j := (ix_ (mgI M_32 a0 17))) k_37 (by decide) rfl rfl c_38 rfl dX0_laysDays_77 (pc' := 78) rfl ?_
  obtain ⟨b_39, e_40, k_41, h⟩ := h
  refine r_ref [] e_40 ?_
  refine r_aload C dX0_laysDays_78 (pc' := 80) rfl (j := 0) rfl ?_
  refine r_getfN C (Cn := RX4) (T := TX4) 5 (mMo.kd m_34 (mMo.kd (mo_L e_28) (mMo.kd (mo_I e_26) (mMo.kd m_24 (mMo.kd (mo_I e_18) (mMo.kd (mo_I e_16) (mMo.kd (mo_I e_14) (mMo.kd (mo_I e_12) k_10 (by decide)) (by decide)) (by decide)) (by decide)) (by decide)) (by decide)) (by decide)) (by decide)) (by decide) vc_X4 in_X4 (by decide) (List.mem_of_getElem? (i := 10) rfl) dX0_laysDays_80 (pc' := 83) rfl (v := .int (mgI M_32 b_8 5)) rfl ?_
  refine r_if_le C dX0_laysDays_83 (pc' := 86) rfl (tgt := 97) (by decide) (fun c_42 => ?_) (fun c_42 => ?_)
  · have h := it_t h c_42
    refine r_aload C dX0_laysDays_97 (pc' := 99) rfl (j := 0) rfl ?_
    refine r_getfN C (Cn := RX4) (T := TX4) 4 (mMo.kd m_34 (mMo.kd (mo_L e_28) (mMo.kd (mo_I e_26) (mMo.kd m_24 (mMo.kd (mo_I e_18) (mMo.kd (mo_I e_16) (mMo.kd (mo_I e_14) (mMo.kd (mo_I e_12) k_10 (by decide)) (by decide)) (by decide)) (by decide)) (by decide)) (by decide)) (by decide)) (by decide)) (by decide) vc_X4 in_X4 (by decide) (List.mem_of_getElem? (i := 9) rfl) dX0_laysDays_99 (pc' := 102) rfl (v := .int (mgI M_32 b_8 4)) rfl ?_
    refine r_sub (lv' := [(0, .ref a0), (2, .int x2), (3, .int x3)]) [1, 3, 4] rfl ?_
    exact B_X0_laysDays_102 C hE (mMo.kd m_34 (mMo.kd (mo_L e_28) (mMo.kd (mo_I e_26) (mMo.kd m_24 (mMo.kd (mo_I e_18) (mMo.kd (mo_I e_16) (mMo.kd (mo_I e_14) (mMo.kd (mo_I e_12) k_a0 (by decide)) (by decide)) (by decide)) (by decide)) (by decide)) (by decide)) (by decide)) (by decide)) k_41 h
  · have h := it_f h c_42
    refine r_bipush C dX0_laysDays_86 (pc' := 88) rfl (v := 10) rfl ?_
    refine r_aload C dX0_laysDays_88 (pc' := 90) rfl (j := 0) rfl ?_
    refine r_getfN C (Cn := RX4) (T := TX4) 5 (mMo.kd m_34 (mMo.kd (mo_L e_28) (mMo.kd (mo_I e_26) (mMo.kd m_24 (mMo.kd (mo_I e_18) (mMo.kd (mo_I e_16) (mMo.kd (mo_I e_14) (mMo.kd (mo_I e_12) k_10 (by decide)) (by decide)) (by decide)) (by decide)) (by decide)) (by decide)) (by decide)) (by decide)) (by decide) vc_X4 in_X4 (by decide) (List.mem_of_getElem? (i := 10) rfl) dX0_laysDays_90 (pc' := 93) rfl (v := .int (mgI M_32 b_8 5)) rfl ?_
    refine r_iadd C dX0_laysDays_93 (pc' := 94) rfl ?_
    refine r_goto C dX0_laysDays_94 (tgt := 102) (by decide) ?_
    refine r_sub (lv' := [(0, .ref a0), (2, .int x2), (3, .int x3)]) [1, 3, 4] rfl ?_
    exact B_X0_laysDays_102 C hE (mMo.kd m_34 (mMo.kd (mo_L e_28) (mMo.kd (mo_I e_26) (mMo.kd m_24 (mMo.kd (mo_I e_18) (mMo.kd (mo_I e_16) (mMo.kd (mo_I e_14) (mMo.kd (mo_I e_12) k_a0 (by decide)) (by decide)) (by decide)) (by decide)) (by decide)) (by decide)) (by decide)) (by decide)) k_41 h
set_option maxHeartbeats 4000000 in
theorem B_X0_exactly_62 {E : mE} {a0 : Nat} {x4 : Int32} {X90 : MM → Int64 → Prop} {Post : Int64 → MM → Prop} (C : mC E yX0_exactly cX0_exactly 8 ((some .long)) { frames := 205, cells := 0, slots := 0, locals := 5527 }) (hE : mEnd E { frames := 205, cells := 0, slots := 0, locals := 5527 } (pL_ Post)) : ∀ (n_ : Nat) (M : MM) (x5 : Int64) (x7 : Int32), mkd M a0 = 1 → wl_X0_exactly_62 a0 x4 X90 n_ M x5 x7 → (∀ (M' : MM) (x5' : Int64), mMo M M' → X90 M' x5' → mV E M' 0 0 90 [(5, .long x5')] []) → mV E M 0 0 62 [(0, .ref a0), (4, .int x4), (5, .long x5), (7, .int x7)] [] := by
  intro n_
  induction n_ with
  | zero =>
    intro M x5 x7 k_a0 h hX90
    exact absurd h (by rw [wl_X0_exactly_62]; exact fun q => q)
  | succ n_ ih =>
    intro M x5 x7 k_a0 h hX90
    rw [wl_X0_exactly_62] at h
    refine r_iload C dX0_exactly_62 (pc' := 64) rfl (j := 3) rfl ?_
    refine r_bipush C dX0_exactly_64 (pc' := 66) rfl (v := 20) rfl ?_
    refine r_icmp_ge C dX0_exactly_66 (pc' := 69) rfl (tgt := 90) (by decide) (fun c_23 => ?_) (fun c_23 => ?_)
    · have h := it_t h c_23
      refine r_sub (lv' := [(5, .long x5)]) [2] rfl ?_
      exact hX90 M x5 mMo.rf h
    · have h := it_f h c_23
      refine r_lload C dX0_exactly_69 (pc' := 71) rfl (j := 2) rfl ?_
      refine r_aload_n C dX0_exactly_71 (pc' := 72) rfl (j := 0) rfl ?_
      refine r_getf C (Cn := RX0) (T := TX0) 9 k_a0 (by decide) vc_X0 in_X0 (by decide) q363 dX0_exactly_72 (pc' := 75) rfl (v := va_rf (mgR M a0 9)) rfl ?_
      obtain ⟨b_24, e_25, k_26, h⟩ := h
      refine r_ref [] e_25 ?_
      refine r_iload C dX0_exactly_75 (pc' := 77) rfl (j := 1) rfl ?_
      obtain ⟨c_27, h⟩ := h
      refine r_aald C (t := 9) (j := (ix_ x4)) k_26 (by decide) rfl rfl c_27 rfl dX0_exactly_77 (pc' := 78) rfl ?_
      obtain ⟨b_28, e_29, k_30, h⟩ := h
      refine r_ref [] e_29 ?_
      refine r_iload C dX0_exactly_78 (pc' := 80) rfl (j := 3) rfl ?_
      obtain ⟨c_31, h⟩ := h
      refine r_lald C (j := (ix_ x7)) k_30 c_31 rfl dX0_exactly_80 (pc' := 81) rfl ?_
      refine r_ladd C dX0_exactly_81 (pc' := 82) rfl ?_
      obtain ⟨x5_32, e_33, h⟩ := bn_ h
      refine r_lstore C (lv' := [(5, .long x5_32), (0, .ref a0), (4, .int x4), (7, .int x7)]) dX0_exactly_82 (pc' := 84) rfl x5_32 e_33 (Nat.le_of_ble_eq_true rfl) rfl ?_
      obtain ⟨x7_34, e_35, h⟩ := bn_ h
      refine r_iinc C (lv' := [(7, .int x7_34), (5, .long x5_32), (0, .ref a0), (4, .int x4)]) dX0_exactly_84 (pc' := 87) rfl (j := 3) rfl x7_34 (by rw [e_35]; rfl) (Nat.le_of_ble_eq_true rfl) rfl ?_
      refine r_goto C dX0_exactly_87 (tgt := 62) (by decide) ?_
      refine r_sub (lv' := [(0, .ref a0), (4, .int x4), (5, .long x5_32), (7, .int x7_34)]) [2, 3, 1, 0] rfl ?_
      exact ih M x5_32 x7_34 k_a0 h (fun M9 w0 hm9 h9 => hX90 M9 w0 hm9 h9)
set_option maxHeartbeats 4000000 in
theorem S_X0_exactly {D : DD} {l : Launch} {M : MM} {a0 : Nat} {x1 : Int32} {x2 : Int32} {x3 : Int32} {x4 : Int32} {Post : Int64 → MM → Prop} (k_a0 : mkd M a0 = 1) (h : wp_X0_exactly M a0 x1 x2 x3 x4 Post) : mMet D l yX0_exactly cX0_exactly 8 ((some .long)) { frames := 205, cells := 0, slots := 0, locals := 5527 } M [.ref a0, .int x1, .int x2, .int x3, .int x4] (pL_ Post) := by
  refine m_of2 [(0, .ref a0), (1, .int x1), (2, .int x2), (3, .int x3), (4, .int x4)] (by decide +kernel) (Nat.le_of_ble_eq_true rfl) rfl (fun E hED hEl C hE => ?_)
  subst hED
  subst hEl
  unfold wp_X0_exactly at h
  refine r_aload_n C dX0_exactly_0 (pc' := 1) rfl (j := 0) rfl ?_
  refine r_iload_n C dX0_exactly_1 (pc' := 2) rfl (j := 1) rfl ?_
  refine r_iload_n C dX0_exactly_2 (pc' := 3) rfl (j := 2) rfl ?_
  refine r_iload_n C dX0_exactly_3 (pc' := 4) rfl (j := 3) rfl ?_
  refine r_callVi (As := [.int x1, .int x2, .int x3]) (rest := []) (Cn := RX0) (T := TX0) C k_a0 (by decide) vc_X0 (S_X0_canLay k_a0 h) (lw_V q944 q946 qs20 q105 q947) rfl hd_X0_canLay rfl rfl (Nat.le_of_ble_eq_true rfl) (Nat.le_of_ble_eq_true rfl) (Nat.le_of_ble_eq_true rfl) rfl rfl (Nat.le_of_ble_eq_true rfl) (Nat.le_of_ble_eq_true rfl) dX0_exactly_4 (pc' := 7) rfl (fun r_2 M_1 h m_3 => ?_)
  refine r_if_eq C dX0_exactly_7 (pc' := 10) rfl (tgt := 21) (by decide) (fun c_4 => ?_) (fun c_4 => ?_)
  · have h := it_t h c_4
    refine r_ldc2 C dX0_exactly_21 (pc' := 24) rfl q952 ?_
    exact r_lret C hE (Nat.le_of_ble_eq_true rfl) (Nat.le_of_ble_eq_true rfl) dX0_exactly_24 ⟨_, rfl, h⟩
  · have h := it_f h c_4
    refine r_iload C dX0_exactly_10 (pc' := 12) rfl (j := 4) rfl ?_
    refine r_iconst C dX0_exactly_12 (pc' := 13) rfl (v := -1) rfl ?_
    refine r_bipush C dX0_exactly_13 (pc' := 15) rfl (v := 24) rfl ?_
    refine r_callSi (As := [.int x4, .int (-1 : Int32), .int (24 : Int32)]) (rest := []) C (S_X0_within h) (lw_S q462 q463 q105 q464) hd_X0_within rfl rfl (Nat.le_of_ble_eq_true rfl) (Nat.le_of_ble_eq_true rfl) (Nat.le_of_ble_eq_true rfl) rfl rfl (Nat.le_of_ble_eq_true rfl) (Nat.le_of_ble_eq_true rfl) dX0_exactly_15 (pc' := 18) rfl (fun r_6 M_5 h m_7 => ?_)
    refine r_if_ne C dX0_exactly_18 (pc' := 21) rfl (tgt := 25) (by decide) (fun c_8 => ?_) (fun c_8 => ?_)
    · have h := it_f h c_8
      refine r_aload_n C dX0_exactly_25 (pc' := 26) rfl (j := 0) rfl ?_
      refine r_iload_n C dX0_exactly_26 (pc' := 27) rfl (j := 1) rfl ?_
      refine r_iload_n C dX0_exactly_27 (pc' := 28) rfl (j := 2) rfl ?_
      refine r_iload_n C dX0_exactly_28 (pc' := 29) rfl (j := 3) rfl ?_
      refine r_aload_n C dX0_exactly_29 (pc' := 30) rfl (j := 0) rfl ?_
      refine r_getf C (Cn := RX0) (T := TX0) 1 (mMo.kd m_7 (mMo.kd m_3 k_a0 (by decide)) (by decide)) (by decide) vc_X0 in_X0 (by decide) q351 dX0_exactly_30 (pc' := 33) rfl (v := va_rf (mgR M_5 a0 1)) rfl ?_
      obtain ⟨b_9, e_10, k_11, h⟩ := h
      refine r_ref [] e_10 ?_
      refine r_getfN C (Cn := RX3) (T := TX3) 0 k_11 (by decide) vc_X3 in_X3 (by decide) (List.mem_of_getElem? (i := 0) rfl) dX0_exactly_33 (pc' := 36) rfl (v := va_rf (mgR M_5 b_9 0)) rfl ?_
      obtain ⟨b_12, e_13, k_14, h⟩ := h
      refine r_ref [] e_13 ?_
      refine r_iload_n C dX0_exactly_36 (pc' := 37) rfl (j := 1) rfl ?_
      obtain ⟨c_15, h⟩ := h
      refine r_aald C (t := 3) (j := (ix_ x1)) k_14 (by decide) rfl rfl c_15 rfl dX0_exactly_37 (pc' := 38) rfl ?_
      obtain ⟨b_16, e_17, k_18, h⟩ := h
      refine r_ref [] e_17 ?_
      refine r_getfN C (Cn := RX4) (T := TX4) 1 k_18 (by decide) vc_X4 in_X4 (by decide) (List.mem_of_getElem? (i := 6) rfl) dX0_exactly_38 (pc' := 41) rfl (v := .int (mgI M_5 b_16 1)) rfl ?_
      refine r_callVl (As := [.int x1, .int x2, .int x3, .int (mgI M_5 b_16 1)]) (rest := []) (Cn := RX0) (T := TX0) C (mMo.kd m_7 (mMo.kd m_3 k_a0 (by decide)) (by decide)) (by decide) vc_X0 (S_X0_laysDays (mMo.kd m_7 (mMo.kd m_3 k_a0 (by decide)) (by decide)) h) (lw_V q953 q955 qs22 q105 q956) rfl hd_X0_laysDays rfl rfl (Nat.le_of_ble_eq_true rfl) (Nat.le_of_ble_eq_true rfl) (Nat.le_of_ble_eq_true rfl) rfl rfl (Nat.le_of_ble_eq_true rfl) (Nat.le_of_ble_eq_true rfl) dX0_exactly_41 (pc' := 44) rfl (fun r_20 M_19 h m_21 => ?_)
      refine r_pop2_2 C dX0_exactly_44 (pc' := 45) rfl rfl ?_
      refine r_iload C dX0_exactly_45 (pc' := 47) rfl (j := 4) rfl ?_
      refine r_iconst C dX0_exactly_47 (pc' := 48) rfl (v := -1) rfl ?_
      refine r_icmp_ne C dX0_exactly_48 (pc' := 51) rfl (tgt := 56) (by decide) (fun c_22 => ?_) (fun c_22 => ?_)
      · have h := it_f h c_22
        refine r_lconst C dX0_exactly_56 (pc' := 57) rfl (v := 0) rfl ?_
        refine r_lstore C (lv' := [(5, .long (0 : Int64)), (0, .ref a0), (1, .int x1), (2, .int x2), (3, .int x3), (4, .int x4)]) dX0_exactly_57 (pc' := 59) rfl (0 : Int64) rfl (Nat.le_of_ble_eq_true rfl) rfl ?_
        refine r_iconst C dX0_exactly_59 (pc' := 60) rfl (v := 0) rfl ?_
        refine r_istore C (lv' := [(7, .int (0 : Int32)), (5, .long (0 : Int64)), (0, .ref a0), (1, .int x1), (2, .int x2), (3, .int x3), (4, .int x4)]) dX0_exactly_60 (pc' := 62) rfl (0 : Int32) rfl (Nat.le_of_ble_eq_true rfl) rfl ?_
        obtain ⟨n_36, h⟩ := h
        refine r_sub (lv' := [(0, .ref a0), (4, .int x4), (5, .long (0 : Int64)), (7, .int (0 : Int32))]) [2, 6, 1, 0] rfl ?_
        refine B_X0_exactly_62 C hE n_36 M_19 (0 : Int64) (0 : Int32) (mMo.kd m_21 (mMo.kd m_7 (mMo.kd m_3 k_a0 (by decide)) (by decide)) (by decide)) h (fun M_37 x5_39 m_38 h => ?_)
        refine r_lload C dX0_exactly_90 (pc' := 92) rfl (j := 0) rfl ?_
        exact r_lret C hE (Nat.le_of_ble_eq_true rfl) (Nat.le_of_ble_eq_true rfl) dX0_exactly_92 ⟨_, rfl, h⟩
      · have h := it_t h c_22
        refine r_aload_n C dX0_exactly_51 (pc' := 52) rfl (j := 0) rfl ?_
        refine r_getf C (Cn := RX0) (T := TX0) 20 (mMo.kd m_21 (mMo.kd m_7 (mMo.kd m_3 k_a0 (by decide)) (by decide)) (by decide)) (by decide) vc_X0 in_X0 (by decide) q374 dX0_exactly_52 (pc' := 55) rfl (v := .long (mgL M_19 a0 20)) rfl ?_
        exact r_lret C hE (Nat.le_of_ble_eq_true rfl) (Nat.le_of_ble_eq_true rfl) dX0_exactly_55 ⟨_, rfl, h⟩
    · have h := it_t h c_8
      refine r_ldc2 C dX0_exactly_21 (pc' := 24) rfl q952 ?_
      exact r_lret C hE (Nat.le_of_ble_eq_true rfl) (Nat.le_of_ble_eq_true rfl) dX0_exactly_24 ⟨_, rfl, h⟩
set_option maxHeartbeats 4000000 in
theorem B_X0_chance_44 {E : mE} {a0 : Nat} {x1 : Int32} {x2 : Int32} {x3 : Int32} {x4 : Int32} {x5 : Int32} {x6 : Int64} {x8 : Int32} {X65 : MM → Prop} {Post : Int64 → MM → Prop} (C : mC E yX0_chance cX0_chance 11 ((some .long)) { frames := 205, cells := 0, slots := 0, locals := 5527 }) (hE : mEnd E { frames := 205, cells := 0, slots := 0, locals := 5527 } (pL_ Post)) : ∀ (n_ : Nat) (M : MM) (x9 : Int32), mkd M a0 = 1 → wl_X0_chance_44 a0 x1 x2 x3 x4 x5 x6 x8 X65 n_ M x9 → (∀ (M' : MM), mMo M M' → X65 M' → mV E M' 0 0 65 [(0, .ref a0), (1, .int x1), (2, .int x2), (3, .int x3), (4, .int x4), (5, .int x5), (6, .long x6), (8, .int x8)] []) → mV E M 0 0 44 [(0, .ref a0), (1, .int x1), (2, .int x2), (3, .int x3), (4, .int x4), (5, .int x5), (6, .long x6), (8, .int x8), (9, .int x9)] [] := by
  intro n_
  induction n_ with
  | zero =>
    intro M x9 k_a0 h hX65
    exact absurd h (by rw [wl_X0_chance_44]; exact fun q => q)
  | succ n_ ih =>
    intro M x9 k_a0 h hX65
    rw [wl_X0_chance_44] at h
    refine r_iload C dX0_chance_44 (pc' := 46) rfl (j := 8) rfl ?_
    refine r_iload_n C dX0_chance_46 (pc' := 47) rfl (j := 3) rfl ?_
    refine r_icmp_ge C dX0_chance_47 (pc' := 50) rfl (tgt := 65) (by decide) (fun c_10 => ?_) (fun c_10 => ?_)
    · have h := it_t h c_10
      refine r_sub (lv' := [(0, .ref a0), (1, .int x1), (2, .int x2), (3, .int x3), (4, .int x4), (5, .int x5), (6, .long x6), (8, .int x8)]) [0, 1, 2, 3, 4, 5, 6, 7] rfl ?_
      exact hX65 M mMo.rf h
    · have h := it_f h c_10
      refine r_aload_n C dX0_chance_50 (pc' := 51) rfl (j := 0) rfl ?_
      refine r_getf C (Cn := RX0) (T := TX0) 12 k_a0 (by decide) vc_X0 in_X0 (by decide) q366 dX0_chance_51 (pc' := 54) rfl (v := va_rf (mgR M a0 12)) rfl ?_
      obtain ⟨b_11, e_12, k_13, h⟩ := h
      refine r_ref [] e_12 ?_
      refine r_iload C dX0_chance_54 (pc' := 56) rfl (j := 8) rfl ?_
      refine r_iload C dX0_chance_56 (pc' := 58) rfl (j := 7) rfl ?_
      obtain ⟨c_14, h⟩ := h
      obtain ⟨M_15, e_16, h⟩ := bn_ h
      refine r_iast C (j := (ix_ x9)) k_13 c_14 rfl dX0_chance_58 (pc' := 59) rfl M_15 e_16 ?_
      obtain ⟨x9_17, e_18, h⟩ := bn_ h
      refine r_iinc C (lv' := [(9, .int x9_17), (0, .ref a0), (1, .int x1), (2, .int x2), (3, .int x3), (4, .int x4), (5, .int x5), (6, .long x6), (8, .int x8)]) dX0_chance_59 (pc' := 62) rfl (j := 8) rfl x9_17 (by rw [e_18]; rfl) (Nat.le_of_ble_eq_true rfl) rfl ?_
      refine r_goto C dX0_chance_62 (tgt := 44) (by decide) ?_
      refine r_sub (lv' := [(0, .ref a0), (1, .int x1), (2, .int x2), (3, .int x3), (4, .int x4), (5, .int x5), (6, .long x6), (8, .int x8), (9, .int x9_17)]) [1, 2, 3, 4, 5, 6, 7, 8, 0] rfl ?_
      exact ih M_15 x9_17 (mMo.kd (mo_I e_16) k_a0 (by decide)) h (fun M9 hm9 h9 => hX65 M9 (mMo.tr (mo_I e_16) hm9) h9)
set_option maxHeartbeats 4000000 in
theorem B_X0_chance_34 {E : mE} {a0 : Nat} {x1 : Int32} {x2 : Int32} {x3 : Int32} {x4 : Int32} {X111 : MM → Int32 → Int64 → Prop} {Post : Int64 → MM → Prop} (C : mC E yX0_chance cX0_chance 11 ((some .long)) { frames := 205, cells := 0, slots := 0, locals := 5527 }) (hE : mEnd E { frames := 205, cells := 0, slots := 0, locals := 5527 } (pL_ Post)) : ∀ (n_ : Nat) (M : MM) (x5 : Int32) (x6 : Int64) (x8 : Int32), mkd M a0 = 1 → wl_X0_chance_34 a0 x1 x2 x3 x4 X111 n_ M x5 x6 x8 → (∀ (M' : MM) (x5' : Int32) (x6' : Int64), mMo M M' → X111 M' x5' x6' → mV E M' 0 0 111 [(4, .int x4), (5, .int x5'), (6, .long x6')] []) → mV E M 0 0 34 [(0, .ref a0), (1, .int x1), (2, .int x2), (3, .int x3), (4, .int x4), (5, .int x5), (6, .long x6), (8, .int x8)] [] := by
  intro n_
  induction n_ with
  | zero =>
    intro M x5 x6 x8 k_a0 h hX111
    exact absurd h (by rw [wl_X0_chance_34]; exact fun q => q)
  | succ n_ ih =>
    intro M x5 x6 x8 k_a0 h hX111
    rw [wl_X0_chance_34] at h
    refine r_iload C dX0_chance_34 (pc' := 36) rfl (j := 7) rfl ?_
    refine r_bipush C dX0_chance_36 (pc' := 38) rfl (v := 10) rfl ?_
    refine r_icmp_gt C dX0_chance_38 (pc' := 41) rfl (tgt := 111) (by decide) (fun c_9 => ?_) (fun c_9 => ?_)
    · have h := it_t h c_9
      refine r_sub (lv' := [(4, .int x4), (5, .int x5), (6, .long x6)]) [4, 5, 6] rfl ?_
      exact hX111 M x5 x6 mMo.rf h
    · have h := it_f h c_9
      refine r_iconst C dX0_chance_41 (pc' := 42) rfl (v := 0) rfl ?_
      refine r_istore C (lv' := [(9, .int (0 : Int32)), (0, .ref a0), (1, .int x1), (2, .int x2), (3, .int x3), (4, .int x4), (5, .int x5), (6, .long x6), (8, .int x8)]) dX0_chance_42 (pc' := 44) rfl (0 : Int32) rfl (Nat.le_of_ble_eq_true rfl) rfl ?_
      obtain ⟨n_19, h⟩ := h
      refine r_sub (lv' := [(0, .ref a0), (1, .int x1), (2, .int x2), (3, .int x3), (4, .int x4), (5, .int x5), (6, .long x6), (8, .int x8), (9, .int (0 : Int32))]) [1, 2, 3, 4, 5, 6, 7, 8, 0] rfl ?_
      refine B_X0_chance_44 C hE n_19 M (0 : Int32) k_a0 h (fun M_20 m_21 h => ?_)
      refine r_aload_n C dX0_chance_65 (pc' := 66) rfl (j := 0) rfl ?_
      refine r_iload_n C dX0_chance_66 (pc' := 67) rfl (j := 1) rfl ?_
      refine r_iload_n C dX0_chance_67 (pc' := 68) rfl (j := 2) rfl ?_
      refine r_iload_n C dX0_chance_68 (pc' := 69) rfl (j := 3) rfl ?_
      refine r_aload_n C dX0_chance_69 (pc' := 70) rfl (j := 0) rfl ?_
      refine r_getf C (Cn := RX0) (T := TX0) 1 (mMo.kd m_21 k_a0 (by decide)) (by decide) vc_X0 in_X0 (by decide) q351 dX0_chance_70 (pc' := 73) rfl (v := va_rf (mgR M_20 a0 1)) rfl ?_
      obtain ⟨b_22, e_23, k_24, h⟩ := h
      refine r_ref [] e_23 ?_
      refine r_getfN C (Cn := RX3) (T := TX3) 0 k_24 (by decide) vc_X3 in_X3 (by decide) (List.mem_of_getElem? (i := 0) rfl) dX0_chance_73 (pc' := 76) rfl (v := va_rf (mgR M_20 b_22 0)) rfl ?_
      obtain ⟨b_25, e_26, k_27, h⟩ := h
      refine r_ref [] e_26 ?_
      refine r_iload_n C dX0_chance_76 (pc' := 77) rfl (j := 1) rfl ?_
      obtain ⟨c_28, h⟩ := h
      refine r_aald C (t := 3) (j := (ix_ x1)) k_27 (by decide) rfl rfl c_28 rfl dX0_chance_77 (pc' := 78) rfl ?_
      obtain ⟨b_29, e_30, k_31, h⟩ := h
      refine r_ref [] e_30 ?_
      refine r_getfN C (Cn := RX4) (T := TX4) 1 k_31 (by decide) vc_X4 in_X4 (by decide) (List.mem_of_getElem? (i := 6) rfl) dX0_chance_78 (pc' := 81) rfl (v := .int (mgI M_20 b_29 1)) rfl ?_
      refine r_callVl (As := [.int x1, .int x2, .int x3, .int (mgI M_20 b_29 1)]) (rest := []) (Cn := RX0) (T := TX0) C (mMo.kd m_21 k_a0 (by decide)) (by decide) vc_X0 (S_X0_laysDays (mMo.kd m_21 k_a0 (by decide)) h) (lw_V q953 q955 qs22 q105 q956) rfl hd_X0_laysDays rfl rfl (Nat.le_of_ble_eq_true rfl) (Nat.le_of_ble_eq_true rfl) (Nat.le_of_ble_eq_true rfl) rfl rfl (Nat.le_of_ble_eq_true rfl) (Nat.le_of_ble_eq_true rfl) dX0_chance_81 (pc' := 84) rfl (fun r_33 M_32 h m_34 => ?_)
      refine r_lstore C (lv' := [(9, .long r_33), (0, .ref a0), (1, .int x1), (2, .int x2), (3, .int x3), (4, .int x4), (5, .int x5), (6, .long x6), (8, .int x8)]) dX0_chance_84 (pc' := 86) rfl r_33 rfl (Nat.le_of_ble_eq_true rfl) rfl ?_
      refine r_lload C dX0_chance_86 (pc' := 88) rfl (j := 0) rfl ?_
      refine r_lload C dX0_chance_88 (pc' := 90) rfl (j := 7) rfl ?_
      refine r_lc_gt C dX0_chance_90 (pc1 := 91) (pc' := 94) rfl dX0_chance_91 rfl (tgt := 97) (by decide) (fun c_35 => ?_) (fun c_35 => ?_)
      · have h := it_t h c_35
        refine r_iload C dX0_chance_97 (pc' := 99) rfl (j := 8) rfl ?_
        refine r_istore C (lv' := [(5, .int x8), (9, .long r_33), (0, .ref a0), (1, .int x1), (2, .int x2), (3, .int x3), (4, .int x4), (6, .long x6), (8, .int x8)]) dX0_chance_99 (pc' := 101) rfl x8 rfl (Nat.le_of_ble_eq_true rfl) rfl ?_
        refine r_lload C dX0_chance_101 (pc' := 103) rfl (j := 1) rfl ?_
        refine r_lstore C (lv' := [(6, .long r_33), (5, .int x8), (9, .long r_33), (0, .ref a0), (1, .int x1), (2, .int x2), (3, .int x3), (4, .int x4), (8, .int x8)]) dX0_chance_103 (pc' := 105) rfl r_33 rfl (Nat.le_of_ble_eq_true rfl) rfl ?_
        obtain ⟨x8_36, e_37, h⟩ := bn_ h
        refine r_iinc C (lv' := [(8, .int x8_36), (6, .long r_33), (5, .int x8), (9, .long r_33), (0, .ref a0), (1, .int x1), (2, .int x2), (3, .int x3), (4, .int x4)]) dX0_chance_105 (pc' := 108) rfl (j := 8) rfl x8_36 (by rw [e_37]; rfl) (Nat.le_of_ble_eq_true rfl) rfl ?_
        refine r_goto C dX0_chance_108 (tgt := 34) (by decide) ?_
        refine r_sub (lv' := [(0, .ref a0), (1, .int x1), (2, .int x2), (3, .int x3), (4, .int x4), (5, .int x8), (6, .long r_33), (8, .int x8_36)]) [4, 5, 6, 7, 8, 2, 1, 0] rfl ?_
        exact ih M_32 x8 r_33 x8_36 (mMo.kd m_34 (mMo.kd m_21 k_a0 (by decide)) (by decide)) h (fun M9 w0 w1 hm9 h9 => hX111 M9 w0 w1 (mMo.tr (mMo.tr m_21 m_34) hm9) h9)
      · have h := it_f h c_35
        refine r_goto C dX0_chance_94 (tgt := 105) (by decide) ?_
        obtain ⟨x8_38, e_39, h⟩ := bn_ h
        refine r_iinc C (lv' := [(8, .int x8_38), (9, .long r_33), (0, .ref a0), (1, .int x1), (2, .int x2), (3, .int x3), (4, .int x4), (5, .int x5), (6, .long x6)]) dX0_chance_105 (pc' := 108) rfl (j := 8) rfl x8_38 (by rw [e_39]; rfl) (Nat.le_of_ble_eq_true rfl) rfl ?_
        refine r_goto C dX0_chance_108 (tgt := 34) (by decide) ?_
        refine r_sub (lv' := [(0, .ref a0), (1, .int x1), (2, .int x2), (3, .int x3), (4, .int x4), (5, .int x5), (6, .long x6), (8, .int x8_38)]) [2, 3, 4, 5, 6, 7, 8, 0] rfl ?_
        exact ih M_32 x5 x6 x8_38 (mMo.kd m_34 (mMo.kd m_21 k_a0 (by decide)) (by decide)) h (fun M9 w0 w1 hm9 h9 => hX111 M9 w0 w1 (mMo.tr (mMo.tr m_21 m_34) hm9) h9)
set_option maxHeartbeats 4000000 in
theorem S_X0_chance {D : DD} {l : Launch} {M : MM} {a0 : Nat} {x1 : Int32} {x2 : Int32} {x3 : Int32} {x4 : Int32} {Post : Int64 → MM → Prop} (k_a0 : mkd M a0 = 1) (h : wp_X0_chance M a0 x1 x2 x3 x4 Post) : mMet D l yX0_chance cX0_chance 11 ((some .long)) { frames := 205, cells := 0, slots := 0, locals := 5527 } M [.ref a0, .int x1, .int x2, .int x3, .int x4] (pL_ Post) := by
  refine m_of2 [(0, .ref a0), (1, .int x1), (2, .int x2), (3, .int x3), (4, .int x4)] (by decide +kernel) (Nat.le_of_ble_eq_true rfl) rfl (fun E hED hEl C hE => ?_)
  subst hED
  subst hEl
  unfold wp_X0_chance at h
  refine r_aload_n C dX0_chance_0 (pc' := 1) rfl (j := 0) rfl ?_
  refine r_iload_n C dX0_chance_1 (pc' := 2) rfl (j := 1) rfl ?_
  refine r_iload_n C dX0_chance_2 (pc' := 3) rfl (j := 2) rfl ?_
  refine r_iload_n C dX0_chance_3 (pc' := 4) rfl (j := 3) rfl ?_
  refine r_callVi (As := [.int x1, .int x2, .int x3]) (rest := []) (Cn := RX0) (T := TX0) C k_a0 (by decide) vc_X0 (S_X0_canLay k_a0 h) (lw_V q944 q946 qs20 q105 q947) rfl hd_X0_canLay rfl rfl (Nat.le_of_ble_eq_true rfl) (Nat.le_of_ble_eq_true rfl) (Nat.le_of_ble_eq_true rfl) rfl rfl (Nat.le_of_ble_eq_true rfl) (Nat.le_of_ble_eq_true rfl) dX0_chance_4 (pc' := 7) rfl (fun r_2 M_1 h m_3 => ?_)
  refine r_if_eq C dX0_chance_7 (pc' := 10) rfl (tgt := 19) (by decide) (fun c_4 => ?_) (fun c_4 => ?_)
  · have h := it_t h c_4
    refine r_ldc2 C dX0_chance_19 (pc' := 22) rfl q952 ?_
    exact r_lret C hE (Nat.le_of_ble_eq_true rfl) (Nat.le_of_ble_eq_true rfl) dX0_chance_22 ⟨_, rfl, h⟩
  · have h := it_f h c_4
    refine r_iload C dX0_chance_10 (pc' := 12) rfl (j := 4) rfl ?_
    refine r_iconst C dX0_chance_12 (pc' := 13) rfl (v := 2) rfl ?_
    refine r_callSi (As := [.int x4, .int (2 : Int32)]) (rest := []) C (S_X0_in h) (lw_S q459 q460 q105 q461) hd_X0_in rfl rfl (Nat.le_of_ble_eq_true rfl) (Nat.le_of_ble_eq_true rfl) (Nat.le_of_ble_eq_true rfl) rfl rfl (Nat.le_of_ble_eq_true rfl) (Nat.le_of_ble_eq_true rfl) dX0_chance_13 (pc' := 16) rfl (fun r_6 M_5 h m_7 => ?_)
    refine r_if_ne C dX0_chance_16 (pc' := 19) rfl (tgt := 23) (by decide) (fun c_8 => ?_) (fun c_8 => ?_)
    · have h := it_f h c_8
      refine r_iconst C dX0_chance_23 (pc' := 24) rfl (v := 0) rfl ?_
      refine r_istore C (lv' := [(5, .int (0 : Int32)), (0, .ref a0), (1, .int x1), (2, .int x2), (3, .int x3), (4, .int x4)]) dX0_chance_24 (pc' := 26) rfl (0 : Int32) rfl (Nat.le_of_ble_eq_true rfl) rfl ?_
      refine r_ldc2 C dX0_chance_26 (pc' := 29) rfl q952 ?_
      refine r_lstore C (lv' := [(6, .long (-1 : Int64)), (5, .int (0 : Int32)), (0, .ref a0), (1, .int x1), (2, .int x2), (3, .int x3), (4, .int x4)]) dX0_chance_29 (pc' := 31) rfl (-1 : Int64) rfl (Nat.le_of_ble_eq_true rfl) rfl ?_
      refine r_iconst C dX0_chance_31 (pc' := 32) rfl (v := 0) rfl ?_
      refine r_istore C (lv' := [(8, .int (0 : Int32)), (6, .long (-1 : Int64)), (5, .int (0 : Int32)), (0, .ref a0), (1, .int x1), (2, .int x2), (3, .int x3), (4, .int x4)]) dX0_chance_32 (pc' := 34) rfl (0 : Int32) rfl (Nat.le_of_ble_eq_true rfl) rfl ?_
      obtain ⟨n_40, h⟩ := h
      refine r_sub (lv' := [(0, .ref a0), (1, .int x1), (2, .int x2), (3, .int x3), (4, .int x4), (5, .int (0 : Int32)), (6, .long (-1 : Int64)), (8, .int (0 : Int32))]) [3, 4, 5, 6, 7, 2, 1, 0] rfl ?_
      refine B_X0_chance_34 C hE n_40 M_5 (0 : Int32) (-1 : Int64) (0 : Int32) (mMo.kd m_7 (mMo.kd m_3 k_a0 (by decide)) (by decide)) h (fun M_41 x5_43 x6_44 m_42 h => ?_)
      refine r_iload C dX0_chance_111 (pc' := 113) rfl (j := 0) rfl ?_
      refine r_if_ne C dX0_chance_113 (pc' := 116) rfl (tgt := 122) (by decide) (fun c_45 => ?_) (fun c_45 => ?_)
      · have h := it_f h c_45
        refine r_lload C dX0_chance_122 (pc' := 124) rfl (j := 2) rfl ?_
        exact r_lret C hE (Nat.le_of_ble_eq_true rfl) (Nat.le_of_ble_eq_true rfl) dX0_chance_124 ⟨_, rfl, h⟩
      · have h := it_t h c_45
        refine r_iload C dX0_chance_116 (pc' := 118) rfl (j := 1) rfl ?_
        refine r_i2l C dX0_chance_118 (pc' := 119) rfl ?_
        refine r_goto C dX0_chance_119 (tgt := 124) (by decide) ?_
        exact r_lret C hE (Nat.le_of_ble_eq_true rfl) (Nat.le_of_ble_eq_true rfl) dX0_chance_124 ⟨_, rfl, h⟩
    · have h := it_t h c_8
      refine r_ldc2 C dX0_chance_19 (pc' := 22) rfl q952 ?_
      exact r_lret C hE (Nat.le_of_ble_eq_true rfl) (Nat.le_of_ble_eq_true rfl) dX0_chance_22 ⟨_, rfl, h⟩
set_option maxHeartbeats 4000000 in
theorem B_X0_toAsk_108 {E : mE} {M : MM} {a0 : Nat} {x1 : Int32} {x2 : Int32} {x3 : Int32} {x4 : Int32} {x5 : Int64} {x7 : Int32} {x8 : Int32} {x9 : Int32} {as0 : Nat} {xs1 : Int32} {xs2 : Int32} {R : MM → Int32 → Prop} {X115 : MM → Prop} {Post : Int64 → MM → Prop} (C : mC E yX0_toAsk cX0_toAsk 11 ((some .long)) { frames := 205, cells := 0, slots := 0, locals := 5527 }) (hE : mEnd E { frames := 205, cells := 0, slots := 0, locals := 5527 } (pL_ Post)) (k_a0 : mkd M a0 = 1) (k_as0 : mkd M as0 = 100) (h : wb_X0_toAsk_108 M a0 x1 x2 x3 x4 x5 x7 x8 x9 as0 xs1 xs2 R X115) (hR : ∀ (M' : MM) (x9' : Int32), mMo M M' → mkd M' a0 = 1 → R M' x9' → mV E M' 0 0 60 [(0, .ref a0), (1, .int x1), (2, .int x2), (3, .int x3), (4, .int x4), (5, .long x5), (7, .int x7), (8, .int x8), (9, .int x9')] []) (hX115 : ∀ (M' : MM), mMo M M' → X115 M' → mV E M' 0 0 115 [(0, .ref a0), (1, .int x1), (2, .int x2), (3, .int x3), (4, .int x4), (5, .long x5), (7, .int x7), (8, .int x8)] []) : mV E M 0 0 108 [(0, .ref a0), (1, .int x1), (2, .int x2), (3, .int x3), (4, .int x4), (5, .long x5), (7, .int x7), (8, .int x8), (9, .int x9)] [.int xs2, .int xs1, .ref as0] := by
  unfold wb_X0_toAsk_108 at h
  obtain ⟨c_42, h⟩ := h
  obtain ⟨M_43, e_44, h⟩ := bn_ h
  refine r_iast C (j := (ix_ xs1)) k_as0 c_42 rfl dX0_toAsk_108 (pc' := 109) rfl M_43 e_44 ?_
  obtain ⟨x9_45, e_46, h⟩ := bn_ h
  refine r_iinc C (lv' := [(9, .int x9_45), (0, .ref a0), (1, .int x1), (2, .int x2), (3, .int x3), (4, .int x4), (5, .long x5), (7, .int x7), (8, .int x8)]) dX0_toAsk_109 (pc' := 112) rfl (j := 8) rfl x9_45 (by rw [e_46]; rfl) (Nat.le_of_ble_eq_true rfl) rfl ?_
  refine r_goto C dX0_toAsk_112 (tgt := 60) (by decide) ?_
  refine r_sub (lv' := [(0, .ref a0), (1, .int x1), (2, .int x2), (3, .int x3), (4, .int x4), (5, .long x5), (7, .int x7), (8, .int x8), (9, .int x9_45)]) [1, 2, 3, 4, 5, 6, 7, 8, 0] rfl ?_
  exact hR M_43 x9_45 (mo_I e_44) (mMo.kd (mo_I e_44) k_a0 (by decide)) h
set_option maxHeartbeats 4000000 in
theorem B_X0_toAsk_60 {E : mE} {a0 : Nat} {x1 : Int32} {x2 : Int32} {x3 : Int32} {x4 : Int32} {x5 : Int64} {x7 : Int32} {x8 : Int32} {X115 : MM → Prop} {Post : Int64 → MM → Prop} (C : mC E yX0_toAsk cX0_toAsk 11 ((some .long)) { frames := 205, cells := 0, slots := 0, locals := 5527 }) (hE : mEnd E { frames := 205, cells := 0, slots := 0, locals := 5527 } (pL_ Post)) : ∀ (n_ : Nat) (M : MM) (x9 : Int32), mkd M a0 = 1 → wl_X0_toAsk_60 a0 x1 x2 x3 x4 x5 x7 x8 X115 n_ M x9 → (∀ (M' : MM), mMo M M' → X115 M' → mV E M' 0 0 115 [(0, .ref a0), (1, .int x1), (2, .int x2), (3, .int x3), (4, .int x4), (5, .long x5), (7, .int x7), (8, .int x8)] []) → mV E M 0 0 60 [(0, .ref a0), (1, .int x1), (2, .int x2), (3, .int x3), (4, .int x4), (5, .long x5), (7, .int x7), (8, .int x8), (9, .int x9)] [] := by
  intro n_
  induction n_ with
  | zero =>
    intro M x9 k_a0 h hX115
    exact absurd h (by rw [wl_X0_toAsk_60]; exact fun q => q)
  | succ n_ ih =>
    intro M x9 k_a0 h hX115
    rw [wl_X0_toAsk_60] at h
    refine r_iload C dX0_toAsk_60 (pc' := 62) rfl (j := 8) rfl ?_
    refine r_iload_n C dX0_toAsk_62 (pc' := 63) rfl (j := 3) rfl ?_
    refine r_icmp_ge C dX0_toAsk_63 (pc' := 66) rfl (tgt := 115) (by decide) (fun c_23 => ?_) (fun c_23 => ?_)
    · have h := it_t h c_23
      refine r_sub (lv' := [(0, .ref a0), (1, .int x1), (2, .int x2), (3, .int x3), (4, .int x4), (5, .long x5), (7, .int x7), (8, .int x8)]) [0, 1, 2, 3, 4, 5, 6, 7] rfl ?_
      exact hX115 M mMo.rf h
    · have h := it_f h c_23
      refine r_aload_n C dX0_toAsk_66 (pc' := 67) rfl (j := 0) rfl ?_
      refine r_getf C (Cn := RX0) (T := TX0) 12 k_a0 (by decide) vc_X0 in_X0 (by decide) q366 dX0_toAsk_67 (pc' := 70) rfl (v := va_rf (mgR M a0 12)) rfl ?_
      obtain ⟨b_24, e_25, k_26, h⟩ := h
      refine r_ref [] e_25 ?_
      refine r_iload C dX0_toAsk_70 (pc' := 72) rfl (j := 8) rfl ?_
      refine r_iload C dX0_toAsk_72 (pc' := 74) rfl (j := 8) rfl ?_
      refine r_iload C dX0_toAsk_74 (pc' := 76) rfl (j := 7) rfl ?_
      refine r_icmp_ne C dX0_toAsk_76 (pc' := 79) rfl (tgt := 84) (by decide) (fun c_27 => ?_) (fun c_27 => ?_)
      · have h := it_f h c_27
        refine r_iconst C dX0_toAsk_84 (pc' := 85) rfl (v := 0) rfl ?_
        refine r_aload_n C dX0_toAsk_85 (pc' := 86) rfl (j := 0) rfl ?_
        refine r_getf C (Cn := RX0) (T := TX0) 1 k_a0 (by decide) vc_X0 in_X0 (by decide) q351 dX0_toAsk_86 (pc' := 89) rfl (v := va_rf (mgR M a0 1)) rfl ?_
        obtain ⟨b_28, e_29, k_30, h⟩ := h
        refine r_ref [] e_29 ?_
        refine r_getfN C (Cn := RX3) (T := TX3) 1 k_30 (by decide) vc_X3 in_X3 (by decide) (List.mem_of_getElem? (i := 2) rfl) dX0_toAsk_89 (pc' := 92) rfl (v := va_rf (mgR M b_28 1)) rfl ?_
        obtain ⟨b_31, e_32, k_33, h⟩ := h
        refine r_ref [] e_32 ?_
        refine r_aload_n C dX0_toAsk_92 (pc' := 93) rfl (j := 0) rfl ?_
        refine r_getf C (Cn := RX0) (T := TX0) 11 k_a0 (by decide) vc_X0 in_X0 (by decide) q365 dX0_toAsk_93 (pc' := 96) rfl (v := va_rf (mgR M a0 11)) rfl ?_
        obtain ⟨b_34, e_35, k_36, h⟩ := h
        refine r_ref [] e_35 ?_
        refine r_iload C dX0_toAsk_96 (pc' := 98) rfl (j := 8) rfl ?_
        obtain ⟨c_37, h⟩ := h
        refine r_iald C (j := (ix_ x9)) k_36 c_37 rfl dX0_toAsk_98 (pc' := 99) rfl ?_
        obtain ⟨c_38, h⟩ := h
        refine r_aald C (t := 4) (j := (ix_ (mgI M b_34 (ix_ x9)))) k_33 (by decide) rfl rfl c_38 rfl dX0_toAsk_99 (pc' := 100) rfl ?_
        obtain ⟨b_39, e_40, k_41, h⟩ := h
        refine r_ref [] e_40 ?_
        refine r_getfN C (Cn := RX5) (T := TX5) 0 k_41 (by decide) vc_X5 in_X5 (by decide) (List.mem_of_getElem? (i := 13) rfl) dX0_toAsk_100 (pc' := 103) rfl (v := .int (mgI M b_39 0)) rfl ?_
        refine r_iconst C dX0_toAsk_103 (pc' := 104) rfl (v := 2) rfl ?_
        refine r_isub C dX0_toAsk_104 (pc' := 105) rfl ?_
        refine r_mmax C q886 q490 q113 q491 (Nat.le_of_ble_eq_true rfl) (Nat.le_of_ble_eq_true rfl) (Nat.le_of_ble_eq_true rfl) (Nat.le_of_ble_eq_true rfl) dX0_toAsk_105 (pc' := 108) rfl ?_
        refine r_sub (lv' := [(0, .ref a0), (1, .int x1), (2, .int x2), (3, .int x3), (4, .int x4), (5, .long x5), (7, .int x7), (8, .int x8), (9, .int x9)]) [0, 1, 2, 3, 4, 5, 6, 7, 8] rfl ?_
        exact B_X0_toAsk_108 C hE k_a0 k_26 h (fun M8 v0 hm8 g0 h8 => ih M8 v0 g0 h8 (fun M9 hm9 h9 => hX115 M9 (mMo.tr hm8 hm9) h9)) (fun M9 hm9 h9 => hX115 M9 hm9 h9)
      · have h := it_t h c_27
        refine r_bipush C dX0_toAsk_79 (pc' := 81) rfl (v := 10) rfl ?_
        refine r_goto C dX0_toAsk_81 (tgt := 108) (by decide) ?_
        refine r_sub (lv' := [(0, .ref a0), (1, .int x1), (2, .int x2), (3, .int x3), (4, .int x4), (5, .long x5), (7, .int x7), (8, .int x8), (9, .int x9)]) [0, 1, 2, 3, 4, 5, 6, 7, 8] rfl ?_
        exact B_X0_toAsk_108 C hE k_a0 k_26 h (fun M8 v0 hm8 g0 h8 => ih M8 v0 g0 h8 (fun M9 hm9 h9 => hX115 M9 (mMo.tr hm8 hm9) h9)) (fun M9 hm9 h9 => hX115 M9 hm9 h9)
set_option maxHeartbeats 4000000 in
theorem B_X0_toAsk_51 {E : mE} {a0 : Nat} {x1 : Int32} {x2 : Int32} {x3 : Int32} {x4 : Int32} {X166 : MM → Int64 → Int32 → Prop} {Post : Int64 → MM → Prop} (C : mC E yX0_toAsk cX0_toAsk 11 ((some .long)) { frames := 205, cells := 0, slots := 0, locals := 5527 }) (hE : mEnd E { frames := 205, cells := 0, slots := 0, locals := 5527 } (pL_ Post)) : ∀ (n_ : Nat) (M : MM) (x5 : Int64) (x7 : Int32) (x8 : Int32), mkd M a0 = 1 → wl_X0_toAsk_51 a0 x1 x2 x3 x4 X166 n_ M x5 x7 x8 → (∀ (M' : MM) (x5' : Int64) (x7' : Int32), mMo M M' → X166 M' x5' x7' → mV E M' 0 0 166 [(4, .int x4), (5, .long x5'), (7, .int x7')] []) → mV E M 0 0 51 [(0, .ref a0), (1, .int x1), (2, .int x2), (3, .int x3), (4, .int x4), (5, .long x5), (7, .int x7), (8, .int x8)] [] := by
  intro n_
  induction n_ with
  | zero =>
    intro M x5 x7 x8 k_a0 h hX166
    exact absurd h (by rw [wl_X0_toAsk_51]; exact fun q => q)
  | succ n_ ih =>
    intro M x5 x7 x8 k_a0 h hX166
    rw [wl_X0_toAsk_51] at h
    refine r_iload C dX0_toAsk_51 (pc' := 53) rfl (j := 7) rfl ?_
    refine r_iload_n C dX0_toAsk_53 (pc' := 54) rfl (j := 3) rfl ?_
    refine r_icmp_ge C dX0_toAsk_54 (pc' := 57) rfl (tgt := 166) (by decide) (fun c_22 => ?_) (fun c_22 => ?_)
    · have h := it_t h c_22
      refine r_sub (lv' := [(4, .int x4), (5, .long x5), (7, .int x7)]) [4, 5, 6] rfl ?_
      exact hX166 M x5 x7 mMo.rf h
    · have h := it_f h c_22
      refine r_iconst C dX0_toAsk_57 (pc' := 58) rfl (v := 0) rfl ?_
      refine r_istore C (lv' := [(9, .int (0 : Int32)), (0, .ref a0), (1, .int x1), (2, .int x2), (3, .int x3), (4, .int x4), (5, .long x5), (7, .int x7), (8, .int x8)]) dX0_toAsk_58 (pc' := 60) rfl (0 : Int32) rfl (Nat.le_of_ble_eq_true rfl) rfl ?_
      obtain ⟨n_47, h⟩ := h
      refine r_sub (lv' := [(0, .ref a0), (1, .int x1), (2, .int x2), (3, .int x3), (4, .int x4), (5, .long x5), (7, .int x7), (8, .int x8), (9, .int (0 : Int32))]) [1, 2, 3, 4, 5, 6, 7, 8, 0] rfl ?_
      refine B_X0_toAsk_60 C hE n_47 M (0 : Int32) k_a0 h (fun M_48 m_49 h => ?_)
      refine r_aload_n C dX0_toAsk_115 (pc' := 116) rfl (j := 0) rfl ?_
      refine r_iload_n C dX0_toAsk_116 (pc' := 117) rfl (j := 1) rfl ?_
      refine r_iload_n C dX0_toAsk_117 (pc' := 118) rfl (j := 2) rfl ?_
      refine r_iload_n C dX0_toAsk_118 (pc' := 119) rfl (j := 3) rfl ?_
      refine r_aload_n C dX0_toAsk_119 (pc' := 120) rfl (j := 0) rfl ?_
      refine r_getf C (Cn := RX0) (T := TX0) 1 (mMo.kd m_49 k_a0 (by decide)) (by decide) vc_X0 in_X0 (by decide) q351 dX0_toAsk_120 (pc' := 123) rfl (v := va_rf (mgR M_48 a0 1)) rfl ?_
      obtain ⟨b_50, e_51, k_52, h⟩ := h
      refine r_ref [] e_51 ?_
      refine r_getfN C (Cn := RX3) (T := TX3) 0 k_52 (by decide) vc_X3 in_X3 (by decide) (List.mem_of_getElem? (i := 0) rfl) dX0_toAsk_123 (pc' := 126) rfl (v := va_rf (mgR M_48 b_50 0)) rfl ?_
      obtain ⟨b_53, e_54, k_55, h⟩ := h
      refine r_ref [] e_54 ?_
      refine r_iload_n C dX0_toAsk_126 (pc' := 127) rfl (j := 1) rfl ?_
      obtain ⟨c_56, h⟩ := h
      refine r_aald C (t := 3) (j := (ix_ x1)) k_55 (by decide) rfl rfl c_56 rfl dX0_toAsk_127 (pc' := 128) rfl ?_
      obtain ⟨b_57, e_58, k_59, h⟩ := h
      refine r_ref [] e_58 ?_
      refine r_getfN C (Cn := RX4) (T := TX4) 1 k_59 (by decide) vc_X4 in_X4 (by decide) (List.mem_of_getElem? (i := 6) rfl) dX0_toAsk_128 (pc' := 131) rfl (v := .int (mgI M_48 b_57 1)) rfl ?_
      refine r_callVl (As := [.int x1, .int x2, .int x3, .int (mgI M_48 b_57 1)]) (rest := []) (Cn := RX0) (T := TX0) C (mMo.kd m_49 k_a0 (by decide)) (by decide) vc_X0 (S_X0_laysDays (mMo.kd m_49 k_a0 (by decide)) h) (lw_V q953 q955 qs22 q105 q956) rfl hd_X0_laysDays rfl rfl (Nat.le_of_ble_eq_true rfl) (Nat.le_of_ble_eq_true rfl) (Nat.le_of_ble_eq_true rfl) rfl rfl (Nat.le_of_ble_eq_true rfl) (Nat.le_of_ble_eq_true rfl) dX0_toAsk_131 (pc' := 134) rfl (fun r_61 M_60 h m_62 => ?_)
      refine r_lstore C (lv' := [(9, .long r_61), (0, .ref a0), (1, .int x1), (2, .int x2), (3, .int x3), (4, .int x4), (5, .long x5), (7, .int x7), (8, .int x8)]) dX0_toAsk_134 (pc' := 136) rfl r_61 rfl (Nat.le_of_ble_eq_true rfl) rfl ?_
      refine r_lload C dX0_toAsk_136 (pc' := 138) rfl (j := 0) rfl ?_
      refine r_lload C dX0_toAsk_138 (pc' := 140) rfl (j := 6) rfl ?_
      refine r_lc_gt C dX0_toAsk_140 (pc1 := 141) (pc' := 144) rfl dX0_toAsk_141 rfl (tgt := 147) (by decide) (fun c_63 => ?_) (fun c_63 => ?_)
      · have h := it_t h c_63
        refine r_aload_n C dX0_toAsk_147 (pc' := 148) rfl (j := 1) rfl ?_
        refine r_getf C (Cn := RX0) (T := TX0) 11 (mMo.kd m_62 (mMo.kd m_49 k_a0 (by decide)) (by decide)) (by decide) vc_X0 in_X0 (by decide) q365 dX0_toAsk_148 (pc' := 151) rfl (v := va_rf (mgR M_60 a0 11)) rfl ?_
        obtain ⟨b_64, e_65, k_66, h⟩ := h
        refine r_ref [] e_65 ?_
        refine r_iload C dX0_toAsk_151 (pc' := 153) rfl (j := 8) rfl ?_
        obtain ⟨c_67, h⟩ := h
        refine r_iald C (j := (ix_ x8)) k_66 c_67 rfl dX0_toAsk_153 (pc' := 154) rfl ?_
        obtain ⟨x7_68, e_69, h⟩ := bn_ h
        refine r_istore C (lv' := [(7, .int x7_68), (9, .long r_61), (0, .ref a0), (1, .int x1), (2, .int x2), (3, .int x3), (4, .int x4), (5, .long x5), (8, .int x8)]) dX0_toAsk_154 (pc' := 156) rfl x7_68 e_69 (Nat.le_of_ble_eq_true rfl) rfl ?_
        refine r_lload C dX0_toAsk_156 (pc' := 158) rfl (j := 1) rfl ?_
        refine r_lstore C (lv' := [(5, .long r_61), (7, .int x7_68), (9, .long r_61), (0, .ref a0), (1, .int x1), (2, .int x2), (3, .int x3), (4, .int x4), (8, .int x8)]) dX0_toAsk_158 (pc' := 160) rfl r_61 rfl (Nat.le_of_ble_eq_true rfl) rfl ?_
        obtain ⟨x8_70, e_71, h⟩ := bn_ h
        refine r_iinc C (lv' := [(8, .int x8_70), (5, .long r_61), (7, .int x7_68), (9, .long r_61), (0, .ref a0), (1, .int x1), (2, .int x2), (3, .int x3), (4, .int x4)]) dX0_toAsk_160 (pc' := 163) rfl (j := 8) rfl x8_70 (by rw [e_71]; rfl) (Nat.le_of_ble_eq_true rfl) rfl ?_
        refine r_goto C dX0_toAsk_163 (tgt := 51) (by decide) ?_
        refine r_sub (lv' := [(0, .ref a0), (1, .int x1), (2, .int x2), (3, .int x3), (4, .int x4), (5, .long r_61), (7, .int x7_68), (8, .int x8_70)]) [4, 5, 6, 7, 8, 1, 2, 0] rfl ?_
        exact ih M_60 r_61 x7_68 x8_70 (mMo.kd m_62 (mMo.kd m_49 k_a0 (by decide)) (by decide)) h (fun M9 w0 w1 hm9 h9 => hX166 M9 w0 w1 (mMo.tr (mMo.tr m_49 m_62) hm9) h9)
      · have h := it_f h c_63
        refine r_goto C dX0_toAsk_144 (tgt := 160) (by decide) ?_
        obtain ⟨x8_72, e_73, h⟩ := bn_ h
        refine r_iinc C (lv' := [(8, .int x8_72), (9, .long r_61), (0, .ref a0), (1, .int x1), (2, .int x2), (3, .int x3), (4, .int x4), (5, .long x5), (7, .int x7)]) dX0_toAsk_160 (pc' := 163) rfl (j := 8) rfl x8_72 (by rw [e_73]; rfl) (Nat.le_of_ble_eq_true rfl) rfl ?_
        refine r_goto C dX0_toAsk_163 (tgt := 51) (by decide) ?_
        refine r_sub (lv' := [(0, .ref a0), (1, .int x1), (2, .int x2), (3, .int x3), (4, .int x4), (5, .long x5), (7, .int x7), (8, .int x8_72)]) [2, 3, 4, 5, 6, 7, 8, 0] rfl ?_
        exact ih M_60 x5 x7 x8_72 (mMo.kd m_62 (mMo.kd m_49 k_a0 (by decide)) (by decide)) h (fun M9 w0 w1 hm9 h9 => hX166 M9 w0 w1 (mMo.tr (mMo.tr m_49 m_62) hm9) h9)
set_option maxHeartbeats 4000000 in
theorem S_X0_toAsk {D : DD} {l : Launch} {M : MM} {a0 : Nat} {x1 : Int32} {x2 : Int32} {x3 : Int32} {x4 : Int32} {Post : Int64 → MM → Prop} (k_a0 : mkd M a0 = 1) (h : wp_X0_toAsk M a0 x1 x2 x3 x4 Post) : mMet D l yX0_toAsk cX0_toAsk 11 ((some .long)) { frames := 205, cells := 0, slots := 0, locals := 5527 } M [.ref a0, .int x1, .int x2, .int x3, .int x4] (pL_ Post) := by
  refine m_of2 [(0, .ref a0), (1, .int x1), (2, .int x2), (3, .int x3), (4, .int x4)] (by decide +kernel) (Nat.le_of_ble_eq_true rfl) rfl (fun E hED hEl C hE => ?_)
  subst hED
  subst hEl
  unfold wp_X0_toAsk at h
  refine r_aload_n C dX0_toAsk_0 (pc' := 1) rfl (j := 0) rfl ?_
  refine r_iload_n C dX0_toAsk_1 (pc' := 2) rfl (j := 1) rfl ?_
  refine r_iload_n C dX0_toAsk_2 (pc' := 3) rfl (j := 2) rfl ?_
  refine r_iload_n C dX0_toAsk_3 (pc' := 4) rfl (j := 3) rfl ?_
  refine r_callVi (As := [.int x1, .int x2, .int x3]) (rest := []) (Cn := RX0) (T := TX0) C k_a0 (by decide) vc_X0 (S_X0_canLay k_a0 h) (lw_V q944 q946 qs20 q105 q947) rfl hd_X0_canLay rfl rfl (Nat.le_of_ble_eq_true rfl) (Nat.le_of_ble_eq_true rfl) (Nat.le_of_ble_eq_true rfl) rfl rfl (Nat.le_of_ble_eq_true rfl) (Nat.le_of_ble_eq_true rfl) dX0_toAsk_4 (pc' := 7) rfl (fun r_2 M_1 h m_3 => ?_)
  refine r_if_eq C dX0_toAsk_7 (pc' := 10) rfl (tgt := 19) (by decide) (fun c_4 => ?_) (fun c_4 => ?_)
  · have h := it_t h c_4
    refine r_ldc2 C dX0_toAsk_19 (pc' := 22) rfl q952 ?_
    exact r_lret C hE (Nat.le_of_ble_eq_true rfl) (Nat.le_of_ble_eq_true rfl) dX0_toAsk_22 ⟨_, rfl, h⟩
  · have h := it_f h c_4
    refine r_iload C dX0_toAsk_10 (pc' := 12) rfl (j := 4) rfl ?_
    refine r_iconst C dX0_toAsk_12 (pc' := 13) rfl (v := 2) rfl ?_
    refine r_callSi (As := [.int x4, .int (2 : Int32)]) (rest := []) C (S_X0_in h) (lw_S q459 q460 q105 q461) hd_X0_in rfl rfl (Nat.le_of_ble_eq_true rfl) (Nat.le_of_ble_eq_true rfl) (Nat.le_of_ble_eq_true rfl) rfl rfl (Nat.le_of_ble_eq_true rfl) (Nat.le_of_ble_eq_true rfl) dX0_toAsk_13 (pc' := 16) rfl (fun r_6 M_5 h m_7 => ?_)
    refine r_if_ne C dX0_toAsk_16 (pc' := 19) rfl (tgt := 23) (by decide) (fun c_8 => ?_) (fun c_8 => ?_)
    · have h := it_f h c_8
      refine r_aload_n C dX0_toAsk_23 (pc' := 24) rfl (j := 0) rfl ?_
      refine r_iload_n C dX0_toAsk_24 (pc' := 25) rfl (j := 1) rfl ?_
      refine r_iload_n C dX0_toAsk_25 (pc' := 26) rfl (j := 2) rfl ?_
      refine r_iload_n C dX0_toAsk_26 (pc' := 27) rfl (j := 3) rfl ?_
      refine r_aload_n C dX0_toAsk_27 (pc' := 28) rfl (j := 0) rfl ?_
      refine r_getf C (Cn := RX0) (T := TX0) 1 (mMo.kd m_7 (mMo.kd m_3 k_a0 (by decide)) (by decide)) (by decide) vc_X0 in_X0 (by decide) q351 dX0_toAsk_28 (pc' := 31) rfl (v := va_rf (mgR M_5 a0 1)) rfl ?_
      obtain ⟨b_9, e_10, k_11, h⟩ := h
      refine r_ref [] e_10 ?_
      refine r_getfN C (Cn := RX3) (T := TX3) 0 k_11 (by decide) vc_X3 in_X3 (by decide) (List.mem_of_getElem? (i := 0) rfl) dX0_toAsk_31 (pc' := 34) rfl (v := va_rf (mgR M_5 b_9 0)) rfl ?_
      obtain ⟨b_12, e_13, k_14, h⟩ := h
      refine r_ref [] e_13 ?_
      refine r_iload_n C dX0_toAsk_34 (pc' := 35) rfl (j := 1) rfl ?_
      obtain ⟨c_15, h⟩ := h
      refine r_aald C (t := 3) (j := (ix_ x1)) k_14 (by decide) rfl rfl c_15 rfl dX0_toAsk_35 (pc' := 36) rfl ?_
      obtain ⟨b_16, e_17, k_18, h⟩ := h
      refine r_ref [] e_17 ?_
      refine r_getfN C (Cn := RX4) (T := TX4) 1 k_18 (by decide) vc_X4 in_X4 (by decide) (List.mem_of_getElem? (i := 6) rfl) dX0_toAsk_36 (pc' := 39) rfl (v := .int (mgI M_5 b_16 1)) rfl ?_
      refine r_callVl (As := [.int x1, .int x2, .int x3, .int (mgI M_5 b_16 1)]) (rest := []) (Cn := RX0) (T := TX0) C (mMo.kd m_7 (mMo.kd m_3 k_a0 (by decide)) (by decide)) (by decide) vc_X0 (S_X0_laysDays (mMo.kd m_7 (mMo.kd m_3 k_a0 (by decide)) (by decide)) h) (lw_V q953 q955 qs22 q105 q956) rfl hd_X0_laysDays rfl rfl (Nat.le_of_ble_eq_true rfl) (Nat.le_of_ble_eq_true rfl) (Nat.le_of_ble_eq_true rfl) rfl rfl (Nat.le_of_ble_eq_true rfl) (Nat.le_of_ble_eq_true rfl) dX0_toAsk_39 (pc' := 42) rfl (fun r_20 M_19 h m_21 => ?_)
      refine r_lstore C (lv' := [(5, .long r_20), (0, .ref a0), (1, .int x1), (2, .int x2), (3, .int x3), (4, .int x4)]) dX0_toAsk_42 (pc' := 44) rfl r_20 rfl (Nat.le_of_ble_eq_true rfl) rfl ?_
      refine r_bipush C dX0_toAsk_44 (pc' := 46) rfl (v := -2) rfl ?_
      refine r_istore C (lv' := [(7, .int (-2 : Int32)), (5, .long r_20), (0, .ref a0), (1, .int x1), (2, .int x2), (3, .int x3), (4, .int x4)]) dX0_toAsk_46 (pc' := 48) rfl (-2 : Int32) rfl (Nat.le_of_ble_eq_true rfl) rfl ?_
      refine r_iconst C dX0_toAsk_48 (pc' := 49) rfl (v := 0) rfl ?_
      refine r_istore C (lv' := [(8, .int (0 : Int32)), (7, .int (-2 : Int32)), (5, .long r_20), (0, .ref a0), (1, .int x1), (2, .int x2), (3, .int x3), (4, .int x4)]) dX0_toAsk_49 (pc' := 51) rfl (0 : Int32) rfl (Nat.le_of_ble_eq_true rfl) rfl ?_
      obtain ⟨n_74, h⟩ := h
      refine r_sub (lv' := [(0, .ref a0), (1, .int x1), (2, .int x2), (3, .int x3), (4, .int x4), (5, .long r_20), (7, .int (-2 : Int32)), (8, .int (0 : Int32))]) [3, 4, 5, 6, 7, 2, 1, 0] rfl ?_
      refine B_X0_toAsk_51 C hE n_74 M_19 r_20 (-2 : Int32) (0 : Int32) (mMo.kd m_21 (mMo.kd m_7 (mMo.kd m_3 k_a0 (by decide)) (by decide)) (by decide)) h (fun M_75 x5_77 x7_78 m_76 h => ?_)
      refine r_iload C dX0_toAsk_166 (pc' := 168) rfl (j := 0) rfl ?_
      refine r_if_ne C dX0_toAsk_168 (pc' := 171) rfl (tgt := 177) (by decide) (fun c_79 => ?_) (fun c_79 => ?_)
      · have h := it_f h c_79
        refine r_lload C dX0_toAsk_177 (pc' := 179) rfl (j := 1) rfl ?_
        exact r_lret C hE (Nat.le_of_ble_eq_true rfl) (Nat.le_of_ble_eq_true rfl) dX0_toAsk_179 ⟨_, rfl, h⟩
      · have h := it_t h c_79
        refine r_iload C dX0_toAsk_171 (pc' := 173) rfl (j := 2) rfl ?_
        refine r_i2l C dX0_toAsk_173 (pc' := 174) rfl ?_
        refine r_goto C dX0_toAsk_174 (tgt := 179) (by decide) ?_
        exact r_lret C hE (Nat.le_of_ble_eq_true rfl) (Nat.le_of_ble_eq_true rfl) dX0_toAsk_179 ⟨_, rfl, h⟩
    · have h := it_t h c_8
      refine r_ldc2 C dX0_toAsk_19 (pc' := 22) rfl q952 ?_
      exact r_lret C hE (Nat.le_of_ble_eq_true rfl) (Nat.le_of_ble_eq_true rfl) dX0_toAsk_22 ⟨_, rfl, h⟩
set_option maxHeartbeats 4000000 in
theorem B_X0_movesOut_102 {E : mE} {M : MM} {a0 : Nat} {x1 : Int32} {x2 : Int32} {x3 : Int32} {x4 : Int32} {x8 : Int32} {x10 : Int64} {R : MM → Int32 → Int64 → Int32 → Prop} {X121 : MM → Int32 → Int64 → Prop} {Post : Int64 → MM → Prop} (C : mC E yX0_movesOut cX0_movesOut 12 ((some .long)) { frames := 205, cells := 0, slots := 0, locals := 5527 }) (hE : mEnd E { frames := 205, cells := 0, slots := 0, locals := 5527 } (pL_ Post)) (k_a0 : mkd M a0 = 1) (h : wb_X0_movesOut_102 M a0 x1 x2 x3 x4 x8 x10 R X121) (hR : ∀ (M' : MM) (x5' : Int32) (x6' : Int64) (x8' : Int32), mMo M M' → mkd M' a0 = 1 → R M' x5' x6' x8' → mV E M' 0 0 32 [(0, .ref a0), (1, .int x1), (2, .int x2), (3, .int x3), (4, .int x4), (5, .int x5'), (6, .long x6'), (8, .int x8')] []) (hX121 : ∀ (M' : MM) (x5' : Int32) (x6' : Int64), mMo M M' → X121 M' x5' x6' → mV E M' 0 0 121 [(4, .int x4), (5, .int x5'), (6, .long x6')] []) : mV E M 0 0 102 [(0, .ref a0), (1, .int x1), (2, .int x2), (3, .int x3), (4, .int x4), (8, .int x8), (10, .long x10)] [] := by
  unfold wb_X0_movesOut_102 at h
  refine r_aload_n C dX0_movesOut_102 (pc' := 103) rfl (j := 0) rfl ?_
  refine r_getf C (Cn := RX0) (T := TX0) 11 k_a0 (by decide) vc_X0 in_X0 (by decide) q365 dX0_movesOut_103 (pc' := 106) rfl (v := va_rf (mgR M a0 11)) rfl ?_
  obtain ⟨b_42, e_43, k_44, h⟩ := h
  refine r_ref [] e_43 ?_
  refine r_iload C dX0_movesOut_106 (pc' := 108) rfl (j := 5) rfl ?_
  obtain ⟨c_45, h⟩ := h
  refine r_iald C (j := (ix_ x8)) k_44 c_45 rfl dX0_movesOut_108 (pc' := 109) rfl ?_
  obtain ⟨x5_46, e_47, h⟩ := bn_ h
  refine r_istore C (lv' := [(5, .int x5_46), (0, .ref a0), (1, .int x1), (2, .int x2), (3, .int x3), (4, .int x4), (8, .int x8), (10, .long x10)]) dX0_movesOut_109 (pc' := 111) rfl x5_46 e_47 (Nat.le_of_ble_eq_true rfl) rfl ?_
  refine r_lload C dX0_movesOut_111 (pc' := 113) rfl (j := 7) rfl ?_
  refine r_lstore C (lv' := [(6, .long x10), (5, .int x5_46), (0, .ref a0), (1, .int x1), (2, .int x2), (3, .int x3), (4, .int x4), (8, .int x8), (10, .long x10)]) dX0_movesOut_113 (pc' := 115) rfl x10 rfl (Nat.le_of_ble_eq_true rfl) rfl ?_
  obtain ⟨x8_48, e_49, h⟩ := bn_ h
  refine r_iinc C (lv' := [(8, .int x8_48), (6, .long x10), (5, .int x5_46), (0, .ref a0), (1, .int x1), (2, .int x2), (3, .int x3), (4, .int x4), (10, .long x10)]) dX0_movesOut_115 (pc' := 118) rfl (j := 7) rfl x8_48 (by rw [e_49]; rfl) (Nat.le_of_ble_eq_true rfl) rfl ?_
  refine r_goto C dX0_movesOut_118 (tgt := 32) (by decide) ?_
  refine r_sub (lv' := [(0, .ref a0), (1, .int x1), (2, .int x2), (3, .int x3), (4, .int x4), (5, .int x5_46), (6, .long x10), (8, .int x8_48)]) [3, 4, 5, 6, 7, 2, 1, 0] rfl ?_
  exact hR M x5_46 x10 x8_48 mMo.rf k_a0 h
set_option maxHeartbeats 4000000 in
theorem B_X0_movesOut_32 {E : mE} {a0 : Nat} {x1 : Int32} {x2 : Int32} {x3 : Int32} {x4 : Int32} {X121 : MM → Int32 → Int64 → Prop} {Post : Int64 → MM → Prop} (C : mC E yX0_movesOut cX0_movesOut 12 ((some .long)) { frames := 205, cells := 0, slots := 0, locals := 5527 }) (hE : mEnd E { frames := 205, cells := 0, slots := 0, locals := 5527 } (pL_ Post)) : ∀ (n_ : Nat) (M : MM) (x5 : Int32) (x6 : Int64) (x8 : Int32), mkd M a0 = 1 → wl_X0_movesOut_32 a0 x1 x2 x3 x4 X121 n_ M x5 x6 x8 → (∀ (M' : MM) (x5' : Int32) (x6' : Int64), mMo M M' → X121 M' x5' x6' → mV E M' 0 0 121 [(4, .int x4), (5, .int x5'), (6, .long x6')] []) → mV E M 0 0 32 [(0, .ref a0), (1, .int x1), (2, .int x2), (3, .int x3), (4, .int x4), (5, .int x5), (6, .long x6), (8, .int x8)] [] := by
  intro n_
  induction n_ with
  | zero =>
    intro M x5 x6 x8 k_a0 h hX121
    exact absurd h (by rw [wl_X0_movesOut_32]; exact fun q => q)
  | succ n_ ih =>
    intro M x5 x6 x8 k_a0 h hX121
    rw [wl_X0_movesOut_32] at h
    refine r_iload C dX0_movesOut_32 (pc' := 34) rfl (j := 7) rfl ?_
    refine r_iload_n C dX0_movesOut_34 (pc' := 35) rfl (j := 3) rfl ?_
    refine r_icmp_ge C dX0_movesOut_35 (pc' := 38) rfl (tgt := 121) (by decide) (fun c_9 => ?_) (fun c_9 => ?_)
    · have h := it_t h c_9
      refine r_sub (lv' := [(4, .int x4), (5, .int x5), (6, .long x6)]) [4, 5, 6] rfl ?_
      exact hX121 M x5 x6 mMo.rf h
    · have h := it_f h c_9
      refine r_aload_n C dX0_movesOut_38 (pc' := 39) rfl (j := 0) rfl ?_
      refine r_getf C (Cn := RX0) (T := TX0) 12 k_a0 (by decide) vc_X0 in_X0 (by decide) q366 dX0_movesOut_39 (pc' := 42) rfl (v := va_rf (mgR M a0 12)) rfl ?_
      obtain ⟨b_10, e_11, k_12, h⟩ := h
      refine r_ref [] e_11 ?_
      refine r_iload C dX0_movesOut_42 (pc' := 44) rfl (j := 7) rfl ?_
      obtain ⟨c_13, h⟩ := h
      refine r_iald C (j := (ix_ x8)) k_12 c_13 rfl dX0_movesOut_44 (pc' := 45) rfl ?_
      obtain ⟨x9_14, e_15, h⟩ := bn_ h
      refine r_istore C (lv' := [(9, .int x9_14), (0, .ref a0), (1, .int x1), (2, .int x2), (3, .int x3), (4, .int x4), (5, .int x5), (6, .long x6), (8, .int x8)]) dX0_movesOut_45 (pc' := 47) rfl x9_14 e_15 (Nat.le_of_ble_eq_true rfl) rfl ?_
      refine r_aload_n C dX0_movesOut_47 (pc' := 48) rfl (j := 1) rfl ?_
      refine r_getf C (Cn := RX0) (T := TX0) 12 k_a0 (by decide) vc_X0 in_X0 (by decide) q366 dX0_movesOut_48 (pc' := 51) rfl (v := va_rf (mgR M a0 12)) rfl ?_
      obtain ⟨b_16, e_17, k_18, h⟩ := h
      refine r_ref [] e_17 ?_
      refine r_iload C dX0_movesOut_51 (pc' := 53) rfl (j := 8) rfl ?_
      refine r_iconst C dX0_movesOut_53 (pc' := 54) rfl (v := 0) rfl ?_
      obtain ⟨c_19, h⟩ := h
      obtain ⟨M_20, e_21, h⟩ := bn_ h
      refine r_iast C (j := (ix_ x8)) k_18 c_19 rfl dX0_movesOut_54 (pc' := 55) rfl M_20 e_21 ?_
      refine r_aload_n C dX0_movesOut_55 (pc' := 56) rfl (j := 1) rfl ?_
      refine r_iload_n C dX0_movesOut_56 (pc' := 57) rfl (j := 2) rfl ?_
      refine r_iload_n C dX0_movesOut_57 (pc' := 58) rfl (j := 3) rfl ?_
      refine r_iload_n C dX0_movesOut_58 (pc' := 59) rfl (j := 4) rfl ?_
      refine r_aload_n C dX0_movesOut_59 (pc' := 60) rfl (j := 1) rfl ?_
      refine r_getf C (Cn := RX0) (T := TX0) 1 (mMo.kd (mo_I e_21) k_a0 (by decide)) (by decide) vc_X0 in_X0 (by decide) q351 dX0_movesOut_60 (pc' := 63) rfl (v := va_rf (mgR M_20 a0 1)) rfl ?_
      obtain ⟨b_22, e_23, k_24, h⟩ := h
      refine r_ref [] e_23 ?_
      refine r_getfN C (Cn := RX3) (T := TX3) 0 k_24 (by decide) vc_X3 in_X3 (by decide) (List.mem_of_getElem? (i := 0) rfl) dX0_movesOut_63 (pc' := 66) rfl (v := va_rf (mgR M_20 b_22 0)) rfl ?_
      obtain ⟨b_25, e_26, k_27, h⟩ := h
      refine r_ref [] e_26 ?_
      refine r_iload_n C dX0_movesOut_66 (pc' := 67) rfl (j := 2) rfl ?_
      obtain ⟨c_28, h⟩ := h
      refine r_aald C (t := 3) (j := (ix_ x1)) k_27 (by decide) rfl rfl c_28 rfl dX0_movesOut_67 (pc' := 68) rfl ?_
      obtain ⟨b_29, e_30, k_31, h⟩ := h
      refine r_ref [] e_30 ?_
      refine r_getfN C (Cn := RX4) (T := TX4) 1 k_31 (by decide) vc_X4 in_X4 (by decide) (List.mem_of_getElem? (i := 6) rfl) dX0_movesOut_68 (pc' := 71) rfl (v := .int (mgI M_20 b_29 1)) rfl ?_
      refine r_callVl (As := [.int x1, .int x2, .int x3, .int (mgI M_20 b_29 1)]) (rest := []) (Cn := RX0) (T := TX0) C (mMo.kd (mo_I e_21) k_a0 (by decide)) (by decide) vc_X0 (S_X0_laysDays (mMo.kd (mo_I e_21) k_a0 (by decide)) h) (lw_V q953 q955 qs22 q105 q956) rfl hd_X0_laysDays rfl rfl (Nat.le_of_ble_eq_true rfl) (Nat.le_of_ble_eq_true rfl) (Nat.le_of_ble_eq_true rfl) rfl rfl (Nat.le_of_ble_eq_true rfl) (Nat.le_of_ble_eq_true rfl) dX0_movesOut_71 (pc' := 74) rfl (fun r_33 M_32 h m_34 => ?_)
      refine r_lstore C (lv' := [(10, .long r_33), (9, .int x9_14), (0, .ref a0), (1, .int x1), (2, .int x2), (3, .int x3), (4, .int x4), (5, .int x5), (6, .long x6), (8, .int x8)]) dX0_movesOut_74 (pc' := 76) rfl r_33 rfl (Nat.le_of_ble_eq_true rfl) rfl ?_
      refine r_aload_n C dX0_movesOut_76 (pc' := 77) rfl (j := 2) rfl ?_
      refine r_getf C (Cn := RX0) (T := TX0) 12 (mMo.kd m_34 (mMo.kd (mo_I e_21) k_a0 (by decide)) (by decide)) (by decide) vc_X0 in_X0 (by decide) q366 dX0_movesOut_77 (pc' := 80) rfl (v := va_rf (mgR M_32 a0 12)) rfl ?_
      obtain ⟨b_35, e_36, k_37, h⟩ := h
      refine r_ref [] e_36 ?_
      refine r_iload C dX0_movesOut_80 (pc' := 82) rfl (j := 9) rfl ?_
      refine r_iload C dX0_movesOut_82 (pc' := 84) rfl (j := 1) rfl ?_
      obtain ⟨c_38, h⟩ := h
      obtain ⟨M_39, e_40, h⟩ := bn_ h
      refine r_iast C (j := (ix_ x8)) k_37 c_38 rfl dX0_movesOut_84 (pc' := 85) rfl M_39 e_40 ?_
      refine r_iload C dX0_movesOut_85 (pc' := 87) rfl (j := 7) rfl ?_
      refine r_iconst C dX0_movesOut_87 (pc' := 88) rfl (v := -1) rfl ?_
      refine r_icmp_eq C dX0_movesOut_88 (pc' := 91) rfl (tgt := 102) (by decide) (fun c_41 => ?_) (fun c_41 => ?_)
      · have h := it_t h c_41
        refine r_sub (lv' := [(0, .ref a0), (1, .int x1), (2, .int x2), (3, .int x3), (4, .int x4), (8, .int x8), (10, .long r_33)]) [2, 3, 4, 5, 6, 9, 0] rfl ?_
        exact B_X0_movesOut_102 C hE (mMo.kd (mo_I e_40) (mMo.kd m_34 (mMo.kd (mo_I e_21) k_a0 (by decide)) (by decide)) (by decide)) h (fun M8 v0 v1 v2 hm8 g0 h8 => ih M8 v0 v1 v2 g0 h8 (fun M9 w0 w1 hm9 h9 => hX121 M9 w0 w1 (mMo.tr (mMo.tr (mMo.tr (mMo.tr (mo_I e_21) m_34) (mo_I e_40)) hm8) hm9) h9)) (fun M9 w0 w1 hm9 h9 => hX121 M9 w0 w1 (mMo.tr (mMo.tr (mMo.tr (mo_I e_21) m_34) (mo_I e_40)) hm9) h9)
      · have h := it_f h c_41
        refine r_lload C dX0_movesOut_91 (pc' := 93) rfl (j := 0) rfl ?_
        refine r_lload C dX0_movesOut_93 (pc' := 95) rfl (j := 8) rfl ?_
        refine r_lc_lt C dX0_movesOut_95 (pc1 := 96) (pc' := 99) rfl dX0_movesOut_96 rfl (tgt := 102) (by decide) (fun c_50 => ?_) (fun c_50 => ?_)
        · have h := it_t h c_50
          refine r_sub (lv' := [(0, .ref a0), (1, .int x1), (2, .int x2), (3, .int x3), (4, .int x4), (8, .int x8), (10, .long r_33)]) [2, 3, 4, 5, 6, 9, 0] rfl ?_
          exact B_X0_movesOut_102 C hE (mMo.kd (mo_I e_40) (mMo.kd m_34 (mMo.kd (mo_I e_21) k_a0 (by decide)) (by decide)) (by decide)) h (fun M8 v0 v1 v2 hm8 g0 h8 => ih M8 v0 v1 v2 g0 h8 (fun M9 w0 w1 hm9 h9 => hX121 M9 w0 w1 (mMo.tr (mMo.tr (mMo.tr (mMo.tr (mo_I e_21) m_34) (mo_I e_40)) hm8) hm9) h9)) (fun M9 w0 w1 hm9 h9 => hX121 M9 w0 w1 (mMo.tr (mMo.tr (mMo.tr (mo_I e_21) m_34) (mo_I e_40)) hm9) h9)
        · have h := it_f h c_50
          refine r_goto C dX0_movesOut_99 (tgt := 115) (by decide) ?_
          obtain ⟨x8_51, e_52, h⟩ := bn_ h
          refine r_iinc C (lv' := [(8, .int x8_51), (10, .long r_33), (9, .int x9_14), (0, .ref a0), (1, .int x1), (2, .int x2), (3, .int x3), (4, .int x4), (5, .int x5), (6, .long x6)]) dX0_movesOut_115 (pc' := 118) rfl (j := 9) rfl x8_51 (by rw [e_52]; rfl) (Nat.le_of_ble_eq_true rfl) rfl ?_
          refine r_goto C dX0_movesOut_118 (tgt := 32) (by decide) ?_
          refine r_sub (lv' := [(0, .ref a0), (1, .int x1), (2, .int x2), (3, .int x3), (4, .int x4), (5, .int x5), (6, .long x6), (8, .int x8_51)]) [3, 4, 5, 6, 7, 8, 9, 0] rfl ?_
          exact ih M_39 x5 x6 x8_51 (mMo.kd (mo_I e_40) (mMo.kd m_34 (mMo.kd (mo_I e_21) k_a0 (by decide)) (by decide)) (by decide)) h (fun M9 w0 w1 hm9 h9 => hX121 M9 w0 w1 (mMo.tr (mMo.tr (mMo.tr (mo_I e_21) m_34) (mo_I e_40)) hm9) h9)
set_option maxHeartbeats 4000000 in
theorem S_X0_movesOut {D : DD} {l : Launch} {M : MM} {a0 : Nat} {x1 : Int32} {x2 : Int32} {x3 : Int32} {x4 : Int32} {Post : Int64 → MM → Prop} (k_a0 : mkd M a0 = 1) (h : wp_X0_movesOut M a0 x1 x2 x3 x4 Post) : mMet D l yX0_movesOut cX0_movesOut 12 ((some .long)) { frames := 205, cells := 0, slots := 0, locals := 5527 } M [.ref a0, .int x1, .int x2, .int x3, .int x4] (pL_ Post) := by
  refine m_of2 [(0, .ref a0), (1, .int x1), (2, .int x2), (3, .int x3), (4, .int x4)] (by decide +kernel) (Nat.le_of_ble_eq_true rfl) rfl (fun E hED hEl C hE => ?_)
  subst hED
  subst hEl
  unfold wp_X0_movesOut at h
  refine r_aload_n C dX0_movesOut_0 (pc' := 1) rfl (j := 0) rfl ?_
  refine r_iload_n C dX0_movesOut_1 (pc' := 2) rfl (j := 1) rfl ?_
  refine r_iload_n C dX0_movesOut_2 (pc' := 3) rfl (j := 2) rfl ?_
  refine r_iload_n C dX0_movesOut_3 (pc' := 4) rfl (j := 3) rfl ?_
  refine r_callVi (As := [.int x1, .int x2, .int x3]) (rest := []) (Cn := RX0) (T := TX0) C k_a0 (by decide) vc_X0 (S_X0_canLay k_a0 h) (lw_V q944 q946 qs20 q105 q947) rfl hd_X0_canLay rfl rfl (Nat.le_of_ble_eq_true rfl) (Nat.le_of_ble_eq_true rfl) (Nat.le_of_ble_eq_true rfl) rfl rfl (Nat.le_of_ble_eq_true rfl) (Nat.le_of_ble_eq_true rfl) dX0_movesOut_4 (pc' := 7) rfl (fun r_2 M_1 h m_3 => ?_)
  refine r_if_eq C dX0_movesOut_7 (pc' := 10) rfl (tgt := 19) (by decide) (fun c_4 => ?_) (fun c_4 => ?_)
  · have h := it_t h c_4
    refine r_ldc2 C dX0_movesOut_19 (pc' := 22) rfl q952 ?_
    exact r_lret C hE (Nat.le_of_ble_eq_true rfl) (Nat.le_of_ble_eq_true rfl) dX0_movesOut_22 ⟨_, rfl, h⟩
  · have h := it_f h c_4
    refine r_iload C dX0_movesOut_10 (pc' := 12) rfl (j := 4) rfl ?_
    refine r_iconst C dX0_movesOut_12 (pc' := 13) rfl (v := 2) rfl ?_
    refine r_callSi (As := [.int x4, .int (2 : Int32)]) (rest := []) C (S_X0_in h) (lw_S q459 q460 q105 q461) hd_X0_in rfl rfl (Nat.le_of_ble_eq_true rfl) (Nat.le_of_ble_eq_true rfl) (Nat.le_of_ble_eq_true rfl) rfl rfl (Nat.le_of_ble_eq_true rfl) (Nat.le_of_ble_eq_true rfl) dX0_movesOut_13 (pc' := 16) rfl (fun r_6 M_5 h m_7 => ?_)
    refine r_if_ne C dX0_movesOut_16 (pc' := 19) rfl (tgt := 23) (by decide) (fun c_8 => ?_) (fun c_8 => ?_)
    · have h := it_f h c_8
      refine r_iconst C dX0_movesOut_23 (pc' := 24) rfl (v := -1) rfl ?_
      refine r_istore C (lv' := [(5, .int (-1 : Int32)), (0, .ref a0), (1, .int x1), (2, .int x2), (3, .int x3), (4, .int x4)]) dX0_movesOut_24 (pc' := 26) rfl (-1 : Int32) rfl (Nat.le_of_ble_eq_true rfl) rfl ?_
      refine r_lconst C dX0_movesOut_26 (pc' := 27) rfl (v := 0) rfl ?_
      refine r_lstore C (lv' := [(6, .long (0 : Int64)), (5, .int (-1 : Int32)), (0, .ref a0), (1, .int x1), (2, .int x2), (3, .int x3), (4, .int x4)]) dX0_movesOut_27 (pc' := 29) rfl (0 : Int64) rfl (Nat.le_of_ble_eq_true rfl) rfl ?_
      refine r_iconst C dX0_movesOut_29 (pc' := 30) rfl (v := 0) rfl ?_
      refine r_istore C (lv' := [(8, .int (0 : Int32)), (6, .long (0 : Int64)), (5, .int (-1 : Int32)), (0, .ref a0), (1, .int x1), (2, .int x2), (3, .int x3), (4, .int x4)]) dX0_movesOut_30 (pc' := 32) rfl (0 : Int32) rfl (Nat.le_of_ble_eq_true rfl) rfl ?_
      obtain ⟨n_53, h⟩ := h
      refine r_sub (lv' := [(0, .ref a0), (1, .int x1), (2, .int x2), (3, .int x3), (4, .int x4), (5, .int (-1 : Int32)), (6, .long (0 : Int64)), (8, .int (0 : Int32))]) [3, 4, 5, 6, 7, 2, 1, 0] rfl ?_
      refine B_X0_movesOut_32 C hE n_53 M_5 (-1 : Int32) (0 : Int64) (0 : Int32) (mMo.kd m_7 (mMo.kd m_3 k_a0 (by decide)) (by decide)) h (fun M_54 x5_56 x6_57 m_55 h => ?_)
      refine r_iload C dX0_movesOut_121 (pc' := 123) rfl (j := 0) rfl ?_
      refine r_if_ne C dX0_movesOut_123 (pc' := 126) rfl (tgt := 132) (by decide) (fun c_58 => ?_) (fun c_58 => ?_)
      · have h := it_f h c_58
        refine r_lload C dX0_movesOut_132 (pc' := 134) rfl (j := 2) rfl ?_
        exact r_lret C hE (Nat.le_of_ble_eq_true rfl) (Nat.le_of_ble_eq_true rfl) dX0_movesOut_134 ⟨_, rfl, h⟩
      · have h := it_t h c_58
        refine r_iload C dX0_movesOut_126 (pc' := 128) rfl (j := 1) rfl ?_
        refine r_i2l C dX0_movesOut_128 (pc' := 129) rfl ?_
        refine r_goto C dX0_movesOut_129 (tgt := 134) (by decide) ?_
        exact r_lret C hE (Nat.le_of_ble_eq_true rfl) (Nat.le_of_ble_eq_true rfl) dX0_movesOut_134 ⟨_, rfl, h⟩
    · have h := it_t h c_8
      refine r_ldc2 C dX0_movesOut_19 (pc' := 22) rfl q952 ?_
      exact r_lret C hE (Nat.le_of_ble_eq_true rfl) (Nat.le_of_ble_eq_true rfl) dX0_movesOut_22 ⟨_, rfl, h⟩
set_option maxHeartbeats 4000000 in
theorem B_X0_few_26 {E : mE} {a0 : Nat} {x1 : Int32} {x2 : Int32} {x3 : Int32} {x4 : Int32} {X73 : MM → Int32 → Prop} {X82 : MM → Prop} {Post : Int32 → MM → Prop} (C : mC E yX0_few cX0_few 6 ((some .int)) { frames := 205, cells := 0, slots := 0, locals := 5527 }) (hE : mEnd E { frames := 205, cells := 0, slots := 0, locals := 5527 } (pI_ Post)) : ∀ (n_ : Nat) (M : MM) (x5 : Int32), mkd M a0 = 1 → wl_X0_few_26 a0 x1 x2 x3 x4 X73 X82 n_ M x5 → (∀ (M' : MM) (x5' : Int32), mMo M M' → X73 M' x5' → mV E M' 0 0 73 [(5, .int x5')] []) → (∀ (M' : MM), mMo M M' → X82 M' → mV E M' 0 0 82 [] []) → mV E M 0 0 26 [(0, .ref a0), (1, .int x1), (2, .int x2), (3, .int x3), (4, .int x4), (5, .int x5)] [] := by
  intro n_
  induction n_ with
  | zero =>
    intro M x5 k_a0 h hX73 hX82
    exact absurd h (by rw [wl_X0_few_26]; exact fun q => q)
  | succ n_ ih =>
    intro M x5 k_a0 h hX73 hX82
    rw [wl_X0_few_26] at h
    refine r_iload C dX0_few_26 (pc' := 28) rfl (j := 5) rfl ?_
    refine r_iload_n C dX0_few_28 (pc' := 29) rfl (j := 3) rfl ?_
    refine r_icmp_gt C dX0_few_29 (pc' := 32) rfl (tgt := 82) (by decide) (fun c_9 => ?_) (fun c_9 => ?_)
    · have h := it_t h c_9
      refine r_sub (lv' := []) [] rfl ?_
      exact hX82 M mMo.rf h
    · have h := it_f h c_9
      refine r_aload_n C dX0_few_32 (pc' := 33) rfl (j := 0) rfl ?_
      refine r_iload_n C dX0_few_33 (pc' := 34) rfl (j := 1) rfl ?_
      refine r_iload_n C dX0_few_34 (pc' := 35) rfl (j := 2) rfl ?_
      refine r_iload C dX0_few_35 (pc' := 37) rfl (j := 5) rfl ?_
      refine r_aload_n C dX0_few_37 (pc' := 38) rfl (j := 0) rfl ?_
      refine r_getf C (Cn := RX0) (T := TX0) 1 k_a0 (by decide) vc_X0 in_X0 (by decide) q351 dX0_few_38 (pc' := 41) rfl (v := va_rf (mgR M a0 1)) rfl ?_
      obtain ⟨b_10, e_11, k_12, h⟩ := h
      refine r_ref [] e_11 ?_
      refine r_getfN C (Cn := RX3) (T := TX3) 0 k_12 (by decide) vc_X3 in_X3 (by decide) (List.mem_of_getElem? (i := 0) rfl) dX0_few_41 (pc' := 44) rfl (v := va_rf (mgR M b_10 0)) rfl ?_
      obtain ⟨b_13, e_14, k_15, h⟩ := h
      refine r_ref [] e_14 ?_
      refine r_iload_n C dX0_few_44 (pc' := 45) rfl (j := 1) rfl ?_
      obtain ⟨c_16, h⟩ := h
      refine r_aald C (t := 3) (j := (ix_ x1)) k_15 (by decide) rfl rfl c_16 rfl dX0_few_45 (pc' := 46) rfl ?_
      obtain ⟨b_17, e_18, k_19, h⟩ := h
      refine r_ref [] e_18 ?_
      refine r_getfN C (Cn := RX4) (T := TX4) 1 k_19 (by decide) vc_X4 in_X4 (by decide) (List.mem_of_getElem? (i := 6) rfl) dX0_few_46 (pc' := 49) rfl (v := .int (mgI M b_17 1)) rfl ?_
      refine r_callVl (As := [.int x1, .int x2, .int x5, .int (mgI M b_17 1)]) (rest := []) (Cn := RX0) (T := TX0) C k_a0 (by decide) vc_X0 (S_X0_laysDays k_a0 h) (lw_V q953 q955 qs22 q105 q956) rfl hd_X0_laysDays rfl rfl (Nat.le_of_ble_eq_true rfl) (Nat.le_of_ble_eq_true rfl) (Nat.le_of_ble_eq_true rfl) rfl rfl (Nat.le_of_ble_eq_true rfl) (Nat.le_of_ble_eq_true rfl) dX0_few_49 (pc' := 52) rfl (fun r_21 M_20 h m_22 => ?_)
      refine r_iload C dX0_few_52 (pc' := 54) rfl (j := 4) rfl ?_
      refine r_i2l C dX0_few_54 (pc' := 55) rfl ?_
      refine r_bipush C dX0_few_55 (pc' := 57) rfl (v := 10) rfl ?_
      refine r_iload_n C dX0_few_57 (pc' := 58) rfl (j := 2) rfl ?_
      refine r_iload C dX0_few_58 (pc' := 60) rfl (j := 5) rfl ?_
      refine r_iconst C dX0_few_60 (pc' := 61) rfl (v := 1) rfl ?_
      refine r_iadd C dX0_few_61 (pc' := 62) rfl ?_
      refine r_imul C dX0_few_62 (pc' := 63) rfl ?_
      refine r_iconst C dX0_few_63 (pc' := 64) rfl (v := 1) rfl ?_
      refine r_isub C dX0_few_64 (pc' := 65) rfl ?_
      refine r_callSl (As := [.int (10 : Int32), .int ((x2 * (x5 + (1 : Int32))) - (1 : Int32))]) (rest := [.long x4.toInt64, .long r_21]) C (S_X0_powerOf h) (lw_S q962 q963 q105 q964) hd_X0_powerOf rfl rfl (Nat.le_of_ble_eq_true rfl) (Nat.le_of_ble_eq_true rfl) (Nat.le_of_ble_eq_true rfl) rfl rfl (Nat.le_of_ble_eq_true rfl) (Nat.le_of_ble_eq_true rfl) dX0_few_65 (pc' := 68) rfl (fun r_24 M_23 h m_25 => ?_)
      refine r_lmul C dX0_few_68 (pc' := 69) rfl ?_
      refine r_lc_lt C dX0_few_69 (pc1 := 70) (pc' := 73) rfl dX0_few_70 rfl (tgt := 76) (by decide) (fun c_26 => ?_) (fun c_26 => ?_)
      · have h := it_t h c_26
        obtain ⟨x5_27, e_28, h⟩ := bn_ h
        refine r_iinc C (lv' := [(5, .int x5_27), (0, .ref a0), (1, .int x1), (2, .int x2), (3, .int x3), (4, .int x4)]) dX0_few_76 (pc' := 79) rfl (j := 5) rfl x5_27 (by rw [e_28]; rfl) (Nat.le_of_ble_eq_true rfl) rfl ?_
        refine r_goto C dX0_few_79 (tgt := 26) (by decide) ?_
        refine r_sub (lv' := [(0, .ref a0), (1, .int x1), (2, .int x2), (3, .int x3), (4, .int x4), (5, .int x5_27)]) [1, 2, 3, 4, 5, 0] rfl ?_
        exact ih M_23 x5_27 (mMo.kd m_25 (mMo.kd m_22 k_a0 (by decide)) (by decide)) h (fun M9 w0 hm9 h9 => hX73 M9 w0 (mMo.tr (mMo.tr m_22 m_25) hm9) h9) (fun M9 hm9 h9 => hX82 M9 (mMo.tr (mMo.tr m_22 m_25) hm9) h9)
      · have h := it_f h c_26
        refine r_sub (lv' := [(5, .int x5)]) [5] rfl ?_
        exact hX73 M_23 x5 (mMo.tr m_22 m_25) h
set_option maxHeartbeats 4000000 in
theorem S_X0_few {D : DD} {l : Launch} {M : MM} {a0 : Nat} {x1 : Int32} {x2 : Int32} {x3 : Int32} {x4 : Int32} {Post : Int32 → MM → Prop} (k_a0 : mkd M a0 = 1) (h : wp_X0_few M a0 x1 x2 x3 x4 Post) : mMet D l yX0_few cX0_few 6 ((some .int)) { frames := 205, cells := 0, slots := 0, locals := 5527 } M [.ref a0, .int x1, .int x2, .int x3, .int x4] (pI_ Post) := by
  refine m_of2 [(0, .ref a0), (1, .int x1), (2, .int x2), (3, .int x3), (4, .int x4)] (by decide +kernel) (Nat.le_of_ble_eq_true rfl) rfl (fun E hED hEl C hE => ?_)
  subst hED
  subst hEl
  unfold wp_X0_few at h
  refine r_aload_n C dX0_few_0 (pc' := 1) rfl (j := 0) rfl ?_
  refine r_iload_n C dX0_few_1 (pc' := 2) rfl (j := 1) rfl ?_
  refine r_iload_n C dX0_few_2 (pc' := 3) rfl (j := 2) rfl ?_
  refine r_iload_n C dX0_few_3 (pc' := 4) rfl (j := 3) rfl ?_
  refine r_callVi (As := [.int x1, .int x2, .int x3]) (rest := []) (Cn := RX0) (T := TX0) C k_a0 (by decide) vc_X0 (S_X0_canLay k_a0 h) (lw_V q944 q946 qs20 q105 q947) rfl hd_X0_canLay rfl rfl (Nat.le_of_ble_eq_true rfl) (Nat.le_of_ble_eq_true rfl) (Nat.le_of_ble_eq_true rfl) rfl rfl (Nat.le_of_ble_eq_true rfl) (Nat.le_of_ble_eq_true rfl) dX0_few_4 (pc' := 7) rfl (fun r_2 M_1 h m_3 => ?_)
  refine r_if_eq C dX0_few_7 (pc' := 10) rfl (tgt := 21) (by decide) (fun c_4 => ?_) (fun c_4 => ?_)
  · have h := it_t h c_4
    refine r_iconst C dX0_few_21 (pc' := 22) rfl (v := -1) rfl ?_
    exact r_iret C hE (Nat.le_of_ble_eq_true rfl) (Nat.le_of_ble_eq_true rfl) dX0_few_22 ⟨_, rfl, h⟩
  · have h := it_f h c_4
    refine r_iload C dX0_few_10 (pc' := 12) rfl (j := 4) rfl ?_
    refine r_iconst C dX0_few_12 (pc' := 13) rfl (v := 0) rfl ?_
    refine r_bipush C dX0_few_13 (pc' := 15) rfl (v := 10) rfl ?_
    refine r_callSi (As := [.int x4, .int (0 : Int32), .int (10 : Int32)]) (rest := []) C (S_X0_within h) (lw_S q462 q463 q105 q464) hd_X0_within rfl rfl (Nat.le_of_ble_eq_true rfl) (Nat.le_of_ble_eq_true rfl) (Nat.le_of_ble_eq_true rfl) rfl rfl (Nat.le_of_ble_eq_true rfl) (Nat.le_of_ble_eq_true rfl) dX0_few_15 (pc' := 18) rfl (fun r_6 M_5 h m_7 => ?_)
    refine r_if_ne C dX0_few_18 (pc' := 21) rfl (tgt := 23) (by decide) (fun c_8 => ?_) (fun c_8 => ?_)
    · have h := it_f h c_8
      refine r_iconst C dX0_few_23 (pc' := 24) rfl (v := 0) rfl ?_
      refine r_istore C (lv' := [(5, .int (0 : Int32)), (0, .ref a0), (1, .int x1), (2, .int x2), (3, .int x3), (4, .int x4)]) dX0_few_24 (pc' := 26) rfl (0 : Int32) rfl (Nat.le_of_ble_eq_true rfl) rfl ?_
      obtain ⟨n_29, h⟩ := h
      refine r_sub (lv' := [(0, .ref a0), (1, .int x1), (2, .int x2), (3, .int x3), (4, .int x4), (5, .int (0 : Int32))]) [1, 2, 3, 4, 5, 0] rfl ?_
      refine B_X0_few_26 C hE n_29 M_5 (0 : Int32) (mMo.kd m_7 (mMo.kd m_3 k_a0 (by decide)) (by decide)) h (fun M_30 x5_32 m_31 h => ?_) (fun M_33 m_34 h => ?_)
      · refine r_iload C dX0_few_73 (pc' := 75) rfl (j := 0) rfl ?_
        exact r_iret C hE (Nat.le_of_ble_eq_true rfl) (Nat.le_of_ble_eq_true rfl) dX0_few_75 ⟨_, rfl, h⟩
      · refine r_bipush C dX0_few_82 (pc' := 84) rfl (v := -2) rfl ?_
        exact r_iret C hE (Nat.le_of_ble_eq_true rfl) (Nat.le_of_ble_eq_true rfl) dX0_few_84 ⟨_, rfl, h⟩
    · have h := it_t h c_8
      refine r_iconst C dX0_few_21 (pc' := 22) rfl (v := -1) rfl ?_
      exact r_iret C hE (Nat.le_of_ble_eq_true rfl) (Nat.le_of_ble_eq_true rfl) dX0_few_22 ⟨_, rfl, h⟩
set_option maxHeartbeats 4000000 in
theorem S_X0_pot {D : DD} {l : Launch} {M : MM} {a0 : Nat} {x1 : Int32} {x2 : Int32} {x3 : Int32} {x4 : Int32} {Post : Int64 → MM → Prop} (k_a0 : mkd M a0 = 1) (h : wp_X0_pot M a0 x1 x2 x3 x4 Post) : mMet D l yX0_pot cX0_pot 5 ((some .long)) { frames := 205, cells := 0, slots := 0, locals := 5527 } M [.ref a0, .int x1, .int x2, .int x3, .int x4] (pL_ Post) := by
  refine m_of2 [(0, .ref a0), (1, .int x1), (2, .int x2), (3, .int x3), (4, .int x4)] (by decide +kernel) (Nat.le_of_ble_eq_true rfl) rfl (fun E hED hEl C hE => ?_)
  subst hED
  subst hEl
  unfold wp_X0_pot at h
  refine r_aload_n C dX0_pot_0 (pc' := 1) rfl (j := 0) rfl ?_
  refine r_iload_n C dX0_pot_1 (pc' := 2) rfl (j := 1) rfl ?_
  refine r_iload_n C dX0_pot_2 (pc' := 3) rfl (j := 2) rfl ?_
  refine r_iload_n C dX0_pot_3 (pc' := 4) rfl (j := 3) rfl ?_
  refine r_callVi (As := [.int x1, .int x2, .int x3]) (rest := []) (Cn := RX0) (T := TX0) C k_a0 (by decide) vc_X0 (S_X0_canLay k_a0 h) (lw_V q944 q946 qs20 q105 q947) rfl hd_X0_canLay rfl rfl (Nat.le_of_ble_eq_true rfl) (Nat.le_of_ble_eq_true rfl) (Nat.le_of_ble_eq_true rfl) rfl rfl (Nat.le_of_ble_eq_true rfl) (Nat.le_of_ble_eq_true rfl) dX0_pot_4 (pc' := 7) rfl (fun r_2 M_1 h m_3 => ?_)
  refine r_if_eq C dX0_pot_7 (pc' := 10) rfl (tgt := 21) (by decide) (fun c_4 => ?_) (fun c_4 => ?_)
  · have h := it_t h c_4
    refine r_ldc2 C dX0_pot_21 (pc' := 24) rfl q1017 ?_
    exact r_lret C hE (Nat.le_of_ble_eq_true rfl) (Nat.le_of_ble_eq_true rfl) dX0_pot_24 ⟨_, rfl, h⟩
  · have h := it_f h c_4
    refine r_iload C dX0_pot_10 (pc' := 12) rfl (j := 4) rfl ?_
    refine r_iconst C dX0_pot_12 (pc' := 13) rfl (v := 4) rfl ?_
    refine r_bipush C dX0_pot_13 (pc' := 15) rfl (v := 24) rfl ?_
    refine r_callSi (As := [.int x4, .int (4 : Int32), .int (24 : Int32)]) (rest := []) C (S_X0_within h) (lw_S q462 q463 q105 q464) hd_X0_within rfl rfl (Nat.le_of_ble_eq_true rfl) (Nat.le_of_ble_eq_true rfl) (Nat.le_of_ble_eq_true rfl) rfl rfl (Nat.le_of_ble_eq_true rfl) (Nat.le_of_ble_eq_true rfl) dX0_pot_15 (pc' := 18) rfl (fun r_6 M_5 h m_7 => ?_)
    refine r_if_ne C dX0_pot_18 (pc' := 21) rfl (tgt := 25) (by decide) (fun c_8 => ?_) (fun c_8 => ?_)
    · have h := it_f h c_8
      refine r_aload_n C dX0_pot_25 (pc' := 26) rfl (j := 0) rfl ?_
      refine r_iload_n C dX0_pot_26 (pc' := 27) rfl (j := 1) rfl ?_
      refine r_iload_n C dX0_pot_27 (pc' := 28) rfl (j := 2) rfl ?_
      refine r_iload_n C dX0_pot_28 (pc' := 29) rfl (j := 3) rfl ?_
      refine r_iload C dX0_pot_29 (pc' := 31) rfl (j := 4) rfl ?_
      refine r_callVl (As := [.int x1, .int x2, .int x3, .int x4]) (rest := []) (Cn := RX0) (T := TX0) C (mMo.kd m_7 (mMo.kd m_3 k_a0 (by decide)) (by decide)) (by decide) vc_X0 (S_X0_laysDays (mMo.kd m_7 (mMo.kd m_3 k_a0 (by decide)) (by decide)) h) (lw_V q953 q955 qs22 q105 q956) rfl hd_X0_laysDays rfl rfl (Nat.le_of_ble_eq_true rfl) (Nat.le_of_ble_eq_true rfl) (Nat.le_of_ble_eq_true rfl) rfl rfl (Nat.le_of_ble_eq_true rfl) (Nat.le_of_ble_eq_true rfl) dX0_pot_31 (pc' := 34) rfl (fun r_10 M_9 h m_11 => ?_)
      refine r_aload_n C dX0_pot_34 (pc' := 35) rfl (j := 0) rfl ?_
      refine r_iload_n C dX0_pot_35 (pc' := 36) rfl (j := 1) rfl ?_
      refine r_iload_n C dX0_pot_36 (pc' := 37) rfl (j := 2) rfl ?_
      refine r_iload_n C dX0_pot_37 (pc' := 38) rfl (j := 3) rfl ?_
      refine r_aload_n C dX0_pot_38 (pc' := 39) rfl (j := 0) rfl ?_
      refine r_getf C (Cn := RX0) (T := TX0) 1 (mMo.kd m_11 (mMo.kd m_7 (mMo.kd m_3 k_a0 (by decide)) (by decide)) (by decide)) (by decide) vc_X0 in_X0 (by decide) q351 dX0_pot_39 (pc' := 42) rfl (v := va_rf (mgR M_9 a0 1)) rfl ?_
      obtain ⟨b_12, e_13, k_14, h⟩ := h
      refine r_ref [] e_13 ?_
      refine r_getfN C (Cn := RX3) (T := TX3) 0 k_14 (by decide) vc_X3 in_X3 (by decide) (List.mem_of_getElem? (i := 0) rfl) dX0_pot_42 (pc' := 45) rfl (v := va_rf (mgR M_9 b_12 0)) rfl ?_
      obtain ⟨b_15, e_16, k_17, h⟩ := h
      refine r_ref [] e_16 ?_
      refine r_iload_n C dX0_pot_45 (pc' := 46) rfl (j := 1) rfl ?_
      obtain ⟨c_18, h⟩ := h
      refine r_aald C (t := 3) (j := (ix_ x1)) k_17 (by decide) rfl rfl c_18 rfl dX0_pot_46 (pc' := 47) rfl ?_
      obtain ⟨b_19, e_20, k_21, h⟩ := h
      refine r_ref [] e_20 ?_
      refine r_getfN C (Cn := RX4) (T := TX4) 1 k_21 (by decide) vc_X4 in_X4 (by decide) (List.mem_of_getElem? (i := 6) rfl) dX0_pot_47 (pc' := 50) rfl (v := .int (mgI M_9 b_19 1)) rfl ?_
      refine r_callVl (As := [.int x1, .int x2, .int x3, .int (mgI M_9 b_19 1)]) (rest := [.long r_10]) (Cn := RX0) (T := TX0) C (mMo.kd m_11 (mMo.kd m_7 (mMo.kd m_3 k_a0 (by decide)) (by decide)) (by decide)) (by decide) vc_X0 (S_X0_laysDays (mMo.kd m_11 (mMo.kd m_7 (mMo.kd m_3 k_a0 (by decide)) (by decide)) (by decide)) h) (lw_V q953 q955 qs22 q105 q956) rfl hd_X0_laysDays rfl rfl (Nat.le_of_ble_eq_true rfl) (Nat.le_of_ble_eq_true rfl) (Nat.le_of_ble_eq_true rfl) rfl rfl (Nat.le_of_ble_eq_true rfl) (Nat.le_of_ble_eq_true rfl) dX0_pot_50 (pc' := 53) rfl (fun r_23 M_22 h m_24 => ?_)
      refine r_lsub C dX0_pot_53 (pc' := 54) rfl ?_
      exact r_lret C hE (Nat.le_of_ble_eq_true rfl) (Nat.le_of_ble_eq_true rfl) dX0_pot_54 ⟨_, rfl, h⟩
    · have h := it_t h c_8
      refine r_ldc2 C dX0_pot_21 (pc' := 24) rfl q1017 ?_
      exact r_lret C hE (Nat.le_of_ble_eq_true rfl) (Nat.le_of_ble_eq_true rfl) dX0_pot_24 ⟨_, rfl, h⟩
set_option maxHeartbeats 4000000 in
theorem B_X0_ruleFor_51 {E : mE} {a0 : Nat} {x1 : Int32} {x2 : Int32} {x3 : Int32} {x5 : Int32} {X110 : MM → Int32 → Int64 → Prop} {Post : Int64 → MM → Prop} (C : mC E yX0_ruleFor cX0_ruleFor 12 ((some .long)) { frames := 205, cells := 0, slots := 0, locals := 5527 }) (hE : mEnd E { frames := 205, cells := 0, slots := 0, locals := 5527 } (pL_ Post)) : ∀ (n_ : Nat) (M : MM) (x6 : Int32) (x7 : Int64) (x9 : Int32), mkd M a0 = 1 → wl_X0_ruleFor_51 a0 x1 x2 x3 x5 X110 n_ M x6 x7 x9 → (∀ (M' : MM) (x6' : Int32) (x7' : Int64), mMo M M' → X110 M' x6' x7' → mV E M' 0 0 110 [(0, .ref a0), (5, .int x5), (6, .int x6'), (7, .long x7')] []) → mV E M 0 0 51 [(0, .ref a0), (1, .int x1), (2, .int x2), (3, .int x3), (5, .int x5), (6, .int x6), (7, .long x7), (9, .int x9)] [] := by
  intro n_
  induction n_ with
  | zero =>
    intro M x6 x7 x9 k_a0 h hX110
    exact absurd h (by rw [wl_X0_ruleFor_51]; exact fun q => q)
  | succ n_ ih =>
    intro M x6 x7 x9 k_a0 h hX110
    rw [wl_X0_ruleFor_51] at h
    refine r_iload C dX0_ruleFor_51 (pc' := 53) rfl (j := 7) rfl ?_
    refine r_bipush C dX0_ruleFor_53 (pc' := 55) rfl (v := 24) rfl ?_
    refine r_icmp_gt C dX0_ruleFor_55 (pc' := 58) rfl (tgt := 110) (by decide) (fun c_15 => ?_) (fun c_15 => ?_)
    · have h := it_t h c_15
      refine r_sub (lv' := [(0, .ref a0), (5, .int x5), (6, .int x6), (7, .long x7)]) [0, 4, 5, 6] rfl ?_
      exact hX110 M x6 x7 mMo.rf h
    · have h := it_f h c_15
      refine r_aload_n C dX0_ruleFor_58 (pc' := 59) rfl (j := 0) rfl ?_
      refine r_iload C dX0_ruleFor_59 (pc' := 61) rfl (j := 7) rfl ?_
      obtain ⟨M_16, e_17, h⟩ := bn_ h
      refine r_putI C (Cn := RX0) (T := TX0) tyX0 22 k_a0 (by decide) vc_X0 in_X0 tyX0_ok nmX0 (by decide) q376 rfl rfl dX0_ruleFor_61 (pc' := 64) rfl rfl rfl M_16 e_17 ?_
      refine r_aload_n C dX0_ruleFor_64 (pc' := 65) rfl (j := 0) rfl ?_
      refine r_iload_n C dX0_ruleFor_65 (pc' := 66) rfl (j := 1) rfl ?_
      refine r_iload_n C dX0_ruleFor_66 (pc' := 67) rfl (j := 2) rfl ?_
      refine r_iload_n C dX0_ruleFor_67 (pc' := 68) rfl (j := 3) rfl ?_
      refine r_aload_n C dX0_ruleFor_68 (pc' := 69) rfl (j := 0) rfl ?_
      refine r_getf C (Cn := RX0) (T := TX0) 1 (mMo.kd (mo_I e_17) k_a0 (by decide)) (by decide) vc_X0 in_X0 (by decide) q351 dX0_ruleFor_69 (pc' := 72) rfl (v := va_rf (mgR M_16 a0 1)) rfl ?_
      obtain ⟨b_18, e_19, k_20, h⟩ := h
      refine r_ref [] e_19 ?_
      refine r_getfN C (Cn := RX3) (T := TX3) 0 k_20 (by decide) vc_X3 in_X3 (by decide) (List.mem_of_getElem? (i := 0) rfl) dX0_ruleFor_72 (pc' := 75) rfl (v := va_rf (mgR M_16 b_18 0)) rfl ?_
      obtain ⟨b_21, e_22, k_23, h⟩ := h
      refine r_ref [] e_22 ?_
      refine r_iload_n C dX0_ruleFor_75 (pc' := 76) rfl (j := 1) rfl ?_
      obtain ⟨c_24, h⟩ := h
      refine r_aald C (t := 3) (j := (ix_ x1)) k_23 (by decide) rfl rfl c_24 rfl dX0_ruleFor_76 (pc' := 77) rfl ?_
      obtain ⟨b_25, e_26, k_27, h⟩ := h
      refine r_ref [] e_26 ?_
      refine r_getfN C (Cn := RX4) (T := TX4) 1 k_27 (by decide) vc_X4 in_X4 (by decide) (List.mem_of_getElem? (i := 6) rfl) dX0_ruleFor_77 (pc' := 80) rfl (v := .int (mgI M_16 b_25 1)) rfl ?_
      refine r_callVl (As := [.int x1, .int x2, .int x3, .int (mgI M_16 b_25 1)]) (rest := []) (Cn := RX0) (T := TX0) C (mMo.kd (mo_I e_17) k_a0 (by decide)) (by decide) vc_X0 (S_X0_laysDays (mMo.kd (mo_I e_17) k_a0 (by decide)) h) (lw_V q953 q955 qs22 q105 q956) rfl hd_X0_laysDays rfl rfl (Nat.le_of_ble_eq_true rfl) (Nat.le_of_ble_eq_true rfl) (Nat.le_of_ble_eq_true rfl) rfl rfl (Nat.le_of_ble_eq_true rfl) (Nat.le_of_ble_eq_true rfl) dX0_ruleFor_80 (pc' := 83) rfl (fun r_29 M_28 h m_30 => ?_)
      refine r_lstore C (lv' := [(10, .long r_29), (0, .ref a0), (1, .int x1), (2, .int x2), (3, .int x3), (5, .int x5), (6, .int x6), (7, .long x7), (9, .int x9)]) dX0_ruleFor_83 (pc' := 85) rfl r_29 rfl (Nat.le_of_ble_eq_true rfl) rfl ?_
      refine r_lload C dX0_ruleFor_85 (pc' := 87) rfl (j := 0) rfl ?_
      refine r_lload C dX0_ruleFor_87 (pc' := 89) rfl (j := 7) rfl ?_
      refine r_lc_gt C dX0_ruleFor_89 (pc1 := 90) (pc' := 93) rfl dX0_ruleFor_90 rfl (tgt := 96) (by decide) (fun c_31 => ?_) (fun c_31 => ?_)
      · have h := it_t h c_31
        refine r_iload C dX0_ruleFor_96 (pc' := 98) rfl (j := 8) rfl ?_
        refine r_istore C (lv' := [(6, .int x9), (10, .long r_29), (0, .ref a0), (1, .int x1), (2, .int x2), (3, .int x3), (5, .int x5), (7, .long x7), (9, .int x9)]) dX0_ruleFor_98 (pc' := 100) rfl x9 rfl (Nat.le_of_ble_eq_true rfl) rfl ?_
        refine r_lload C dX0_ruleFor_100 (pc' := 102) rfl (j := 1) rfl ?_
        refine r_lstore C (lv' := [(7, .long r_29), (6, .int x9), (10, .long r_29), (0, .ref a0), (1, .int x1), (2, .int x2), (3, .int x3), (5, .int x5), (9, .int x9)]) dX0_ruleFor_102 (pc' := 104) rfl r_29 rfl (Nat.le_of_ble_eq_true rfl) rfl ?_
        obtain ⟨x9_32, e_33, h⟩ := bn_ h
        refine r_iinc C (lv' := [(9, .int x9_32), (7, .long r_29), (6, .int x9), (10, .long r_29), (0, .ref a0), (1, .int x1), (2, .int x2), (3, .int x3), (5, .int x5)]) dX0_ruleFor_104 (pc' := 107) rfl (j := 8) rfl x9_32 (by rw [e_33]; rfl) (Nat.le_of_ble_eq_true rfl) rfl ?_
        refine r_goto C dX0_ruleFor_107 (tgt := 51) (by decide) ?_
        refine r_sub (lv' := [(0, .ref a0), (1, .int x1), (2, .int x2), (3, .int x3), (5, .int x5), (6, .int x9), (7, .long r_29), (9, .int x9_32)]) [4, 5, 6, 7, 8, 2, 1, 0] rfl ?_
        exact ih M_28 x9 r_29 x9_32 (mMo.kd m_30 (mMo.kd (mo_I e_17) k_a0 (by decide)) (by decide)) h (fun M9 w0 w1 hm9 h9 => hX110 M9 w0 w1 (mMo.tr (mMo.tr (mo_I e_17) m_30) hm9) h9)
      · have h := it_f h c_31
        refine r_goto C dX0_ruleFor_93 (tgt := 104) (by decide) ?_
        obtain ⟨x9_34, e_35, h⟩ := bn_ h
        refine r_iinc C (lv' := [(9, .int x9_34), (10, .long r_29), (0, .ref a0), (1, .int x1), (2, .int x2), (3, .int x3), (5, .int x5), (6, .int x6), (7, .long x7)]) dX0_ruleFor_104 (pc' := 107) rfl (j := 8) rfl x9_34 (by rw [e_35]; rfl) (Nat.le_of_ble_eq_true rfl) rfl ?_
        refine r_goto C dX0_ruleFor_107 (tgt := 51) (by decide) ?_
        refine r_sub (lv' := [(0, .ref a0), (1, .int x1), (2, .int x2), (3, .int x3), (5, .int x5), (6, .int x6), (7, .long x7), (9, .int x9_34)]) [2, 3, 4, 5, 6, 7, 8, 0] rfl ?_
        exact ih M_28 x6 x7 x9_34 (mMo.kd m_30 (mMo.kd (mo_I e_17) k_a0 (by decide)) (by decide)) h (fun M9 w0 w1 hm9 h9 => hX110 M9 w0 w1 (mMo.tr (mMo.tr (mo_I e_17) m_30) hm9) h9)
set_option maxHeartbeats 4000000 in
theorem S_X0_ruleFor {D : DD} {l : Launch} {M : MM} {a0 : Nat} {x1 : Int32} {x2 : Int32} {x3 : Int32} {x4 : Int32} {x5 : Int32} {Post : Int64 → MM → Prop} (k_a0 : mkd M a0 = 1) (h : wp_X0_ruleFor M a0 x1 x2 x3 x4 x5 Post) : mMet D l yX0_ruleFor cX0_ruleFor 12 ((some .long)) { frames := 205, cells := 0, slots := 0, locals := 5527 } M [.ref a0, .int x1, .int x2, .int x3, .int x4, .int x5] (pL_ Post) := by
  refine m_of2 [(0, .ref a0), (1, .int x1), (2, .int x2), (3, .int x3), (4, .int x4), (5, .int x5)] (by decide +kernel) (Nat.le_of_ble_eq_true rfl) rfl (fun E hED hEl C hE => ?_)
  subst hED
  subst hEl
  unfold wp_X0_ruleFor at h
  refine r_aload_n C dX0_ruleFor_0 (pc' := 1) rfl (j := 0) rfl ?_
  refine r_iload_n C dX0_ruleFor_1 (pc' := 2) rfl (j := 1) rfl ?_
  refine r_iload_n C dX0_ruleFor_2 (pc' := 3) rfl (j := 2) rfl ?_
  refine r_iload_n C dX0_ruleFor_3 (pc' := 4) rfl (j := 3) rfl ?_
  refine r_callVi (As := [.int x1, .int x2, .int x3]) (rest := []) (Cn := RX0) (T := TX0) C k_a0 (by decide) vc_X0 (S_X0_canLay k_a0 h) (lw_V q944 q946 qs20 q105 q947) rfl hd_X0_canLay rfl rfl (Nat.le_of_ble_eq_true rfl) (Nat.le_of_ble_eq_true rfl) (Nat.le_of_ble_eq_true rfl) rfl rfl (Nat.le_of_ble_eq_true rfl) (Nat.le_of_ble_eq_true rfl) dX0_ruleFor_4 (pc' := 7) rfl (fun r_2 M_1 h m_3 => ?_)
  refine r_if_eq C dX0_ruleFor_7 (pc' := 10) rfl (tgt := 30) (by decide) (fun c_4 => ?_) (fun c_4 => ?_)
  · have h := it_t h c_4
    refine r_ldc2 C dX0_ruleFor_30 (pc' := 33) rfl q952 ?_
    exact r_lret C hE (Nat.le_of_ble_eq_true rfl) (Nat.le_of_ble_eq_true rfl) dX0_ruleFor_33 ⟨_, rfl, h⟩
  · have h := it_f h c_4
    refine r_iload C dX0_ruleFor_10 (pc' := 12) rfl (j := 4) rfl ?_
    refine r_iconst C dX0_ruleFor_12 (pc' := 13) rfl (v := 1) rfl ?_
    refine r_bipush C dX0_ruleFor_13 (pc' := 15) rfl (v := 9) rfl ?_
    refine r_callSi (As := [.int x4, .int (1 : Int32), .int (9 : Int32)]) (rest := []) C (S_X0_within h) (lw_S q462 q463 q105 q464) hd_X0_within rfl rfl (Nat.le_of_ble_eq_true rfl) (Nat.le_of_ble_eq_true rfl) (Nat.le_of_ble_eq_true rfl) rfl rfl (Nat.le_of_ble_eq_true rfl) (Nat.le_of_ble_eq_true rfl) dX0_ruleFor_15 (pc' := 18) rfl (fun r_6 M_5 h m_7 => ?_)
    refine r_if_eq C dX0_ruleFor_18 (pc' := 21) rfl (tgt := 30) (by decide) (fun c_8 => ?_) (fun c_8 => ?_)
    · have h := it_t h c_8
      refine r_ldc2 C dX0_ruleFor_30 (pc' := 33) rfl q952 ?_
      exact r_lret C hE (Nat.le_of_ble_eq_true rfl) (Nat.le_of_ble_eq_true rfl) dX0_ruleFor_33 ⟨_, rfl, h⟩
    · have h := it_f h c_8
      refine r_iload C dX0_ruleFor_21 (pc' := 23) rfl (j := 5) rfl ?_
      refine r_iconst C dX0_ruleFor_23 (pc' := 24) rfl (v := 2) rfl ?_
      refine r_callSi (As := [.int x5, .int (2 : Int32)]) (rest := []) C (S_X0_in h) (lw_S q459 q460 q105 q461) hd_X0_in rfl rfl (Nat.le_of_ble_eq_true rfl) (Nat.le_of_ble_eq_true rfl) (Nat.le_of_ble_eq_true rfl) rfl rfl (Nat.le_of_ble_eq_true rfl) (Nat.le_of_ble_eq_true rfl) dX0_ruleFor_24 (pc' := 27) rfl (fun r_10 M_9 h m_11 => ?_)
      refine r_if_ne C dX0_ruleFor_27 (pc' := 30) rfl (tgt := 34) (by decide) (fun c_12 => ?_) (fun c_12 => ?_)
      · have h := it_f h c_12
        refine r_iconst C dX0_ruleFor_34 (pc' := 35) rfl (v := 0) rfl ?_
        refine r_istore C (lv' := [(6, .int (0 : Int32)), (0, .ref a0), (1, .int x1), (2, .int x2), (3, .int x3), (4, .int x4), (5, .int x5)]) dX0_ruleFor_35 (pc' := 37) rfl (0 : Int32) rfl (Nat.le_of_ble_eq_true rfl) rfl ?_
        refine r_ldc2 C dX0_ruleFor_37 (pc' := 40) rfl q952 ?_
        refine r_lstore C (lv' := [(7, .long (-1 : Int64)), (6, .int (0 : Int32)), (0, .ref a0), (1, .int x1), (2, .int x2), (3, .int x3), (4, .int x4), (5, .int x5)]) dX0_ruleFor_40 (pc' := 42) rfl (-1 : Int64) rfl (Nat.le_of_ble_eq_true rfl) rfl ?_
        refine r_aload_n C dX0_ruleFor_42 (pc' := 43) rfl (j := 2) rfl ?_
        refine r_iload C dX0_ruleFor_43 (pc' := 45) rfl (j := 6) rfl ?_
        obtain ⟨M_13, e_14, h⟩ := bn_ h
        refine r_putI C (Cn := RX0) (T := TX0) tyX0 21 (mMo.kd m_11 (mMo.kd m_7 (mMo.kd m_3 k_a0 (by decide)) (by decide)) (by decide)) (by decide) vc_X0 in_X0 tyX0_ok nmX0 (by decide) q375 rfl rfl dX0_ruleFor_45 (pc' := 48) rfl rfl rfl M_13 e_14 ?_
        refine r_iconst C dX0_ruleFor_48 (pc' := 49) rfl (v := 0) rfl ?_
        refine r_istore C (lv' := [(9, .int (0 : Int32)), (7, .long (-1 : Int64)), (6, .int (0 : Int32)), (0, .ref a0), (1, .int x1), (2, .int x2), (3, .int x3), (4, .int x4), (5, .int x5)]) dX0_ruleFor_49 (pc' := 51) rfl (0 : Int32) rfl (Nat.le_of_ble_eq_true rfl) rfl ?_
        obtain ⟨n_36, h⟩ := h
        refine r_sub (lv' := [(0, .ref a0), (1, .int x1), (2, .int x2), (3, .int x3), (5, .int x5), (6, .int (0 : Int32)), (7, .long (-1 : Int64)), (9, .int (0 : Int32))]) [3, 4, 5, 6, 8, 2, 1, 0] rfl ?_
        refine B_X0_ruleFor_51 C hE n_36 M_13 (0 : Int32) (-1 : Int64) (0 : Int32) (mMo.kd (mo_I e_14) (mMo.kd m_11 (mMo.kd m_7 (mMo.kd m_3 k_a0 (by decide)) (by decide)) (by decide)) (by decide)) h (fun M_37 x6_39 x7_40 m_38 h => ?_)
        refine r_aload_n C dX0_ruleFor_110 (pc' := 111) rfl (j := 0) rfl ?_
        refine r_iconst C dX0_ruleFor_111 (pc' := 112) rfl (v := 0) rfl ?_
        obtain ⟨M_41, e_42, h⟩ := bn_ h
        refine r_putI C (Cn := RX0) (T := TX0) tyX0 21 (mMo.kd m_38 (mMo.kd (mo_I e_14) (mMo.kd m_11 (mMo.kd m_7 (mMo.kd m_3 k_a0 (by decide)) (by decide)) (by decide)) (by decide)) (by decide)) (by decide) vc_X0 in_X0 tyX0_ok nmX0 (by decide) q375 rfl rfl dX0_ruleFor_112 (pc' := 115) rfl rfl rfl M_41 e_42 ?_
        refine r_iload C dX0_ruleFor_115 (pc' := 117) rfl (j := 1) rfl ?_
        refine r_if_ne C dX0_ruleFor_117 (pc' := 120) rfl (tgt := 126) (by decide) (fun c_43 => ?_) (fun c_43 => ?_)
        · have h := it_f h c_43
          refine r_lload C dX0_ruleFor_126 (pc' := 128) rfl (j := 3) rfl ?_
          exact r_lret C hE (Nat.le_of_ble_eq_true rfl) (Nat.le_of_ble_eq_true rfl) dX0_ruleFor_128 ⟨_, rfl, h⟩
        · have h := it_t h c_43
          refine r_iload C dX0_ruleFor_120 (pc' := 122) rfl (j := 2) rfl ?_
          refine r_i2l C dX0_ruleFor_122 (pc' := 123) rfl ?_
          refine r_goto C dX0_ruleFor_123 (tgt := 128) (by decide) ?_
          exact r_lret C hE (Nat.le_of_ble_eq_true rfl) (Nat.le_of_ble_eq_true rfl) dX0_ruleFor_128 ⟨_, rfl, h⟩
      · have h := it_t h c_12
        refine r_ldc2 C dX0_ruleFor_30 (pc' := 33) rfl q952 ?_
        exact r_lret C hE (Nat.le_of_ble_eq_true rfl) (Nat.le_of_ble_eq_true rfl) dX0_ruleFor_33 ⟨_, rfl, h⟩
set_option maxHeartbeats 4000000 in
theorem B_X0_lastsWith_31 {E : mE} {a0 : Nat} {x1 : Int32} {a3 : Nat} {X97 : MM → Int32 → Prop} {Post : Int32 → MM → Prop} (C : mC E yX0_lastsWith cX0_lastsWith 5 ((some .int)) { frames := 203, cells := 0, slots := 0, locals := 5476 }) (hE : mEnd E { frames := 203, cells := 0, slots := 0, locals := 5476 } (pI_ Post)) : ∀ (n_ : Nat) (M : MM) (x4 : Int32), mkd M a0 = 1 → mkd M a3 = 4 → wl_X0_lastsWith_31 a0 x1 a3 X97 n_ M x4 → (∀ (M' : MM) (x4' : Int32), mMo M M' → X97 M' x4' → mV E M' 0 0 97 [(4, .int x4')] []) → mV E M 0 0 31 [(0, .ref a0), (1, .int x1), (3, .ref a3), (4, .int x4)] [] := by
  intro n_
  induction n_ with
  | zero =>
    intro M x4 k_a0 k_a3 h hX97
    exact absurd h (by rw [wl_X0_lastsWith_31]; exact fun q => q)
  | succ n_ ih =>
    intro M x4 k_a0 k_a3 h hX97
    rw [wl_X0_lastsWith_31] at h
    refine r_iload C dX0_lastsWith_31 (pc' := 33) rfl (j := 3) rfl ?_
    refine r_bipush C dX0_lastsWith_33 (pc' := 35) rfl (v := 60) rfl ?_
    refine r_icmp_ge C dX0_lastsWith_35 (pc' := 38) rfl (tgt := 97) (by decide) (fun c_26 => ?_) (fun c_26 => ?_)
    · have h := it_t h c_26
      refine r_sub (lv' := [(4, .int x4)]) [3] rfl ?_
      exact hX97 M x4 mMo.rf h
    · have h := it_f h c_26
      refine r_aload_n C dX0_lastsWith_38 (pc' := 39) rfl (j := 2) rfl ?_
      refine r_callVi (As := []) (rest := []) (Cn := RX4) (T := TX4) C k_a3 (by decide) vc_X4 (S_X4_isDead k_a3 h) (lw_V q481 q482 q483 q109 q484) rfl hd_X4_isDead rfl rfl (Nat.le_of_ble_eq_true rfl) (Nat.le_of_ble_eq_true rfl) (Nat.le_of_ble_eq_true rfl) rfl rfl (Nat.le_of_ble_eq_true rfl) (Nat.le_of_ble_eq_true rfl) dX0_lastsWith_39 (pc' := 42) rfl (fun r_28 M_27 h m_29 => ?_)
      refine r_if_ne C dX0_lastsWith_42 (pc' := 45) rfl (tgt := 97) (by decide) (fun c_30 => ?_) (fun c_30 => ?_)
      · have h := it_f h c_30
        refine r_sub (lv' := [(4, .int x4)]) [3] rfl ?_
        exact hX97 M_27 x4 m_29 h
      · have h := it_t h c_30
        refine r_aload_n C dX0_lastsWith_45 (pc' := 46) rfl (j := 2) rfl ?_
        refine r_aload_n C dX0_lastsWith_46 (pc' := 47) rfl (j := 0) rfl ?_
        refine r_getf C (Cn := RX0) (T := TX0) 2 (mMo.kd m_29 k_a0 (by decide)) (by decide) vc_X0 in_X0 (by decide) q352 dX0_lastsWith_47 (pc' := 50) rfl (v := va_rf (mgR M_27 a0 2)) rfl ?_
        obtain ⟨b_31, e_32, k_33, h⟩ := h
        refine r_ref [] e_32 ?_
        refine r_iload_n C dX0_lastsWith_50 (pc' := 51) rfl (j := 1) rfl ?_
        refine r_callVNq (As := [.int x1]) (rest := [.ref a3]) (Cn := RX3) (T := TX3) C k_33 (by decide) vc_X3 (S_X3_at k_33 h) q809 q108 (List.mem_of_getElem? (i := 1) rfl) q808 qs18 hd_X3_at rfl rfl (Nat.le_of_ble_eq_true rfl) (Nat.le_of_ble_eq_true rfl) (Nat.le_of_ble_eq_true rfl) rfl rfl (Nat.le_of_ble_eq_true rfl) (Nat.le_of_ble_eq_true rfl) dX0_lastsWith_51 (pc' := 54) rfl (fun r_35 M_34 h m_36 => ?_)
        obtain ⟨b_37, e_38, k_39, h⟩ := h
        refine r_ref [] e_38 ?_
        refine r_bipush C dX0_lastsWith_54 (pc' := 56) rfl (v := 101) rfl ?_
        refine r_bipush C dX0_lastsWith_56 (pc' := 58) rfl (v := 9) rfl ?_
        refine r_callVi (As := [.int (101 : Int32), .int (9 : Int32)]) (rest := [.ref a3]) (Cn := RX2) (T := TX2) C k_39 (by decide) vc_X2 (S_X2_tells k_39 h) (lw_V q991 q893 q894 q107 q895) rfl hd_X2_tells rfl rfl (Nat.le_of_ble_eq_true rfl) (Nat.le_of_ble_eq_true rfl) (Nat.le_of_ble_eq_true rfl) rfl rfl (Nat.le_of_ble_eq_true rfl) (Nat.le_of_ble_eq_true rfl) dX0_lastsWith_58 (pc' := 61) rfl (fun r_41 M_40 h m_42 => ?_)
        refine r_callVv (As := [.int r_41]) (rest := []) (Cn := RX4) (T := TX4) C (mMo.kd m_42 (mMo.kd m_36 (mMo.kd m_29 k_a3 (by decide)) (by decide)) (by decide)) (by decide) vc_X4 (S_X4_dayEnds (mMo.kd m_42 (mMo.kd m_36 (mMo.kd m_29 k_a3 (by decide)) (by decide)) (by decide)) h) (lw_V q1031 q897 q898 q109 q899) rfl hd_X4_dayEnds rfl rfl (Nat.le_of_ble_eq_true rfl) (Nat.le_of_ble_eq_true rfl) (Nat.le_of_ble_eq_true rfl) rfl rfl (Nat.le_of_ble_eq_true rfl) (Nat.le_of_ble_eq_true rfl) dX0_lastsWith_61 (pc' := 64) rfl (fun M_43 h m_45 => ?_)
        refine r_aload_n C dX0_lastsWith_64 (pc' := 65) rfl (j := 0) rfl ?_
        refine r_getf C (Cn := RX0) (T := TX0) 2 (mMo.kd m_45 (mMo.kd m_42 (mMo.kd m_36 (mMo.kd m_29 k_a0 (by decide)) (by decide)) (by decide)) (by decide)) (by decide) vc_X0 in_X0 (by decide) q352 dX0_lastsWith_65 (pc' := 68) rfl (v := va_rf (mgR M_43 a0 2)) rfl ?_
        obtain ⟨b_46, e_47, k_48, h⟩ := h
        refine r_ref [] e_47 ?_
        refine r_dup C dX0_lastsWith_68 (pc' := 69) rfl rfl ?_
        refine r_getfN C (Cn := RX3) (T := TX3) 2 k_48 (by decide) vc_X3 in_X3 (by decide) (List.mem_of_getElem? (i := 20) rfl) dX0_lastsWith_69 (pc' := 72) rfl (v := .int (mgI M_43 b_46 2)) rfl ?_
        refine r_iconst C dX0_lastsWith_72 (pc' := 73) rfl (v := 1) rfl ?_
        refine r_iadd C dX0_lastsWith_73 (pc' := 74) rfl ?_
        obtain ⟨M_49, e_50, h⟩ := bn_ h
        refine r_putIN C (Cn := RX3) (T := TX3) tyX3 2 k_48 (by decide) vc_X3 in_X3 tyX3_ok nmX3 (by decide) (List.mem_of_getElem? (i := 20) rfl) rfl rfl dX0_lastsWith_74 (pc' := 77) rfl rfl rfl M_49 e_50 ?_
        refine r_iload C dX0_lastsWith_77 (pc' := 79) rfl (j := 3) rfl ?_
        refine r_aload_n C dX0_lastsWith_79 (pc' := 80) rfl (j := 2) rfl ?_
        refine r_callVi (As := []) (rest := [.int x4]) (Cn := RX4) (T := TX4) C (mMo.kd (mo_I e_50) (mMo.kd m_45 (mMo.kd m_42 (mMo.kd m_36 (mMo.kd m_29 k_a3 (by decide)) (by decide)) (by decide)) (by decide)) (by decide)) (by decide) vc_X4 (S_X4_isDead (mMo.kd (mo_I e_50) (mMo.kd m_45 (mMo.kd m_42 (mMo.kd m_36 (mMo.kd m_29 k_a3 (by decide)) (by decide)) (by decide)) (by decide)) (by decide)) h) (lw_V q481 q482 q483 q109 q484) rfl hd_X4_isDead rfl rfl (Nat.le_of_ble_eq_true rfl) (Nat.le_of_ble_eq_true rfl) (Nat.le_of_ble_eq_true rfl) rfl rfl (Nat.le_of_ble_eq_true rfl) (Nat.le_of_ble_eq_true rfl) dX0_lastsWith_80 (pc' := 83) rfl (fun r_52 M_51 h m_53 => ?_)
        refine r_if_eq C dX0_lastsWith_83 (pc' := 86) rfl (tgt := 90) (by decide) (fun c_54 => ?_) (fun c_54 => ?_)
        · have h := it_t h c_54
          refine r_iconst C dX0_lastsWith_90 (pc' := 91) rfl (v := 1) rfl ?_
          refine r_iadd C dX0_lastsWith_91 (pc' := 92) rfl ?_
          obtain ⟨x4_55, e_56, h⟩ := bn_ h
          refine r_istore C (lv' := [(4, .int x4_55), (0, .ref a0), (1, .int x1), (3, .ref a3)]) dX0_lastsWith_92 (pc' := 94) rfl x4_55 e_56 (Nat.le_of_ble_eq_true rfl) rfl ?_
          refine r_goto C dX0_lastsWith_94 (tgt := 31) (by decide) ?_
          refine r_sub (lv' := [(0, .ref a0), (1, .int x1), (3, .ref a3), (4, .int x4_55)]) [1, 2, 3, 0] rfl ?_
          exact ih M_51 x4_55 (mMo.kd m_53 (mMo.kd (mo_I e_50) (mMo.kd m_45 (mMo.kd m_42 (mMo.kd m_36 (mMo.kd m_29 k_a0 (by decide)) (by decide)) (by decide)) (by decide)) (by decide)) (by decide)) (mMo.kd m_53 (mMo.kd (mo_I e_50) (mMo.kd m_45 (mMo.kd m_42 (mMo.kd m_36 (mMo.kd m_29 k_a3 (by decide)) (by decide)) (by decide)) (by decide)) (by decide)) (by decide)) h (fun M9 w0 hm9 h9 => hX97 M9 w0 (mMo.tr (mMo.tr (mMo.tr (mMo.tr (mMo.tr (mMo.tr m_29 m_36) m_42) m_45) (mo_I e_50)) m_53) hm9) h9)
        · have h := it_f h c_54
          refine r_iconst C dX0_lastsWith_86 (pc' := 87) rfl (v := 0) rfl ?_
          refine r_goto C dX0_lastsWith_87 (tgt := 91) (by decide) ?_
          refine r_iadd C dX0_lastsWith_91 (pc' := 92) rfl ?_
          obtain ⟨x4_57, e_58, h⟩ := bn_ h
          refine r_istore C (lv' := [(4, .int x4_57), (0, .ref a0), (1, .int x1), (3, .ref a3)]) dX0_lastsWith_92 (pc' := 94) rfl x4_57 e_58 (Nat.le_of_ble_eq_true rfl) rfl ?_
          refine r_goto C dX0_lastsWith_94 (tgt := 31) (by decide) ?_
          refine r_sub (lv' := [(0, .ref a0), (1, .int x1), (3, .ref a3), (4, .int x4_57)]) [1, 2, 3, 0] rfl ?_
          exact ih M_51 x4_57 (mMo.kd m_53 (mMo.kd (mo_I e_50) (mMo.kd m_45 (mMo.kd m_42 (mMo.kd m_36 (mMo.kd m_29 k_a0 (by decide)) (by decide)) (by decide)) (by decide)) (by decide)) (by decide)) (mMo.kd m_53 (mMo.kd (mo_I e_50) (mMo.kd m_45 (mMo.kd m_42 (mMo.kd m_36 (mMo.kd m_29 k_a3 (by decide)) (by decide)) (by decide)) (by decide)) (by decide)) (by decide)) h (fun M9 w0 hm9 h9 => hX97 M9 w0 (mMo.tr (mMo.tr (mMo.tr (mMo.tr (mMo.tr (mMo.tr m_29 m_36) m_42) m_45) (mo_I e_50)) m_53) hm9) h9)
set_option maxHeartbeats 4000000 in
theorem S_X0_lastsWith {D : DD} {l : Launch} {M : MM} {a0 : Nat} {x1 : Int32} {x2 : Int32} {Post : Int32 → MM → Prop} (k_a0 : mkd M a0 = 1) (h : wp_X0_lastsWith M a0 x1 x2 Post) : mMet D l yX0_lastsWith cX0_lastsWith 5 ((some .int)) { frames := 203, cells := 0, slots := 0, locals := 5476 } M [.ref a0, .int x1, .int x2] (pI_ Post) := by
  refine m_of2 [(0, .ref a0), (1, .int x1), (2, .int x2)] (by decide +kernel) (Nat.le_of_ble_eq_true rfl) rfl (fun E hED hEl C hE => ?_)
  subst hED
  subst hEl
  unfold wp_X0_lastsWith at h
  refine r_aload_n C dX0_lastsWith_0 (pc' := 1) rfl (j := 0) rfl ?_
  refine r_getf C (Cn := RX0) (T := TX0) 2 k_a0 (by decide) vc_X0 in_X0 (by decide) q352 dX0_lastsWith_1 (pc' := 4) rfl (v := va_rf (mgR M a0 2)) rfl ?_
  obtain ⟨b_1, e_2, k_3, h⟩ := h
  refine r_ref [] e_2 ?_
  refine r_aload_n C dX0_lastsWith_4 (pc' := 5) rfl (j := 0) rfl ?_
  refine r_getf C (Cn := RX0) (T := TX0) 1 k_a0 (by decide) vc_X0 in_X0 (by decide) q351 dX0_lastsWith_5 (pc' := 8) rfl (v := va_rf (mgR M a0 1)) rfl ?_
  obtain ⟨b_4, e_5, k_6, h⟩ := h
  refine r_ref [] e_5 ?_
  refine r_callVq (As := [.ref b_4]) (rest := []) (Cn := RX3) (T := TX3) C k_3 (by decide) vc_X3 (S_X3_takes k_3 k_6 h) (lw_V q908 q909 q910 q108 q911) rfl hd_X3_takes rfl rfl (Nat.le_of_ble_eq_true rfl) (Nat.le_of_ble_eq_true rfl) (Nat.le_of_ble_eq_true rfl) rfl rfl (Nat.le_of_ble_eq_true rfl) (Nat.le_of_ble_eq_true rfl) dX0_lastsWith_8 (pc' := 11) rfl (fun r_8 M_7 h m_9 => ?_)
  obtain ⟨b_10, e_11, k_12, h⟩ := h
  refine r_ref [] e_11 ?_
  refine r_pop C dX0_lastsWith_11 (pc' := 12) rfl rfl ?_
  refine r_aload_n C dX0_lastsWith_12 (pc' := 13) rfl (j := 0) rfl ?_
  refine r_getf C (Cn := RX0) (T := TX0) 2 (mMo.kd m_9 k_a0 (by decide)) (by decide) vc_X0 in_X0 (by decide) q352 dX0_lastsWith_13 (pc' := 16) rfl (v := va_rf (mgR M_7 a0 2)) rfl ?_
  obtain ⟨b_13, e_14, k_15, h⟩ := h
  refine r_ref [] e_14 ?_
  refine r_getfN C (Cn := RX3) (T := TX3) 0 k_15 (by decide) vc_X3 in_X3 (by decide) (List.mem_of_getElem? (i := 0) rfl) dX0_lastsWith_16 (pc' := 19) rfl (v := va_rf (mgR M_7 b_13 0)) rfl ?_
  obtain ⟨b_16, e_17, k_18, h⟩ := h
  refine r_ref [] e_17 ?_
  refine r_iload_n C dX0_lastsWith_19 (pc' := 20) rfl (j := 1) rfl ?_
  obtain ⟨c_19, h⟩ := h
  refine r_aald C (t := 3) (j := (ix_ x1)) k_18 (by decide) rfl rfl c_19 rfl dX0_lastsWith_20 (pc' := 21) rfl ?_
  obtain ⟨b_20, e_21, k_22, h⟩ := h
  refine r_ref [] e_21 ?_
  refine r_astore_n C (lv' := [(3, .ref b_20), (0, .ref a0), (1, .int x1), (2, .int x2)]) dX0_lastsWith_21 (pc' := 22) rfl rfl b_20 rfl (Nat.le_of_ble_eq_true rfl) rfl ?_
  refine r_aload_n C dX0_lastsWith_22 (pc' := 23) rfl (j := 0) rfl ?_
  refine r_iload_n C dX0_lastsWith_23 (pc' := 24) rfl (j := 3) rfl ?_
  refine r_callVi (As := [.int x2]) (rest := []) (Cn := RX4) (T := TX4) C k_22 (by decide) vc_X4 (S_X4_gets k_22 h) (lw_V q485 q486 q487 q109 q488) rfl hd_X4_gets rfl rfl (Nat.le_of_ble_eq_true rfl) (Nat.le_of_ble_eq_true rfl) (Nat.le_of_ble_eq_true rfl) rfl rfl (Nat.le_of_ble_eq_true rfl) (Nat.le_of_ble_eq_true rfl) dX0_lastsWith_24 (pc' := 27) rfl (fun r_24 M_23 h m_25 => ?_)
  refine r_pop C dX0_lastsWith_27 (pc' := 28) rfl rfl ?_
  refine r_iconst C dX0_lastsWith_28 (pc' := 29) rfl (v := 0) rfl ?_
  refine r_istore C (lv' := [(4, .int (0 : Int32)), (3, .ref b_20), (0, .ref a0), (1, .int x1), (2, .int x2)]) dX0_lastsWith_29 (pc' := 31) rfl (0 : Int32) rfl (Nat.le_of_ble_eq_true rfl) rfl ?_
  obtain ⟨n_59, h⟩ := h
  refine r_sub (lv' := [(0, .ref a0), (1, .int x1), (3, .ref b_20), (4, .int (0 : Int32))]) [2, 3, 1, 0] rfl ?_
  refine B_X0_lastsWith_31 C hE n_59 M_23 (0 : Int32) (mMo.kd m_25 (mMo.kd m_9 k_a0 (by decide)) (by decide)) (mMo.kd m_25 k_22 (by decide)) h (fun M_60 x4_62 m_61 h => ?_)
  refine r_iload C dX0_lastsWith_97 (pc' := 99) rfl (j := 0) rfl ?_
  exact r_iret C hE (Nat.le_of_ble_eq_true rfl) (Nat.le_of_ble_eq_true rfl) dX0_lastsWith_99 ⟨_, rfl, h⟩
set_option maxHeartbeats 4000000 in
theorem S_X0_lasts {D : DD} {l : Launch} {M : MM} {a0 : Nat} {x1 : Int32} {x2 : Int32} {Post : Int32 → MM → Prop} (k_a0 : mkd M a0 = 1) (h : wp_X0_lasts M a0 x1 x2 Post) : mMet D l yX0_lasts cX0_lasts 3 ((some .int)) { frames := 204, cells := 0, slots := 0, locals := 5500 } M [.ref a0, .int x1, .int x2] (pI_ Post) := by
  refine m_of2 [(0, .ref a0), (1, .int x1), (2, .int x2)] (by decide +kernel) (Nat.le_of_ble_eq_true rfl) rfl (fun E hED hEl C hE => ?_)
  subst hED
  subst hEl
  unfold wp_X0_lasts at h
  refine r_aload_n C dX0_lasts_0 (pc' := 1) rfl (j := 0) rfl ?_
  refine r_iload_n C dX0_lasts_1 (pc' := 2) rfl (j := 1) rfl ?_
  refine r_callVi (As := [.int x1]) (rest := []) (Cn := RX0) (T := TX0) C k_a0 (by decide) vc_X0 (S_X0_isPlant k_a0 h) (lw_V q473 q475 qs0 q105 q476) rfl hd_X0_isPlant rfl rfl (Nat.le_of_ble_eq_true rfl) (Nat.le_of_ble_eq_true rfl) (Nat.le_of_ble_eq_true rfl) rfl rfl (Nat.le_of_ble_eq_true rfl) (Nat.le_of_ble_eq_true rfl) dX0_lasts_2 (pc' := 5) rfl (fun r_2 M_1 h m_3 => ?_)
  refine r_if_eq C dX0_lasts_5 (pc' := 8) rfl (tgt := 42) (by decide) (fun c_4 => ?_) (fun c_4 => ?_)
  · have h := it_t h c_4
    refine r_iconst C dX0_lasts_42 (pc' := 43) rfl (v := -1) rfl ?_
    exact r_iret C hE (Nat.le_of_ble_eq_true rfl) (Nat.le_of_ble_eq_true rfl) dX0_lasts_43 ⟨_, rfl, h⟩
  · have h := it_f h c_4
    refine r_aload_n C dX0_lasts_8 (pc' := 9) rfl (j := 0) rfl ?_
    refine r_getf C (Cn := RX0) (T := TX0) 1 (mMo.kd m_3 k_a0 (by decide)) (by decide) vc_X0 in_X0 (by decide) q351 dX0_lasts_9 (pc' := 12) rfl (v := va_rf (mgR M_1 a0 1)) rfl ?_
    obtain ⟨b_5, e_6, k_7, h⟩ := h
    refine r_ref [] e_6 ?_
    refine r_getfN C (Cn := RX3) (T := TX3) 0 k_7 (by decide) vc_X3 in_X3 (by decide) (List.mem_of_getElem? (i := 0) rfl) dX0_lasts_12 (pc' := 15) rfl (v := va_rf (mgR M_1 b_5 0)) rfl ?_
    obtain ⟨b_8, e_9, k_10, h⟩ := h
    refine r_ref [] e_9 ?_
    refine r_iload_n C dX0_lasts_15 (pc' := 16) rfl (j := 1) rfl ?_
    obtain ⟨c_11, h⟩ := h
    refine r_aald C (t := 3) (j := (ix_ x1)) k_10 (by decide) rfl rfl c_11 rfl dX0_lasts_16 (pc' := 17) rfl ?_
    obtain ⟨b_12, e_13, k_14, h⟩ := h
    refine r_ref [] e_13 ?_
    refine r_callVi (As := []) (rest := []) (Cn := RX4) (T := TX4) C k_14 (by decide) vc_X4 (S_X4_isDead k_14 h) (lw_V q481 q482 q483 q109 q484) rfl hd_X4_isDead rfl rfl (Nat.le_of_ble_eq_true rfl) (Nat.le_of_ble_eq_true rfl) (Nat.le_of_ble_eq_true rfl) rfl rfl (Nat.le_of_ble_eq_true rfl) (Nat.le_of_ble_eq_true rfl) dX0_lasts_17 (pc' := 20) rfl (fun r_16 M_15 h m_17 => ?_)
    refine r_if_ne C dX0_lasts_20 (pc' := 23) rfl (tgt := 42) (by decide) (fun c_18 => ?_) (fun c_18 => ?_)
    · have h := it_f h c_18
      refine r_iconst C dX0_lasts_42 (pc' := 43) rfl (v := -1) rfl ?_
      exact r_iret C hE (Nat.le_of_ble_eq_true rfl) (Nat.le_of_ble_eq_true rfl) dX0_lasts_43 ⟨_, rfl, h⟩
    · have h := it_t h c_18
      refine r_iload_n C dX0_lasts_23 (pc' := 24) rfl (j := 2) rfl ?_
      refine r_iconst C dX0_lasts_24 (pc' := 25) rfl (v := 0) rfl ?_
      refine r_bipush C dX0_lasts_25 (pc' := 27) rfl (v := 24) rfl ?_
      refine r_callSi (As := [.int x2, .int (0 : Int32), .int (24 : Int32)]) (rest := []) C (S_X0_within h) (lw_S q462 q463 q105 q464) hd_X0_within rfl rfl (Nat.le_of_ble_eq_true rfl) (Nat.le_of_ble_eq_true rfl) (Nat.le_of_ble_eq_true rfl) rfl rfl (Nat.le_of_ble_eq_true rfl) (Nat.le_of_ble_eq_true rfl) dX0_lasts_27 (pc' := 30) rfl (fun r_20 M_19 h m_21 => ?_)
      refine r_if_eq C dX0_lasts_30 (pc' := 33) rfl (tgt := 42) (by decide) (fun c_22 => ?_) (fun c_22 => ?_)
      · have h := it_t h c_22
        refine r_iconst C dX0_lasts_42 (pc' := 43) rfl (v := -1) rfl ?_
        exact r_iret C hE (Nat.le_of_ble_eq_true rfl) (Nat.le_of_ble_eq_true rfl) dX0_lasts_43 ⟨_, rfl, h⟩
      · have h := it_f h c_22
        refine r_aload_n C dX0_lasts_33 (pc' := 34) rfl (j := 0) rfl ?_
        refine r_iload_n C dX0_lasts_34 (pc' := 35) rfl (j := 1) rfl ?_
        refine r_iload_n C dX0_lasts_35 (pc' := 36) rfl (j := 2) rfl ?_
        refine r_callVi (As := [.int x1, .int x2]) (rest := []) (Cn := RX0) (T := TX0) C (mMo.kd m_21 (mMo.kd m_17 (mMo.kd m_3 k_a0 (by decide)) (by decide)) (by decide)) (by decide) vc_X0 (S_X0_lastsWith (mMo.kd m_21 (mMo.kd m_17 (mMo.kd m_3 k_a0 (by decide)) (by decide)) (by decide)) h) (lw_V q1026 q1028 qs29 q105 q1029) rfl hd_X0_lastsWith rfl rfl (Nat.le_of_ble_eq_true rfl) (Nat.le_of_ble_eq_true rfl) (Nat.le_of_ble_eq_true rfl) rfl rfl (Nat.le_of_ble_eq_true rfl) (Nat.le_of_ble_eq_true rfl) dX0_lasts_36 (pc' := 39) rfl (fun r_24 M_23 h m_25 => ?_)
        refine r_goto C dX0_lasts_39 (tgt := 43) (by decide) ?_
        exact r_iret C hE (Nat.le_of_ble_eq_true rfl) (Nat.le_of_ble_eq_true rfl) dX0_lasts_43 ⟨_, rfl, h⟩
set_option maxHeartbeats 4000000 in
theorem B_X0_needs_37 {E : mE} {a0 : Nat} {x1 : Int32} {x2 : Int32} {X53 : MM → Int32 → Prop} {X61 : MM → Prop} {Post : Int32 → MM → Prop} (C : mC E yX0_needs cX0_needs 4 ((some .int)) { frames := 204, cells := 0, slots := 0, locals := 5500 }) (hE : mEnd E { frames := 204, cells := 0, slots := 0, locals := 5500 } (pI_ Post)) : ∀ (n_ : Nat) (M : MM) (x3 : Int32), mkd M a0 = 1 → wl_X0_needs_37 a0 x1 x2 X53 X61 n_ M x3 → (∀ (M' : MM) (x3' : Int32), mMo M M' → X53 M' x3' → mV E M' 0 0 53 [(3, .int x3')] []) → (∀ (M' : MM), mMo M M' → X61 M' → mV E M' 0 0 61 [] []) → mV E M 0 0 37 [(0, .ref a0), (1, .int x1), (2, .int x2), (3, .int x3)] [] := by
  intro n_
  induction n_ with
  | zero =>
    intro M x3 k_a0 h hX53 hX61
    exact absurd h (by rw [wl_X0_needs_37]; exact fun q => q)
  | succ n_ ih =>
    intro M x3 k_a0 h hX53 hX61
    rw [wl_X0_needs_37] at h
    refine r_iload_n C dX0_needs_37 (pc' := 38) rfl (j := 3) rfl ?_
    refine r_bipush C dX0_needs_38 (pc' := 40) rfl (v := 24) rfl ?_
    refine r_icmp_gt C dX0_needs_40 (pc' := 43) rfl (tgt := 61) (by decide) (fun c_23 => ?_) (fun c_23 => ?_)
    · have h := it_t h c_23
      refine r_sub (lv' := []) [] rfl ?_
      exact hX61 M mMo.rf h
    · have h := it_f h c_23
      refine r_aload_n C dX0_needs_43 (pc' := 44) rfl (j := 0) rfl ?_
      refine r_iload_n C dX0_needs_44 (pc' := 45) rfl (j := 1) rfl ?_
      refine r_iload_n C dX0_needs_45 (pc' := 46) rfl (j := 3) rfl ?_
      refine r_callVi (As := [.int x1, .int x3]) (rest := []) (Cn := RX0) (T := TX0) C k_a0 (by decide) vc_X0 (S_X0_lastsWith k_a0 h) (lw_V q1026 q1028 qs29 q105 q1029) rfl hd_X0_lastsWith rfl rfl (Nat.le_of_ble_eq_true rfl) (Nat.le_of_ble_eq_true rfl) (Nat.le_of_ble_eq_true rfl) rfl rfl (Nat.le_of_ble_eq_true rfl) (Nat.le_of_ble_eq_true rfl) dX0_needs_46 (pc' := 49) rfl (fun r_25 M_24 h m_26 => ?_)
      refine r_iload_n C dX0_needs_49 (pc' := 50) rfl (j := 2) rfl ?_
      refine r_icmp_lt C dX0_needs_50 (pc' := 53) rfl (tgt := 55) (by decide) (fun c_27 => ?_) (fun c_27 => ?_)
      · have h := it_t h c_27
        obtain ⟨x3_28, e_29, h⟩ := bn_ h
        refine r_iinc C (lv' := [(3, .int x3_28), (0, .ref a0), (1, .int x1), (2, .int x2)]) dX0_needs_55 (pc' := 58) rfl (j := 3) rfl x3_28 (by rw [e_29]; rfl) (Nat.le_of_ble_eq_true rfl) rfl ?_
        refine r_goto C dX0_needs_58 (tgt := 37) (by decide) ?_
        refine r_sub (lv' := [(0, .ref a0), (1, .int x1), (2, .int x2), (3, .int x3_28)]) [1, 2, 3, 0] rfl ?_
        exact ih M_24 x3_28 (mMo.kd m_26 k_a0 (by decide)) h (fun M9 w0 hm9 h9 => hX53 M9 w0 (mMo.tr m_26 hm9) h9) (fun M9 hm9 h9 => hX61 M9 (mMo.tr m_26 hm9) h9)
      · have h := it_f h c_27
        refine r_sub (lv' := [(3, .int x3)]) [3] rfl ?_
        exact hX53 M_24 x3 m_26 h
set_option maxHeartbeats 4000000 in
theorem S_X0_needs {D : DD} {l : Launch} {M : MM} {a0 : Nat} {x1 : Int32} {x2 : Int32} {Post : Int32 → MM → Prop} (k_a0 : mkd M a0 = 1) (h : wp_X0_needs M a0 x1 x2 Post) : mMet D l yX0_needs cX0_needs 4 ((some .int)) { frames := 204, cells := 0, slots := 0, locals := 5500 } M [.ref a0, .int x1, .int x2] (pI_ Post) := by
  refine m_of2 [(0, .ref a0), (1, .int x1), (2, .int x2)] (by decide +kernel) (Nat.le_of_ble_eq_true rfl) rfl (fun E hED hEl C hE => ?_)
  subst hED
  subst hEl
  unfold wp_X0_needs at h
  refine r_aload_n C dX0_needs_0 (pc' := 1) rfl (j := 0) rfl ?_
  refine r_iload_n C dX0_needs_1 (pc' := 2) rfl (j := 1) rfl ?_
  refine r_callVi (As := [.int x1]) (rest := []) (Cn := RX0) (T := TX0) C k_a0 (by decide) vc_X0 (S_X0_isPlant k_a0 h) (lw_V q473 q475 qs0 q105 q476) rfl hd_X0_isPlant rfl rfl (Nat.le_of_ble_eq_true rfl) (Nat.le_of_ble_eq_true rfl) (Nat.le_of_ble_eq_true rfl) rfl rfl (Nat.le_of_ble_eq_true rfl) (Nat.le_of_ble_eq_true rfl) dX0_needs_2 (pc' := 5) rfl (fun r_2 M_1 h m_3 => ?_)
  refine r_if_eq C dX0_needs_5 (pc' := 8) rfl (tgt := 33) (by decide) (fun c_4 => ?_) (fun c_4 => ?_)
  · have h := it_t h c_4
    refine r_iconst C dX0_needs_33 (pc' := 34) rfl (v := -1) rfl ?_
    exact r_iret C hE (Nat.le_of_ble_eq_true rfl) (Nat.le_of_ble_eq_true rfl) dX0_needs_34 ⟨_, rfl, h⟩
  · have h := it_f h c_4
    refine r_aload_n C dX0_needs_8 (pc' := 9) rfl (j := 0) rfl ?_
    refine r_getf C (Cn := RX0) (T := TX0) 1 (mMo.kd m_3 k_a0 (by decide)) (by decide) vc_X0 in_X0 (by decide) q351 dX0_needs_9 (pc' := 12) rfl (v := va_rf (mgR M_1 a0 1)) rfl ?_
    obtain ⟨b_5, e_6, k_7, h⟩ := h
    refine r_ref [] e_6 ?_
    refine r_getfN C (Cn := RX3) (T := TX3) 0 k_7 (by decide) vc_X3 in_X3 (by decide) (List.mem_of_getElem? (i := 0) rfl) dX0_needs_12 (pc' := 15) rfl (v := va_rf (mgR M_1 b_5 0)) rfl ?_
    obtain ⟨b_8, e_9, k_10, h⟩ := h
    refine r_ref [] e_9 ?_
    refine r_iload_n C dX0_needs_15 (pc' := 16) rfl (j := 1) rfl ?_
    obtain ⟨c_11, h⟩ := h
    refine r_aald C (t := 3) (j := (ix_ x1)) k_10 (by decide) rfl rfl c_11 rfl dX0_needs_16 (pc' := 17) rfl ?_
    obtain ⟨b_12, e_13, k_14, h⟩ := h
    refine r_ref [] e_13 ?_
    refine r_callVi (As := []) (rest := []) (Cn := RX4) (T := TX4) C k_14 (by decide) vc_X4 (S_X4_isDead k_14 h) (lw_V q481 q482 q483 q109 q484) rfl hd_X4_isDead rfl rfl (Nat.le_of_ble_eq_true rfl) (Nat.le_of_ble_eq_true rfl) (Nat.le_of_ble_eq_true rfl) rfl rfl (Nat.le_of_ble_eq_true rfl) (Nat.le_of_ble_eq_true rfl) dX0_needs_17 (pc' := 20) rfl (fun r_16 M_15 h m_17 => ?_)
    refine r_if_ne C dX0_needs_20 (pc' := 23) rfl (tgt := 33) (by decide) (fun c_18 => ?_) (fun c_18 => ?_)
    · have h := it_f h c_18
      refine r_iconst C dX0_needs_33 (pc' := 34) rfl (v := -1) rfl ?_
      exact r_iret C hE (Nat.le_of_ble_eq_true rfl) (Nat.le_of_ble_eq_true rfl) dX0_needs_34 ⟨_, rfl, h⟩
    · have h := it_t h c_18
      refine r_iload_n C dX0_needs_23 (pc' := 24) rfl (j := 2) rfl ?_
      refine r_iconst C dX0_needs_24 (pc' := 25) rfl (v := 1) rfl ?_
      refine r_bipush C dX0_needs_25 (pc' := 27) rfl (v := 60) rfl ?_
      refine r_callSi (As := [.int x2, .int (1 : Int32), .int (60 : Int32)]) (rest := []) C (S_X0_within h) (lw_S q462 q463 q105 q464) hd_X0_within rfl rfl (Nat.le_of_ble_eq_true rfl) (Nat.le_of_ble_eq_true rfl) (Nat.le_of_ble_eq_true rfl) rfl rfl (Nat.le_of_ble_eq_true rfl) (Nat.le_of_ble_eq_true rfl) dX0_needs_27 (pc' := 30) rfl (fun r_20 M_19 h m_21 => ?_)
      refine r_if_ne C dX0_needs_30 (pc' := 33) rfl (tgt := 35) (by decide) (fun c_22 => ?_) (fun c_22 => ?_)
      · have h := it_f h c_22
        refine r_iconst C dX0_needs_35 (pc' := 36) rfl (v := 0) rfl ?_
        refine r_istore_n C (lv' := [(3, .int (0 : Int32)), (0, .ref a0), (1, .int x1), (2, .int x2)]) dX0_needs_36 (pc' := 37) rfl rfl (0 : Int32) rfl (Nat.le_of_ble_eq_true rfl) rfl ?_
        obtain ⟨n_30, h⟩ := h
        refine r_sub (lv' := [(0, .ref a0), (1, .int x1), (2, .int x2), (3, .int (0 : Int32))]) [1, 2, 3, 0] rfl ?_
        refine B_X0_needs_37 C hE n_30 M_19 (0 : Int32) (mMo.kd m_21 (mMo.kd m_17 (mMo.kd m_3 k_a0 (by decide)) (by decide)) (by decide)) h (fun M_31 x3_33 m_32 h => ?_) (fun M_34 m_35 h => ?_)
        · refine r_iload_n C dX0_needs_53 (pc' := 54) rfl (j := 0) rfl ?_
          exact r_iret C hE (Nat.le_of_ble_eq_true rfl) (Nat.le_of_ble_eq_true rfl) dX0_needs_54 ⟨_, rfl, h⟩
        · refine r_bipush C dX0_needs_61 (pc' := 63) rfl (v := -2) rfl ?_
          exact r_iret C hE (Nat.le_of_ble_eq_true rfl) (Nat.le_of_ble_eq_true rfl) dX0_needs_63 ⟨_, rfl, h⟩
      · have h := it_t h c_22
        refine r_iconst C dX0_needs_33 (pc' := 34) rfl (v := -1) rfl ?_
        exact r_iret C hE (Nat.le_of_ble_eq_true rfl) (Nat.le_of_ble_eq_true rfl) dX0_needs_34 ⟨_, rfl, h⟩
set_option maxHeartbeats 4000000 in
theorem B_X0_week_63 {E : mE} {M : MM} {a0 : Nat} {x1 : Int32} {x2 : Int32} {x3 : Int32} {Post : Int32 → MM → Prop} (C : mC E yX0_week cX0_week 4 ((some .int)) { frames := 251, cells := 0, slots := 0, locals := 6626 }) (hE : mEnd E { frames := 251, cells := 0, slots := 0, locals := 6626 } (pI_ Post)) (k_a0 : mkd M a0 = 1) (h : wb_X0_week_63 M a0 x1 x2 x3 Post) : mV E M 0 0 63 [(0, .ref a0), (1, .int x1), (2, .int x2), (3, .int x3)] [] := by
  unfold wb_X0_week_63 at h
  refine r_aload_n C dX0_week_63 (pc' := 64) rfl (j := 0) rfl ?_
  refine r_bipush C dX0_week_64 (pc' := 66) rfl (v := 8) rfl ?_
  obtain ⟨M_31, e_32, h⟩ := bn_ h
  refine r_putI C (Cn := RX0) (T := TX0) tyX0 25 k_a0 (by decide) vc_X0 in_X0 tyX0_ok nmX0 (by decide) q379 rfl rfl dX0_week_66 (pc' := 69) rfl rfl rfl M_31 e_32 ?_
  refine r_aload_n C dX0_week_69 (pc' := 70) rfl (j := 0) rfl ?_
  refine r_getf C (Cn := RX0) (T := TX0) 27 (mMo.kd (mo_I e_32) k_a0 (by decide)) (by decide) vc_X0 in_X0 (by decide) q381 dX0_week_70 (pc' := 73) rfl (v := va_rf (mgR M_31 a0 27)) rfl ?_
  obtain ⟨b_33, e_34, k_35, h⟩ := h
  refine r_ref [] e_34 ?_
  refine r_iconst C dX0_week_73 (pc' := 74) rfl (v := 0) rfl ?_
  obtain ⟨c_36, h⟩ := h
  refine r_aald C (t := 8) (j := 0) k_35 (by decide) rfl rfl (vp_l (by decide) (by decide) c_36) (by decide) dX0_week_74 (pc' := 75) rfl ?_
  obtain ⟨b_37, e_38, k_39, h⟩ := h
  refine r_ref [] e_38 ?_
  refine r_aload_n C dX0_week_75 (pc' := 76) rfl (j := 0) rfl ?_
  refine r_getf C (Cn := RX0) (T := TX0) 1 (mMo.kd (mo_I e_32) k_a0 (by decide)) (by decide) vc_X0 in_X0 (by decide) q351 dX0_week_76 (pc' := 79) rfl (v := va_rf (mgR M_31 a0 1)) rfl ?_
  obtain ⟨b_40, e_41, k_42, h⟩ := h
  refine r_ref [] e_41 ?_
  refine r_callVq (As := [.ref b_40]) (rest := []) (Cn := RX3) (T := TX3) C k_39 (by decide) vc_X3 (S_X3_takes k_39 k_42 h) (lw_V q908 q909 q910 q108 q911) rfl hd_X3_takes rfl rfl (Nat.le_of_ble_eq_true rfl) (Nat.le_of_ble_eq_true rfl) (Nat.le_of_ble_eq_true rfl) rfl rfl (Nat.le_of_ble_eq_true rfl) (Nat.le_of_ble_eq_true rfl) dX0_week_79 (pc' := 82) rfl (fun r_44 M_43 h m_45 => ?_)
  obtain ⟨b_46, e_47, k_48, h⟩ := h
  refine r_ref [] e_47 ?_
  refine r_pop C dX0_week_82 (pc' := 83) rfl rfl ?_
  refine r_aload_n C dX0_week_83 (pc' := 84) rfl (j := 0) rfl ?_
  refine r_iload_n C dX0_week_84 (pc' := 85) rfl (j := 1) rfl ?_
  refine r_iload_n C dX0_week_85 (pc' := 86) rfl (j := 2) rfl ?_
  refine r_iconst C dX0_week_86 (pc' := 87) rfl (v := 0) rfl ?_
  refine r_iconst C dX0_week_87 (pc' := 88) rfl (v := 0) rfl ?_
  refine r_callVv (As := [.int x1, .int x2, .int (0 : Int32), .int (0 : Int32)]) (rest := []) (Cn := RX0) (T := TX0) C (mMo.kd m_45 (mMo.kd (mo_I e_32) k_a0 (by decide)) (by decide)) (by decide) vc_X0 ((sndK 10).2.2 (mMo.kd m_45 (mMo.kd (mo_I e_32) k_a0 (by decide)) (by decide)) h) (lw_V q1040 q1042 qs30 q105 q1043) rfl hd_X0_laysWeek rfl rfl (Nat.le_of_ble_eq_true rfl) (Nat.le_of_ble_eq_true rfl) (Nat.le_of_ble_eq_true rfl) rfl rfl (Nat.le_of_ble_eq_true rfl) (Nat.le_of_ble_eq_true rfl) dX0_week_88 (pc' := 91) rfl (fun M_49 h m_51 => ?_)
  refine r_aload_n C dX0_week_91 (pc' := 92) rfl (j := 0) rfl ?_
  refine r_getf C (Cn := RX0) (T := TX0) 25 (mMo.kd m_51 (mMo.kd m_45 (mMo.kd (mo_I e_32) k_a0 (by decide)) (by decide)) (by decide)) (by decide) vc_X0 in_X0 (by decide) q379 dX0_week_92 (pc' := 95) rfl (v := .int (mgI M_49 a0 25)) rfl ?_
  refine r_bipush C dX0_week_95 (pc' := 97) rfl (v := 7) rfl ?_
  refine r_icmp_le C dX0_week_97 (pc' := 100) rfl (tgt := 103) (by decide) (fun c_52 => ?_) (fun c_52 => ?_)
  · have h := it_t h c_52
    refine r_iload_n C dX0_week_103 (pc' := 104) rfl (j := 3) rfl ?_
    refine r_bipush C dX0_week_104 (pc' := 106) rfl (v := 10) rfl ?_
    refine r_icmp_ne C dX0_week_106 (pc' := 109) rfl (tgt := 116) (by decide) (fun c_53 => ?_) (fun c_53 => ?_)
    · have h := it_f h c_53
      refine r_iload_n C dX0_week_116 (pc' := 117) rfl (j := 3) rfl ?_
      refine r_bipush C dX0_week_117 (pc' := 119) rfl (v := 11) rfl ?_
      refine r_icmp_ne C dX0_week_119 (pc' := 122) rfl (tgt := 129) (by decide) (fun c_54 => ?_) (fun c_54 => ?_)
      · have h := it_f h c_54
        refine r_aload_n C dX0_week_129 (pc' := 130) rfl (j := 0) rfl ?_
        refine r_getf C (Cn := RX0) (T := TX0) 24 (mMo.kd m_51 (mMo.kd m_45 (mMo.kd (mo_I e_32) k_a0 (by decide)) (by decide)) (by decide)) (by decide) vc_X0 in_X0 (by decide) q378 dX0_week_130 (pc' := 133) rfl (v := va_rf (mgR M_49 a0 24)) rfl ?_
        obtain ⟨b_55, e_56, k_57, h⟩ := h
        refine r_ref [] e_56 ?_
        refine r_iload_n C dX0_week_133 (pc' := 134) rfl (j := 3) rfl ?_
        obtain ⟨c_58, h⟩ := h
        refine r_iald C (j := (ix_ x3)) k_57 c_58 rfl dX0_week_134 (pc' := 135) rfl ?_
        refine r_iload_n C dX0_week_135 (pc' := 136) rfl (j := 2) rfl ?_
        refine r_icmp_ne C dX0_week_136 (pc' := 139) rfl (tgt := 144) (by decide) (fun c_59 => ?_) (fun c_59 => ?_)
        · have h := it_f h c_59
          refine r_aload_n C dX0_week_144 (pc' := 145) rfl (j := 0) rfl ?_
          refine r_getf C (Cn := RX0) (T := TX0) 11 (mMo.kd m_51 (mMo.kd m_45 (mMo.kd (mo_I e_32) k_a0 (by decide)) (by decide)) (by decide)) (by decide) vc_X0 in_X0 (by decide) q365 dX0_week_145 (pc' := 148) rfl (v := va_rf (mgR M_49 a0 11)) rfl ?_
          obtain ⟨b_60, e_61, k_62, h⟩ := h
          refine r_ref [] e_61 ?_
          refine r_aload_n C dX0_week_148 (pc' := 149) rfl (j := 0) rfl ?_
          refine r_getf C (Cn := RX0) (T := TX0) 24 (mMo.kd m_51 (mMo.kd m_45 (mMo.kd (mo_I e_32) k_a0 (by decide)) (by decide)) (by decide)) (by decide) vc_X0 in_X0 (by decide) q378 dX0_week_149 (pc' := 152) rfl (v := va_rf (mgR M_49 a0 24)) rfl ?_
          obtain ⟨b_63, e_64, k_65, h⟩ := h
          refine r_ref [] e_64 ?_
          refine r_iload_n C dX0_week_152 (pc' := 153) rfl (j := 3) rfl ?_
          obtain ⟨c_66, h⟩ := h
          refine r_iald C (j := (ix_ x3)) k_65 c_66 rfl dX0_week_153 (pc' := 154) rfl ?_
          obtain ⟨c_67, h⟩ := h
          refine r_iald C (j := (ix_ (mgI M_49 b_63 (ix_ x3)))) k_62 c_67 rfl dX0_week_154 (pc' := 155) rfl ?_
          exact r_iret C hE (Nat.le_of_ble_eq_true rfl) (Nat.le_of_ble_eq_true rfl) dX0_week_155 ⟨_, rfl, h⟩
        · have h := it_t h c_59
          refine r_bipush C dX0_week_139 (pc' := 141) rfl (v := -3) rfl ?_
          refine r_goto C dX0_week_141 (tgt := 155) (by decide) ?_
          exact r_iret C hE (Nat.le_of_ble_eq_true rfl) (Nat.le_of_ble_eq_true rfl) dX0_week_155 ⟨_, rfl, h⟩
      · have h := it_t h c_54
        refine r_aload_n C dX0_week_122 (pc' := 123) rfl (j := 0) rfl ?_
        refine r_getf C (Cn := RX0) (T := TX0) 26 (mMo.kd m_51 (mMo.kd m_45 (mMo.kd (mo_I e_32) k_a0 (by decide)) (by decide)) (by decide)) (by decide) vc_X0 in_X0 (by decide) q380 dX0_week_123 (pc' := 126) rfl (v := .int (mgI M_49 a0 26)) rfl ?_
        refine r_goto C dX0_week_126 (tgt := 155) (by decide) ?_
        exact r_iret C hE (Nat.le_of_ble_eq_true rfl) (Nat.le_of_ble_eq_true rfl) dX0_week_155 ⟨_, rfl, h⟩
    · have h := it_t h c_53
      refine r_aload_n C dX0_week_109 (pc' := 110) rfl (j := 0) rfl ?_
      refine r_getf C (Cn := RX0) (T := TX0) 25 (mMo.kd m_51 (mMo.kd m_45 (mMo.kd (mo_I e_32) k_a0 (by decide)) (by decide)) (by decide)) (by decide) vc_X0 in_X0 (by decide) q379 dX0_week_110 (pc' := 113) rfl (v := .int (mgI M_49 a0 25)) rfl ?_
      refine r_goto C dX0_week_113 (tgt := 155) (by decide) ?_
      exact r_iret C hE (Nat.le_of_ble_eq_true rfl) (Nat.le_of_ble_eq_true rfl) dX0_week_155 ⟨_, rfl, h⟩
  · have h := it_f h c_52
    refine r_bipush C dX0_week_100 (pc' := 102) rfl (v := -2) rfl ?_
    exact r_iret C hE (Nat.le_of_ble_eq_true rfl) (Nat.le_of_ble_eq_true rfl) dX0_week_102 ⟨_, rfl, h⟩
set_option maxHeartbeats 4000000 in
theorem S_X0_week {D : DD} {l : Launch} {M : MM} {a0 : Nat} {x1 : Int32} {x2 : Int32} {x3 : Int32} {Post : Int32 → MM → Prop} (k_a0 : mkd M a0 = 1) (h : wp_X0_week M a0 x1 x2 x3 Post) : mMet D l yX0_week cX0_week 4 ((some .int)) { frames := 251, cells := 0, slots := 0, locals := 6626 } M [.ref a0, .int x1, .int x2, .int x3] (pI_ Post) := by
  refine m_of2 [(0, .ref a0), (1, .int x1), (2, .int x2), (3, .int x3)] (by decide +kernel) (Nat.le_of_ble_eq_true rfl) rfl (fun E hED hEl C hE => ?_)
  subst hED
  subst hEl
  unfold wp_X0_week at h
  refine r_aload_n C dX0_week_0 (pc' := 1) rfl (j := 0) rfl ?_
  refine r_iload_n C dX0_week_1 (pc' := 2) rfl (j := 1) rfl ?_
  refine r_callVi (As := [.int x1]) (rest := []) (Cn := RX0) (T := TX0) C k_a0 (by decide) vc_X0 (S_X0_isPlant k_a0 h) (lw_V q473 q475 qs0 q105 q476) rfl hd_X0_isPlant rfl rfl (Nat.le_of_ble_eq_true rfl) (Nat.le_of_ble_eq_true rfl) (Nat.le_of_ble_eq_true rfl) rfl rfl (Nat.le_of_ble_eq_true rfl) (Nat.le_of_ble_eq_true rfl) dX0_week_2 (pc' := 5) rfl (fun r_2 M_1 h m_3 => ?_)
  refine r_if_eq C dX0_week_5 (pc' := 8) rfl (tgt := 61) (by decide) (fun c_4 => ?_) (fun c_4 => ?_)
  · have h := it_t h c_4
    refine r_iconst C dX0_week_61 (pc' := 62) rfl (v := -1) rfl ?_
    exact r_iret C hE (Nat.le_of_ble_eq_true rfl) (Nat.le_of_ble_eq_true rfl) dX0_week_62 ⟨_, rfl, h⟩
  · have h := it_f h c_4
    refine r_aload_n C dX0_week_8 (pc' := 9) rfl (j := 0) rfl ?_
    refine r_getf C (Cn := RX0) (T := TX0) 1 (mMo.kd m_3 k_a0 (by decide)) (by decide) vc_X0 in_X0 (by decide) q351 dX0_week_9 (pc' := 12) rfl (v := va_rf (mgR M_1 a0 1)) rfl ?_
    obtain ⟨b_5, e_6, k_7, h⟩ := h
    refine r_ref [] e_6 ?_
    refine r_getfN C (Cn := RX3) (T := TX3) 0 k_7 (by decide) vc_X3 in_X3 (by decide) (List.mem_of_getElem? (i := 0) rfl) dX0_week_12 (pc' := 15) rfl (v := va_rf (mgR M_1 b_5 0)) rfl ?_
    obtain ⟨b_8, e_9, k_10, h⟩ := h
    refine r_ref [] e_9 ?_
    refine r_iload_n C dX0_week_15 (pc' := 16) rfl (j := 1) rfl ?_
    obtain ⟨c_11, h⟩ := h
    refine r_aald C (t := 3) (j := (ix_ x1)) k_10 (by decide) rfl rfl c_11 rfl dX0_week_16 (pc' := 17) rfl ?_
    obtain ⟨b_12, e_13, k_14, h⟩ := h
    refine r_ref [] e_13 ?_
    refine r_callVi (As := []) (rest := []) (Cn := RX4) (T := TX4) C k_14 (by decide) vc_X4 (S_X4_isDead k_14 h) (lw_V q481 q482 q483 q109 q484) rfl hd_X4_isDead rfl rfl (Nat.le_of_ble_eq_true rfl) (Nat.le_of_ble_eq_true rfl) (Nat.le_of_ble_eq_true rfl) rfl rfl (Nat.le_of_ble_eq_true rfl) (Nat.le_of_ble_eq_true rfl) dX0_week_17 (pc' := 20) rfl (fun r_16 M_15 h m_17 => ?_)
    refine r_if_ne C dX0_week_20 (pc' := 23) rfl (tgt := 61) (by decide) (fun c_18 => ?_) (fun c_18 => ?_)
    · have h := it_f h c_18
      refine r_iconst C dX0_week_61 (pc' := 62) rfl (v := -1) rfl ?_
      exact r_iret C hE (Nat.le_of_ble_eq_true rfl) (Nat.le_of_ble_eq_true rfl) dX0_week_62 ⟨_, rfl, h⟩
    · have h := it_t h c_18
      refine r_iload_n C dX0_week_23 (pc' := 24) rfl (j := 2) rfl ?_
      refine r_iconst C dX0_week_24 (pc' := 25) rfl (v := 1) rfl ?_
      refine r_iconst C dX0_week_25 (pc' := 26) rfl (v := 3) rfl ?_
      refine r_callSi (As := [.int x2, .int (1 : Int32), .int (3 : Int32)]) (rest := []) C (S_X0_within h) (lw_S q462 q463 q105 q464) hd_X0_within rfl rfl (Nat.le_of_ble_eq_true rfl) (Nat.le_of_ble_eq_true rfl) (Nat.le_of_ble_eq_true rfl) rfl rfl (Nat.le_of_ble_eq_true rfl) (Nat.le_of_ble_eq_true rfl) dX0_week_26 (pc' := 29) rfl (fun r_20 M_19 h m_21 => ?_)
      refine r_if_eq C dX0_week_29 (pc' := 32) rfl (tgt := 61) (by decide) (fun c_22 => ?_) (fun c_22 => ?_)
      · have h := it_t h c_22
        refine r_iconst C dX0_week_61 (pc' := 62) rfl (v := -1) rfl ?_
        exact r_iret C hE (Nat.le_of_ble_eq_true rfl) (Nat.le_of_ble_eq_true rfl) dX0_week_62 ⟨_, rfl, h⟩
      · have h := it_f h c_22
        refine r_aload_n C dX0_week_32 (pc' := 33) rfl (j := 0) rfl ?_
        refine r_iload_n C dX0_week_33 (pc' := 34) rfl (j := 2) rfl ?_
        refine r_callVi (As := [.int x2]) (rest := []) (Cn := RX0) (T := TX0) C (mMo.kd m_21 (mMo.kd m_17 (mMo.kd m_3 k_a0 (by decide)) (by decide)) (by decide)) (by decide) vc_X0 (S_X0_takesPeople (mMo.kd m_21 (mMo.kd m_17 (mMo.kd m_3 k_a0 (by decide)) (by decide)) (by decide)) h) (lw_V q948 q950 qs21 q105 q951) rfl hd_X0_takesPeople rfl rfl (Nat.le_of_ble_eq_true rfl) (Nat.le_of_ble_eq_true rfl) (Nat.le_of_ble_eq_true rfl) rfl rfl (Nat.le_of_ble_eq_true rfl) (Nat.le_of_ble_eq_true rfl) dX0_week_34 (pc' := 37) rfl (fun r_24 M_23 h m_25 => ?_)
        refine r_if_eq C dX0_week_37 (pc' := 40) rfl (tgt := 61) (by decide) (fun c_26 => ?_) (fun c_26 => ?_)
        · have h := it_t h c_26
          refine r_iconst C dX0_week_61 (pc' := 62) rfl (v := -1) rfl ?_
          exact r_iret C hE (Nat.le_of_ble_eq_true rfl) (Nat.le_of_ble_eq_true rfl) dX0_week_62 ⟨_, rfl, h⟩
        · have h := it_f h c_26
          refine r_iload_n C dX0_week_40 (pc' := 41) rfl (j := 3) rfl ?_
          refine r_bipush C dX0_week_41 (pc' := 43) rfl (v := 7) rfl ?_
          refine r_callSi (As := [.int x3, .int (7 : Int32)]) (rest := []) C (S_X0_in h) (lw_S q459 q460 q105 q461) hd_X0_in rfl rfl (Nat.le_of_ble_eq_true rfl) (Nat.le_of_ble_eq_true rfl) (Nat.le_of_ble_eq_true rfl) rfl rfl (Nat.le_of_ble_eq_true rfl) (Nat.le_of_ble_eq_true rfl) dX0_week_43 (pc' := 46) rfl (fun r_28 M_27 h m_29 => ?_)
          refine r_if_ne C dX0_week_46 (pc' := 49) rfl (tgt := 63) (by decide) (fun c_30 => ?_) (fun c_30 => ?_)
          · have h := it_f h c_30
            refine r_sub (lv' := [(0, .ref a0), (1, .int x1), (2, .int x2), (3, .int x3)]) [0, 1, 2, 3] rfl ?_
            exact B_X0_week_63 C hE (mMo.kd m_29 (mMo.kd m_25 (mMo.kd m_21 (mMo.kd m_17 (mMo.kd m_3 k_a0 (by decide)) (by decide)) (by decide)) (by decide)) (by decide)) h
          · have h := it_t h c_30
            refine r_iload_n C dX0_week_49 (pc' := 50) rfl (j := 3) rfl ?_
            refine r_bipush C dX0_week_50 (pc' := 52) rfl (v := 10) rfl ?_
            refine r_icmp_eq C dX0_week_52 (pc' := 55) rfl (tgt := 63) (by decide) (fun c_68 => ?_) (fun c_68 => ?_)
            · have h := it_t h c_68
              refine r_sub (lv' := [(0, .ref a0), (1, .int x1), (2, .int x2), (3, .int x3)]) [0, 1, 2, 3] rfl ?_
              exact B_X0_week_63 C hE (mMo.kd m_29 (mMo.kd m_25 (mMo.kd m_21 (mMo.kd m_17 (mMo.kd m_3 k_a0 (by decide)) (by decide)) (by decide)) (by decide)) (by decide)) h
            · have h := it_f h c_68
              refine r_iload_n C dX0_week_55 (pc' := 56) rfl (j := 3) rfl ?_
              refine r_bipush C dX0_week_56 (pc' := 58) rfl (v := 11) rfl ?_
              refine r_icmp_eq C dX0_week_58 (pc' := 61) rfl (tgt := 63) (by decide) (fun c_69 => ?_) (fun c_69 => ?_)
              · have h := it_t h c_69
                refine r_sub (lv' := [(0, .ref a0), (1, .int x1), (2, .int x2), (3, .int x3)]) [0, 1, 2, 3] rfl ?_
                exact B_X0_week_63 C hE (mMo.kd m_29 (mMo.kd m_25 (mMo.kd m_21 (mMo.kd m_17 (mMo.kd m_3 k_a0 (by decide)) (by decide)) (by decide)) (by decide)) (by decide)) h
              · have h := it_f h c_69
                refine r_iconst C dX0_week_61 (pc' := 62) rfl (v := -1) rfl ?_
                exact r_iret C hE (Nat.le_of_ble_eq_true rfl) (Nat.le_of_ble_eq_true rfl) dX0_week_62 ⟨_, rfl, h⟩
set_option maxHeartbeats 4000000 in
theorem B_X0_spread_70 {E : mE} {a0 : Nat} {x1 : Int32} {x2 : Int32} {x3 : Int32} {x4 : Int32} {X100 : MM → Prop} {Post : Int32 → MM → Prop} (C : mC E yX0_spread cX0_spread 6 ((some .int)) { frames := 251, cells := 0, slots := 0, locals := 6627 }) (hE : mEnd E { frames := 251, cells := 0, slots := 0, locals := 6627 } (pI_ Post)) : ∀ (n_ : Nat) (M : MM) (x5 : Int32), mkd M a0 = 1 → wl_X0_spread_70 a0 x1 x2 x3 x4 X100 n_ M x5 → (∀ (M' : MM), mMo M M' → X100 M' → mV E M' 0 0 100 [(0, .ref a0), (1, .int x1), (2, .int x2), (3, .int x3), (4, .int x4)] []) → mV E M 0 0 70 [(0, .ref a0), (1, .int x1), (2, .int x2), (3, .int x3), (4, .int x4), (5, .int x5)] [] := by
  intro n_
  induction n_ with
  | zero =>
    intro M x5 k_a0 h hX100
    exact absurd h (by rw [wl_X0_spread_70]; exact fun q => q)
  | succ n_ ih =>
    intro M x5 k_a0 h hX100
    rw [wl_X0_spread_70] at h
    refine r_iload C dX0_spread_70 (pc' := 72) rfl (j := 5) rfl ?_
    refine r_iload_n C dX0_spread_72 (pc' := 73) rfl (j := 1) rfl ?_
    refine r_icmp_gt C dX0_spread_73 (pc' := 76) rfl (tgt := 100) (by decide) (fun c_27 => ?_) (fun c_27 => ?_)
    · have h := it_t h c_27
      refine r_sub (lv' := [(0, .ref a0), (1, .int x1), (2, .int x2), (3, .int x3), (4, .int x4)]) [0, 1, 2, 3, 4] rfl ?_
      exact hX100 M mMo.rf h
    · have h := it_f h c_27
      refine r_aload_n C dX0_spread_76 (pc' := 77) rfl (j := 0) rfl ?_
      refine r_getf C (Cn := RX0) (T := TX0) 28 k_a0 (by decide) vc_X0 in_X0 (by decide) q382 dX0_spread_77 (pc' := 80) rfl (v := va_rf (mgR M a0 28)) rfl ?_
      obtain ⟨b_28, e_29, k_30, h⟩ := h
      refine r_ref [] e_29 ?_
      refine r_iload C dX0_spread_80 (pc' := 82) rfl (j := 4) rfl ?_
      obtain ⟨c_31, h⟩ := h
      refine r_aald C (t := 10) (j := (ix_ x4)) k_30 (by decide) rfl rfl c_31 rfl dX0_spread_82 (pc' := 83) rfl ?_
      obtain ⟨b_32, e_33, k_34, h⟩ := h
      refine r_ref [] e_33 ?_
      refine r_iload C dX0_spread_83 (pc' := 85) rfl (j := 5) rfl ?_
      refine r_aload_n C dX0_spread_85 (pc' := 86) rfl (j := 0) rfl ?_
      refine r_iload C dX0_spread_86 (pc' := 88) rfl (j := 4) rfl ?_
      refine r_iload C dX0_spread_88 (pc' := 90) rfl (j := 5) rfl ?_
      refine r_callVi (As := [.int x4, .int x5]) (rest := [.int x5, .ref b_32]) (Cn := RX0) (T := TX0) C k_a0 (by decide) vc_X0 (S_X0_lastsWith k_a0 h) (lw_V q1026 q1028 qs29 q105 q1029) rfl hd_X0_lastsWith rfl rfl (Nat.le_of_ble_eq_true rfl) (Nat.le_of_ble_eq_true rfl) (Nat.le_of_ble_eq_true rfl) rfl rfl (Nat.le_of_ble_eq_true rfl) (Nat.le_of_ble_eq_true rfl) dX0_spread_90 (pc' := 93) rfl (fun r_36 M_35 h m_37 => ?_)
      obtain ⟨c_38, h⟩ := h
      obtain ⟨M_39, e_40, h⟩ := bn_ h
      refine r_iast C (j := (ix_ x5)) (mMo.kd m_37 k_34 (by decide)) c_38 rfl dX0_spread_93 (pc' := 94) rfl M_39 e_40 ?_
      obtain ⟨x5_41, e_42, h⟩ := bn_ h
      refine r_iinc C (lv' := [(5, .int x5_41), (0, .ref a0), (1, .int x1), (2, .int x2), (3, .int x3), (4, .int x4)]) dX0_spread_94 (pc' := 97) rfl (j := 5) rfl x5_41 (by rw [e_42]; rfl) (Nat.le_of_ble_eq_true rfl) rfl ?_
      refine r_goto C dX0_spread_97 (tgt := 70) (by decide) ?_
      refine r_sub (lv' := [(0, .ref a0), (1, .int x1), (2, .int x2), (3, .int x3), (4, .int x4), (5, .int x5_41)]) [1, 2, 3, 4, 5, 0] rfl ?_
      exact ih M_39 x5_41 (mMo.kd (mo_I e_40) (mMo.kd m_37 k_a0 (by decide)) (by decide)) h (fun M9 hm9 h9 => hX100 M9 (mMo.tr (mMo.tr m_37 (mo_I e_40)) hm9) h9)
set_option maxHeartbeats 4000000 in
theorem B_X0_spread_31 {E : mE} {a0 : Nat} {x1 : Int32} {x2 : Int32} {X106 : MM → Int32 → Prop} {Post : Int32 → MM → Prop} (C : mC E yX0_spread cX0_spread 6 ((some .int)) { frames := 251, cells := 0, slots := 0, locals := 6627 }) (hE : mEnd E { frames := 251, cells := 0, slots := 0, locals := 6627 } (pI_ Post)) : ∀ (n_ : Nat) (M : MM) (x3 : Int32) (x4 : Int32), mkd M a0 = 1 → wl_X0_spread_31 a0 x1 x2 X106 n_ M x3 x4 → (∀ (M' : MM) (x3' : Int32), mMo M M' → X106 M' x3' → mV E M' 0 0 106 [(0, .ref a0), (1, .int x1), (2, .int x2), (3, .int x3')] []) → mV E M 0 0 31 [(0, .ref a0), (1, .int x1), (2, .int x2), (3, .int x3), (4, .int x4)] [] := by
  intro n_
  induction n_ with
  | zero =>
    intro M x3 x4 k_a0 h hX106
    exact absurd h (by rw [wl_X0_spread_31]; exact fun q => q)
  | succ n_ ih =>
    intro M x3 x4 k_a0 h hX106
    rw [wl_X0_spread_31] at h
    refine r_iload C dX0_spread_31 (pc' := 33) rfl (j := 4) rfl ?_
    refine r_iconst C dX0_spread_33 (pc' := 34) rfl (v := 4) rfl ?_
    refine r_icmp_ge C dX0_spread_34 (pc' := 37) rfl (tgt := 106) (by decide) (fun c_6 => ?_) (fun c_6 => ?_)
    · have h := it_t h c_6
      refine r_sub (lv' := [(0, .ref a0), (1, .int x1), (2, .int x2), (3, .int x3)]) [0, 1, 2, 3] rfl ?_
      exact hX106 M x3 mMo.rf h
    · have h := it_f h c_6
      refine r_aload_n C dX0_spread_37 (pc' := 38) rfl (j := 0) rfl ?_
      refine r_getf C (Cn := RX0) (T := TX0) 29 k_a0 (by decide) vc_X0 in_X0 (by decide) q383 dX0_spread_38 (pc' := 41) rfl (v := va_rf (mgR M a0 29)) rfl ?_
      obtain ⟨b_7, e_8, k_9, h⟩ := h
      refine r_ref [] e_8 ?_
      refine r_iload C dX0_spread_41 (pc' := 43) rfl (j := 4) rfl ?_
      refine r_iconst C dX0_spread_43 (pc' := 44) rfl (v := 0) rfl ?_
      obtain ⟨c_10, h⟩ := h
      obtain ⟨M_11, e_12, h⟩ := bn_ h
      refine r_iast C (j := (ix_ x4)) k_9 c_10 rfl dX0_spread_44 (pc' := 45) rfl M_11 e_12 ?_
      refine r_aload_n C dX0_spread_45 (pc' := 46) rfl (j := 0) rfl ?_
      refine r_getf C (Cn := RX0) (T := TX0) 1 (mMo.kd (mo_I e_12) k_a0 (by decide)) (by decide) vc_X0 in_X0 (by decide) q351 dX0_spread_46 (pc' := 49) rfl (v := va_rf (mgR M_11 a0 1)) rfl ?_
      obtain ⟨b_13, e_14, k_15, h⟩ := h
      refine r_ref [] e_14 ?_
      refine r_getfN C (Cn := RX3) (T := TX3) 0 k_15 (by decide) vc_X3 in_X3 (by decide) (List.mem_of_getElem? (i := 0) rfl) dX0_spread_49 (pc' := 52) rfl (v := va_rf (mgR M_11 b_13 0)) rfl ?_
      obtain ⟨b_16, e_17, k_18, h⟩ := h
      refine r_ref [] e_17 ?_
      refine r_iload C dX0_spread_52 (pc' := 54) rfl (j := 4) rfl ?_
      obtain ⟨c_19, h⟩ := h
      refine r_aald C (t := 3) (j := (ix_ x4)) k_18 (by decide) rfl rfl c_19 rfl dX0_spread_54 (pc' := 55) rfl ?_
      obtain ⟨b_20, e_21, k_22, h⟩ := h
      refine r_ref [] e_21 ?_
      refine r_callVi (As := []) (rest := []) (Cn := RX4) (T := TX4) C k_22 (by decide) vc_X4 (S_X4_lives k_22 h) (lw_V q1049 q793 q794 q109 q795) rfl hd_X4_lives rfl rfl (Nat.le_of_ble_eq_true rfl) (Nat.le_of_ble_eq_true rfl) (Nat.le_of_ble_eq_true rfl) rfl rfl (Nat.le_of_ble_eq_true rfl) (Nat.le_of_ble_eq_true rfl) dX0_spread_55 (pc' := 58) rfl (fun r_24 M_23 h m_25 => ?_)
      refine r_if_ne C dX0_spread_58 (pc' := 61) rfl (tgt := 64) (by decide) (fun c_26 => ?_) (fun c_26 => ?_)
      · have h := it_f h c_26
        refine r_iload C dX0_spread_64 (pc' := 66) rfl (j := 4) rfl ?_
        refine r_istore_n C (lv' := [(3, .int x4), (0, .ref a0), (1, .int x1), (2, .int x2), (4, .int x4)]) dX0_spread_66 (pc' := 67) rfl rfl x4 rfl (Nat.le_of_ble_eq_true rfl) rfl ?_
        refine r_iconst C dX0_spread_67 (pc' := 68) rfl (v := 0) rfl ?_
        refine r_istore C (lv' := [(5, .int (0 : Int32)), (3, .int x4), (0, .ref a0), (1, .int x1), (2, .int x2), (4, .int x4)]) dX0_spread_68 (pc' := 70) rfl (0 : Int32) rfl (Nat.le_of_ble_eq_true rfl) rfl ?_
        obtain ⟨n_43, h⟩ := h
        refine r_sub (lv' := [(0, .ref a0), (1, .int x1), (2, .int x2), (3, .int x4), (4, .int x4), (5, .int (0 : Int32))]) [2, 3, 4, 1, 5, 0] rfl ?_
        refine B_X0_spread_70 C hE n_43 M_23 (0 : Int32) (mMo.kd m_25 (mMo.kd (mo_I e_12) k_a0 (by decide)) (by decide)) h (fun M_44 m_45 h => ?_)
        obtain ⟨x4_46, e_47, h⟩ := bn_ h
        refine r_iinc C (lv' := [(4, .int x4_46), (0, .ref a0), (1, .int x1), (2, .int x2), (3, .int x4)]) dX0_spread_100 (pc' := 103) rfl (j := 4) rfl x4_46 (by rw [e_47]; rfl) (Nat.le_of_ble_eq_true rfl) rfl ?_
        refine r_goto C dX0_spread_103 (tgt := 31) (by decide) ?_
        refine r_sub (lv' := [(0, .ref a0), (1, .int x1), (2, .int x2), (3, .int x4), (4, .int x4_46)]) [1, 2, 3, 4, 0] rfl ?_
        exact ih M_44 x4 x4_46 (mMo.kd m_45 (mMo.kd m_25 (mMo.kd (mo_I e_12) k_a0 (by decide)) (by decide)) (by decide)) h (fun M9 w0 hm9 h9 => hX106 M9 w0 (mMo.tr (mMo.tr (mMo.tr (mo_I e_12) m_25) m_45) hm9) h9)
      · have h := it_t h c_26
        refine r_goto C dX0_spread_61 (tgt := 100) (by decide) ?_
        obtain ⟨x4_48, e_49, h⟩ := bn_ h
        refine r_iinc C (lv' := [(4, .int x4_48), (0, .ref a0), (1, .int x1), (2, .int x2), (3, .int x3)]) dX0_spread_100 (pc' := 103) rfl (j := 4) rfl x4_48 (by rw [e_49]; rfl) (Nat.le_of_ble_eq_true rfl) rfl ?_
        refine r_goto C dX0_spread_103 (tgt := 31) (by decide) ?_
        refine r_sub (lv' := [(0, .ref a0), (1, .int x1), (2, .int x2), (3, .int x3), (4, .int x4_48)]) [1, 2, 3, 4, 0] rfl ?_
        exact ih M_23 x3 x4_48 (mMo.kd m_25 (mMo.kd (mo_I e_12) k_a0 (by decide)) (by decide)) h (fun M9 w0 hm9 h9 => hX106 M9 w0 (mMo.tr (mMo.tr (mo_I e_12) m_25) hm9) h9)
set_option maxHeartbeats 4000000 in
theorem B_X0_spread_26 {E : mE} {M : MM} {a0 : Nat} {x1 : Int32} {x2 : Int32} {Post : Int32 → MM → Prop} (C : mC E yX0_spread cX0_spread 6 ((some .int)) { frames := 251, cells := 0, slots := 0, locals := 6627 }) (hE : mEnd E { frames := 251, cells := 0, slots := 0, locals := 6627 } (pI_ Post)) (k_a0 : mkd M a0 = 1) (h : wb_X0_spread_26 M a0 x1 x2 Post) : mV E M 0 0 26 [(0, .ref a0), (1, .int x1), (2, .int x2)] [] := by
  unfold wb_X0_spread_26 at h
  refine r_iconst C dX0_spread_26 (pc' := 27) rfl (v := -1) rfl ?_
  refine r_istore_n C (lv' := [(3, .int (-1 : Int32)), (0, .ref a0), (1, .int x1), (2, .int x2)]) dX0_spread_27 (pc' := 28) rfl rfl (-1 : Int32) rfl (Nat.le_of_ble_eq_true rfl) rfl ?_
  refine r_iconst C dX0_spread_28 (pc' := 29) rfl (v := 0) rfl ?_
  refine r_istore C (lv' := [(4, .int (0 : Int32)), (3, .int (-1 : Int32)), (0, .ref a0), (1, .int x1), (2, .int x2)]) dX0_spread_29 (pc' := 31) rfl (0 : Int32) rfl (Nat.le_of_ble_eq_true rfl) rfl ?_
  obtain ⟨n_50, h⟩ := h
  refine r_sub (lv' := [(0, .ref a0), (1, .int x1), (2, .int x2), (3, .int (-1 : Int32)), (4, .int (0 : Int32))]) [2, 3, 4, 1, 0] rfl ?_
  refine B_X0_spread_31 C hE n_50 M (-1 : Int32) (0 : Int32) k_a0 h (fun M_51 x3_53 m_52 h => ?_)
  refine r_iload_n C dX0_spread_106 (pc' := 107) rfl (j := 3) rfl ?_
  refine r_iconst C dX0_spread_107 (pc' := 108) rfl (v := -1) rfl ?_
  refine r_icmp_ne C dX0_spread_108 (pc' := 111) rfl (tgt := 114) (by decide) (fun c_54 => ?_) (fun c_54 => ?_)
  · have h := it_f h c_54
    refine r_aload_n C dX0_spread_114 (pc' := 115) rfl (j := 0) rfl ?_
    refine r_iconst C dX0_spread_115 (pc' := 116) rfl (v := -1) rfl ?_
    obtain ⟨M_55, e_56, h⟩ := bn_ h
    refine r_putI C (Cn := RX0) (T := TX0) tyX0 31 (mMo.kd m_52 k_a0 (by decide)) (by decide) vc_X0 in_X0 tyX0_ok nmX0 (by decide) q385 rfl rfl dX0_spread_116 (pc' := 119) rfl rfl rfl M_55 e_56 ?_
    refine r_aload_n C dX0_spread_119 (pc' := 120) rfl (j := 0) rfl ?_
    refine r_iconst C dX0_spread_120 (pc' := 121) rfl (v := 0) rfl ?_
    refine r_iload_n C dX0_spread_121 (pc' := 122) rfl (j := 1) rfl ?_
    refine r_bipush C dX0_spread_122 (pc' := 124) rfl (v := 60) rfl ?_
    refine r_iload_n C dX0_spread_124 (pc' := 125) rfl (j := 3) rfl ?_
    refine r_callVv (As := [.int (0 : Int32), .int x1, .int (60 : Int32), .int x3_53]) (rest := []) (Cn := RX0) (T := TX0) C (mMo.kd (mo_I e_56) (mMo.kd m_52 k_a0 (by decide)) (by decide)) (by decide) vc_X0 ((sndP 10).2.2 (mMo.kd (mo_I e_56) (mMo.kd m_52 k_a0 (by decide)) (by decide)) h) (lw_V q1050 q1052 qs31 q105 q1053) rfl hd_X0_spreads rfl rfl (Nat.le_of_ble_eq_true rfl) (Nat.le_of_ble_eq_true rfl) (Nat.le_of_ble_eq_true rfl) rfl rfl (Nat.le_of_ble_eq_true rfl) (Nat.le_of_ble_eq_true rfl) dX0_spread_125 (pc' := 128) rfl (fun M_57 h m_59 => ?_)
    refine r_iload_n C dX0_spread_128 (pc' := 129) rfl (j := 2) rfl ?_
    refine r_bipush C dX0_spread_129 (pc' := 131) rfl (v := 10) rfl ?_
    refine r_icmp_ne C dX0_spread_131 (pc' := 134) rfl (tgt := 141) (by decide) (fun c_60 => ?_) (fun c_60 => ?_)
    · have h := it_f h c_60
      refine r_aload_n C dX0_spread_141 (pc' := 142) rfl (j := 0) rfl ?_
      refine r_getf C (Cn := RX0) (T := TX0) 30 (mMo.kd m_59 (mMo.kd (mo_I e_56) (mMo.kd m_52 k_a0 (by decide)) (by decide)) (by decide)) (by decide) vc_X0 in_X0 (by decide) q384 dX0_spread_142 (pc' := 145) rfl (v := va_rf (mgR M_57 a0 30)) rfl ?_
      obtain ⟨b_61, e_62, k_63, h⟩ := h
      refine r_ref [] e_62 ?_
      refine r_iload_n C dX0_spread_145 (pc' := 146) rfl (j := 2) rfl ?_
      obtain ⟨c_64, h⟩ := h
      refine r_iald C (j := (ix_ x2)) k_63 c_64 rfl dX0_spread_146 (pc' := 147) rfl ?_
      exact r_iret C hE (Nat.le_of_ble_eq_true rfl) (Nat.le_of_ble_eq_true rfl) dX0_spread_147 ⟨_, rfl, h⟩
    · have h := it_t h c_60
      refine r_aload_n C dX0_spread_134 (pc' := 135) rfl (j := 0) rfl ?_
      refine r_getf C (Cn := RX0) (T := TX0) 31 (mMo.kd m_59 (mMo.kd (mo_I e_56) (mMo.kd m_52 k_a0 (by decide)) (by decide)) (by decide)) (by decide) vc_X0 in_X0 (by decide) q385 dX0_spread_135 (pc' := 138) rfl (v := .int (mgI M_57 a0 31)) rfl ?_
      refine r_goto C dX0_spread_138 (tgt := 147) (by decide) ?_
      exact r_iret C hE (Nat.le_of_ble_eq_true rfl) (Nat.le_of_ble_eq_true rfl) dX0_spread_147 ⟨_, rfl, h⟩
  · have h := it_t h c_54
    refine r_bipush C dX0_spread_111 (pc' := 113) rfl (v := -2) rfl ?_
    exact r_iret C hE (Nat.le_of_ble_eq_true rfl) (Nat.le_of_ble_eq_true rfl) dX0_spread_113 ⟨_, rfl, h⟩
set_option maxHeartbeats 4000000 in
theorem S_X0_spread {D : DD} {l : Launch} {M : MM} {a0 : Nat} {x1 : Int32} {x2 : Int32} {Post : Int32 → MM → Prop} (k_a0 : mkd M a0 = 1) (h : wp_X0_spread M a0 x1 x2 Post) : mMet D l yX0_spread cX0_spread 6 ((some .int)) { frames := 251, cells := 0, slots := 0, locals := 6627 } M [.ref a0, .int x1, .int x2] (pI_ Post) := by
  refine m_of2 [(0, .ref a0), (1, .int x1), (2, .int x2)] (by decide +kernel) (Nat.le_of_ble_eq_true rfl) rfl (fun E hED hEl C hE => ?_)
  subst hED
  subst hEl
  unfold wp_X0_spread at h
  refine r_iload_n C dX0_spread_0 (pc' := 1) rfl (j := 1) rfl ?_
  refine r_iconst C dX0_spread_1 (pc' := 2) rfl (v := 0) rfl ?_
  refine r_bipush C dX0_spread_2 (pc' := 4) rfl (v := 24) rfl ?_
  refine r_callSi (As := [.int x1, .int (0 : Int32), .int (24 : Int32)]) (rest := []) C (S_X0_within h) (lw_S q462 q463 q105 q464) hd_X0_within rfl rfl (Nat.le_of_ble_eq_true rfl) (Nat.le_of_ble_eq_true rfl) (Nat.le_of_ble_eq_true rfl) rfl rfl (Nat.le_of_ble_eq_true rfl) (Nat.le_of_ble_eq_true rfl) dX0_spread_4 (pc' := 7) rfl (fun r_2 M_1 h m_3 => ?_)
  refine r_if_eq C dX0_spread_7 (pc' := 10) rfl (tgt := 24) (by decide) (fun c_4 => ?_) (fun c_4 => ?_)
  · have h := it_t h c_4
    refine r_iconst C dX0_spread_24 (pc' := 25) rfl (v := -1) rfl ?_
    exact r_iret C hE (Nat.le_of_ble_eq_true rfl) (Nat.le_of_ble_eq_true rfl) dX0_spread_25 ⟨_, rfl, h⟩
  · have h := it_f h c_4
    refine r_iload_n C dX0_spread_10 (pc' := 11) rfl (j := 2) rfl ?_
    refine r_bipush C dX0_spread_11 (pc' := 13) rfl (v := 10) rfl ?_
    refine r_icmp_eq C dX0_spread_13 (pc' := 16) rfl (tgt := 26) (by decide) (fun c_5 => ?_) (fun c_5 => ?_)
    · have h := it_t h c_5
      refine r_sub (lv' := [(0, .ref a0), (1, .int x1), (2, .int x2)]) [0, 1, 2] rfl ?_
      exact B_X0_spread_26 C hE (mMo.kd m_3 k_a0 (by decide)) h
    · have h := it_f h c_5
      refine r_iload_n C dX0_spread_16 (pc' := 17) rfl (j := 2) rfl ?_
      refine r_iconst C dX0_spread_17 (pc' := 18) rfl (v := 4) rfl ?_
      refine r_callSi (As := [.int x2, .int (4 : Int32)]) (rest := []) C (S_X0_in h) (lw_S q459 q460 q105 q461) hd_X0_in rfl rfl (Nat.le_of_ble_eq_true rfl) (Nat.le_of_ble_eq_true rfl) (Nat.le_of_ble_eq_true rfl) rfl rfl (Nat.le_of_ble_eq_true rfl) (Nat.le_of_ble_eq_true rfl) dX0_spread_18 (pc' := 21) rfl (fun r_66 M_65 h m_67 => ?_)
      refine r_if_ne C dX0_spread_21 (pc' := 24) rfl (tgt := 26) (by decide) (fun c_68 => ?_) (fun c_68 => ?_)
      · have h := it_f h c_68
        refine r_sub (lv' := [(0, .ref a0), (1, .int x1), (2, .int x2)]) [0, 1, 2] rfl ?_
        exact B_X0_spread_26 C hE (mMo.kd m_67 (mMo.kd m_3 k_a0 (by decide)) (by decide)) h
      · have h := it_t h c_68
        refine r_iconst C dX0_spread_24 (pc' := 25) rfl (v := -1) rfl ?_
        exact r_iret C hE (Nat.le_of_ble_eq_true rfl) (Nat.le_of_ble_eq_true rfl) dX0_spread_25 ⟨_, rfl, h⟩
set_option maxHeartbeats 4000000 in
theorem B_X0_comes_48 {E : mE} {a0 : Nat} {x1 : Int32} {x2 : Int32} {x3 : Int32} {X70 : MM → Prop} {X80 : MM → Prop} {Post : Int64 → MM → Prop} (C : mC E yX0_comes cX0_comes 8 ((some .long)) { frames := 1, cells := 0, slots := 0, locals := 29 }) (hE : mEnd E { frames := 1, cells := 0, slots := 0, locals := 29 } (pL_ Post)) : ∀ (n_ : Nat) (M : MM) (x4 : Int32), mkd M a0 = 1 → wl_X0_comes_48 a0 x1 x2 x3 X70 X80 n_ M x4 → (∀ (M' : MM), mMo M M' → X70 M' → mV E M' 0 0 70 [] []) → (∀ (M' : MM), mMo M M' → X80 M' → mV E M' 0 0 80 [(0, .ref a0), (1, .int x1), (2, .int x2), (3, .int x3)] []) → mV E M 0 0 48 [(0, .ref a0), (1, .int x1), (2, .int x2), (3, .int x3), (4, .int x4)] [] := by
  intro n_
  induction n_ with
  | zero =>
    intro M x4 k_a0 h hX70 hX80
    exact absurd h (by rw [wl_X0_comes_48]; exact fun q => q)
  | succ n_ ih =>
    intro M x4 k_a0 h hX70 hX80
    rw [wl_X0_comes_48] at h
    refine r_iload C dX0_comes_48 (pc' := 50) rfl (j := 4) rfl ?_
    refine r_iload_n C dX0_comes_50 (pc' := 51) rfl (j := 1) rfl ?_
    refine r_icmp_ge C dX0_comes_51 (pc' := 54) rfl (tgt := 80) (by decide) (fun c_16 => ?_) (fun c_16 => ?_)
    · have h := it_t h c_16
      refine r_sub (lv' := [(0, .ref a0), (1, .int x1), (2, .int x2), (3, .int x3)]) [0, 1, 2, 3] rfl ?_
      exact hX80 M mMo.rf h
    · have h := it_f h c_16
      refine r_aload_n C dX0_comes_54 (pc' := 55) rfl (j := 0) rfl ?_
      refine r_getf C (Cn := RX0) (T := TX0) 4 k_a0 (by decide) vc_X0 in_X0 (by decide) q356 dX0_comes_55 (pc' := 58) rfl (v := va_rf (mgR M a0 4)) rfl ?_
      obtain ⟨b_17, e_18, k_19, h⟩ := h
      refine r_ref [] e_18 ?_
      refine r_iload C dX0_comes_58 (pc' := 60) rfl (j := 4) rfl ?_
      obtain ⟨c_20, h⟩ := h
      refine r_bald C (j := (ix_ x4)) k_19 c_20 rfl dX0_comes_60 (pc' := 61) rfl ?_
      refine r_iconst C dX0_comes_61 (pc' := 62) rfl (v := 0) rfl ?_
      refine r_bipush C dX0_comes_62 (pc' := 64) rfl (v := 10) rfl ?_
      refine r_callSi (As := [.int (mgI M b_17 (ix_ x4)), .int (0 : Int32), .int (10 : Int32)]) (rest := []) C (S_X0_within h) (lw_S q462 q463 q105 q464) hd_X0_within rfl rfl (Nat.le_of_ble_eq_true rfl) (Nat.le_of_ble_eq_true rfl) (Nat.le_of_ble_eq_true rfl) rfl rfl (Nat.le_of_ble_eq_true rfl) (Nat.le_of_ble_eq_true rfl) dX0_comes_64 (pc' := 67) rfl (fun r_22 M_21 h m_23 => ?_)
      refine r_if_ne C dX0_comes_67 (pc' := 70) rfl (tgt := 74) (by decide) (fun c_24 => ?_) (fun c_24 => ?_)
      · have h := it_f h c_24
        obtain ⟨x4_25, e_26, h⟩ := bn_ h
        refine r_iinc C (lv' := [(4, .int x4_25), (0, .ref a0), (1, .int x1), (2, .int x2), (3, .int x3)]) dX0_comes_74 (pc' := 77) rfl (j := 4) rfl x4_25 (by rw [e_26]; rfl) (Nat.le_of_ble_eq_true rfl) rfl ?_
        refine r_goto C dX0_comes_77 (tgt := 48) (by decide) ?_
        refine r_sub (lv' := [(0, .ref a0), (1, .int x1), (2, .int x2), (3, .int x3), (4, .int x4_25)]) [1, 2, 3, 4, 0] rfl ?_
        exact ih M_21 x4_25 (mMo.kd m_23 k_a0 (by decide)) h (fun M9 hm9 h9 => hX70 M9 (mMo.tr m_23 hm9) h9) (fun M9 hm9 h9 => hX80 M9 (mMo.tr m_23 hm9) h9)
      · have h := it_t h c_24
        refine r_sub (lv' := []) [] rfl ?_
        exact hX70 M_21 m_23 h
set_option maxHeartbeats 4000000 in
theorem B_X0_comes_106 {E : mE} {M : MM} {a0 : Nat} {x1 : Int32} {x2 : Int32} {x3 : Int32} {x4 : Int32} {as0 : Nat} {xs1 : Int32} {xs2 : Int64} {R : MM → Int32 → Prop} {X113 : MM → Prop} {Post : Int64 → MM → Prop} (C : mC E yX0_comes cX0_comes 8 ((some .long)) { frames := 1, cells := 0, slots := 0, locals := 29 }) (hE : mEnd E { frames := 1, cells := 0, slots := 0, locals := 29 } (pL_ Post)) (k_a0 : mkd M a0 = 1) (k_as0 : mkd M as0 = 101) (h : wb_X0_comes_106 M a0 x1 x2 x3 x4 as0 xs1 xs2 R X113) (hR : ∀ (M' : MM) (x4' : Int32), mMo M M' → mkd M' a0 = 1 → R M' x4' → mV E M' 0 0 83 [(0, .ref a0), (1, .int x1), (2, .int x2), (3, .int x3), (4, .int x4')] []) (hX113 : ∀ (M' : MM), mMo M M' → X113 M' → mV E M' 0 0 113 [(0, .ref a0), (1, .int x1), (2, .int x2), (3, .int x3)] []) : mV E M 0 0 106 [(0, .ref a0), (1, .int x1), (2, .int x2), (3, .int x3), (4, .int x4)] [.long xs2, .int xs1, .ref as0] := by
  unfold wb_X0_comes_106 at h
  obtain ⟨c_37, h⟩ := h
  obtain ⟨M_38, e_39, h⟩ := bn_ h
  refine r_last C (j := (ix_ xs1)) k_as0 c_37 rfl dX0_comes_106 (pc' := 107) rfl M_38 e_39 ?_
  obtain ⟨x4_40, e_41, h⟩ := bn_ h
  refine r_iinc C (lv' := [(4, .int x4_40), (0, .ref a0), (1, .int x1), (2, .int x2), (3, .int x3)]) dX0_comes_107 (pc' := 110) rfl (j := 4) rfl x4_40 (by rw [e_41]; rfl) (Nat.le_of_ble_eq_true rfl) rfl ?_
  refine r_goto C dX0_comes_110 (tgt := 83) (by decide) ?_
  refine r_sub (lv' := [(0, .ref a0), (1, .int x1), (2, .int x2), (3, .int x3), (4, .int x4_40)]) [1, 2, 3, 4, 0] rfl ?_
  exact hR M_38 x4_40 (mo_L e_39) (mMo.kd (mo_L e_39) k_a0 (by decide)) h
set_option maxHeartbeats 4000000 in
theorem B_X0_comes_83 {E : mE} {a0 : Nat} {x1 : Int32} {x2 : Int32} {x3 : Int32} {X113 : MM → Prop} {Post : Int64 → MM → Prop} (C : mC E yX0_comes cX0_comes 8 ((some .long)) { frames := 1, cells := 0, slots := 0, locals := 29 }) (hE : mEnd E { frames := 1, cells := 0, slots := 0, locals := 29 } (pL_ Post)) : ∀ (n_ : Nat) (M : MM) (x4 : Int32), mkd M a0 = 1 → wl_X0_comes_83 a0 x1 x2 x3 X113 n_ M x4 → (∀ (M' : MM), mMo M M' → X113 M' → mV E M' 0 0 113 [(0, .ref a0), (1, .int x1), (2, .int x2), (3, .int x3)] []) → mV E M 0 0 83 [(0, .ref a0), (1, .int x1), (2, .int x2), (3, .int x3), (4, .int x4)] [] := by
  intro n_
  induction n_ with
  | zero =>
    intro M x4 k_a0 h hX113
    exact absurd h (by rw [wl_X0_comes_83]; exact fun q => q)
  | succ n_ ih =>
    intro M x4 k_a0 h hX113
    rw [wl_X0_comes_83] at h
    refine r_iload C dX0_comes_83 (pc' := 85) rfl (j := 4) rfl ?_
    refine r_bipush C dX0_comes_85 (pc' := 87) rfl (v := 12) rfl ?_
    refine r_icmp_gt C dX0_comes_87 (pc' := 90) rfl (tgt := 113) (by decide) (fun c_32 => ?_) (fun c_32 => ?_)
    · have h := it_t h c_32
      refine r_sub (lv' := [(0, .ref a0), (1, .int x1), (2, .int x2), (3, .int x3)]) [0, 1, 2, 3] rfl ?_
      exact hX113 M mMo.rf h
    · have h := it_f h c_32
      refine r_aload_n C dX0_comes_90 (pc' := 91) rfl (j := 0) rfl ?_
      refine r_getf C (Cn := RX0) (T := TX0) 32 k_a0 (by decide) vc_X0 in_X0 (by decide) q386 dX0_comes_91 (pc' := 94) rfl (v := va_rf (mgR M a0 32)) rfl ?_
      obtain ⟨b_33, e_34, k_35, h⟩ := h
      refine r_ref [] e_34 ?_
      refine r_iload C dX0_comes_94 (pc' := 96) rfl (j := 4) rfl ?_
      refine r_iload C dX0_comes_96 (pc' := 98) rfl (j := 4) rfl ?_
      refine r_if_ne C dX0_comes_98 (pc' := 101) rfl (tgt := 105) (by decide) (fun c_36 => ?_) (fun c_36 => ?_)
      · have h := it_f h c_36
        refine r_lconst C dX0_comes_105 (pc' := 106) rfl (v := 0) rfl ?_
        refine r_sub (lv' := [(0, .ref a0), (1, .int x1), (2, .int x2), (3, .int x3), (4, .int x4)]) [0, 1, 2, 3, 4] rfl ?_
        exact B_X0_comes_106 C hE k_a0 k_35 h (fun M8 v0 hm8 g0 h8 => ih M8 v0 g0 h8 (fun M9 hm9 h9 => hX113 M9 (mMo.tr hm8 hm9) h9)) (fun M9 hm9 h9 => hX113 M9 hm9 h9)
      · have h := it_t h c_36
        refine r_lconst C dX0_comes_101 (pc' := 102) rfl (v := 1) rfl ?_
        refine r_goto C dX0_comes_102 (tgt := 106) (by decide) ?_
        refine r_sub (lv' := [(0, .ref a0), (1, .int x1), (2, .int x2), (3, .int x3), (4, .int x4)]) [0, 1, 2, 3, 4] rfl ?_
        exact B_X0_comes_106 C hE k_a0 k_35 h (fun M8 v0 hm8 g0 h8 => ih M8 v0 g0 h8 (fun M9 hm9 h9 => hX113 M9 (mMo.tr hm8 hm9) h9)) (fun M9 hm9 h9 => hX113 M9 hm9 h9)
set_option maxHeartbeats 4000000 in
theorem B_X0_comes_183 {E : mE} {M : MM} {a0 : Nat} {x1 : Int32} {x2 : Int32} {x3 : Int32} {x4 : Int32} {x5 : Int32} {as0 : Nat} {xs1 : Int32} {xs2 : Int64} {xs3 : Int64} {R : MM → Int32 → Prop} {X191 : MM → Prop} {Post : Int64 → MM → Prop} (C : mC E yX0_comes cX0_comes 8 ((some .long)) { frames := 1, cells := 0, slots := 0, locals := 29 }) (hE : mEnd E { frames := 1, cells := 0, slots := 0, locals := 29 } (pL_ Post)) (k_a0 : mkd M a0 = 1) (k_as0 : mkd M as0 = 101) (h : wb_X0_comes_183 M a0 x1 x2 x3 x4 x5 as0 xs1 xs2 xs3 R X191) (hR : ∀ (M' : MM) (x5' : Int32), mMo M M' → mkd M' a0 = 1 → R M' x5' → mV E M' 0 0 126 [(0, .ref a0), (1, .int x1), (2, .int x2), (3, .int x3), (4, .int x4), (5, .int x5')] []) (hX191 : ∀ (M' : MM), mMo M M' → X191 M' → mV E M' 0 0 191 [(0, .ref a0), (1, .int x1), (2, .int x2), (3, .int x3), (4, .int x4)] []) : mV E M 0 0 183 [(0, .ref a0), (1, .int x1), (2, .int x2), (3, .int x3), (4, .int x4), (5, .int x5)] [.long xs3, .long xs2, .int xs1, .ref as0] := by
  unfold wb_X0_comes_183 at h
  refine r_ladd C dX0_comes_183 (pc' := 184) rfl ?_
  obtain ⟨c_67, h⟩ := h
  obtain ⟨M_68, e_69, h⟩ := bn_ h
  refine r_last C (j := (ix_ xs1)) k_as0 c_67 rfl dX0_comes_184 (pc' := 185) rfl M_68 e_69 ?_
  obtain ⟨x5_70, e_71, h⟩ := bn_ h
  refine r_iinc C (lv' := [(5, .int x5_70), (0, .ref a0), (1, .int x1), (2, .int x2), (3, .int x3), (4, .int x4)]) dX0_comes_185 (pc' := 188) rfl (j := 5) rfl x5_70 (by rw [e_71]; rfl) (Nat.le_of_ble_eq_true rfl) rfl ?_
  refine r_goto C dX0_comes_188 (tgt := 126) (by decide) ?_
  refine r_sub (lv' := [(0, .ref a0), (1, .int x1), (2, .int x2), (3, .int x3), (4, .int x4), (5, .int x5_70)]) [1, 2, 3, 4, 5, 0] rfl ?_
  exact hR M_68 x5_70 (mo_L e_69) (mMo.kd (mo_L e_69) k_a0 (by decide)) h
set_option maxHeartbeats 4000000 in
theorem B_X0_comes_126 {E : mE} {a0 : Nat} {x1 : Int32} {x2 : Int32} {x3 : Int32} {x4 : Int32} {X191 : MM → Prop} {Post : Int64 → MM → Prop} (C : mC E yX0_comes cX0_comes 8 ((some .long)) { frames := 1, cells := 0, slots := 0, locals := 29 }) (hE : mEnd E { frames := 1, cells := 0, slots := 0, locals := 29 } (pL_ Post)) : ∀ (n_ : Nat) (M : MM) (x5 : Int32), mkd M a0 = 1 → wl_X0_comes_126 a0 x1 x2 x3 x4 X191 n_ M x5 → (∀ (M' : MM), mMo M M' → X191 M' → mV E M' 0 0 191 [(0, .ref a0), (1, .int x1), (2, .int x2), (3, .int x3), (4, .int x4)] []) → mV E M 0 0 126 [(0, .ref a0), (1, .int x1), (2, .int x2), (3, .int x3), (4, .int x4), (5, .int x5)] [] := by
  intro n_
  induction n_ with
  | zero =>
    intro M x5 k_a0 h hX191
    exact absurd h (by rw [wl_X0_comes_126]; exact fun q => q)
  | succ n_ ih =>
    intro M x5 k_a0 h hX191
    rw [wl_X0_comes_126] at h
    refine r_iload C dX0_comes_126 (pc' := 128) rfl (j := 5) rfl ?_
    refine r_if_lt C dX0_comes_128 (pc' := 131) rfl (tgt := 191) (by decide) (fun c_46 => ?_) (fun c_46 => ?_)
    · have h := it_t h c_46
      refine r_sub (lv' := [(0, .ref a0), (1, .int x1), (2, .int x2), (3, .int x3), (4, .int x4)]) [0, 1, 2, 3, 4] rfl ?_
      exact hX191 M mMo.rf h
    · have h := it_f h c_46
      refine r_aload_n C dX0_comes_131 (pc' := 132) rfl (j := 0) rfl ?_
      refine r_getf C (Cn := RX0) (T := TX0) 32 k_a0 (by decide) vc_X0 in_X0 (by decide) q386 dX0_comes_132 (pc' := 135) rfl (v := va_rf (mgR M a0 32)) rfl ?_
      obtain ⟨b_47, e_48, k_49, h⟩ := h
      refine r_ref [] e_48 ?_
      refine r_iload C dX0_comes_135 (pc' := 137) rfl (j := 5) rfl ?_
      refine r_aload_n C dX0_comes_137 (pc' := 138) rfl (j := 0) rfl ?_
      refine r_getf C (Cn := RX0) (T := TX0) 32 k_a0 (by decide) vc_X0 in_X0 (by decide) q386 dX0_comes_138 (pc' := 141) rfl (v := va_rf (mgR M a0 32)) rfl ?_
      obtain ⟨b_50, e_51, k_52, h⟩ := h
      refine r_ref [] e_51 ?_
      refine r_iload C dX0_comes_141 (pc' := 143) rfl (j := 5) rfl ?_
      obtain ⟨c_53, h⟩ := h
      refine r_lald C (j := (ix_ x5)) k_52 c_53 rfl dX0_comes_143 (pc' := 144) rfl ?_
      refine r_bipush C dX0_comes_144 (pc' := 146) rfl (v := 10) rfl ?_
      refine r_aload_n C dX0_comes_146 (pc' := 147) rfl (j := 0) rfl ?_
      refine r_getf C (Cn := RX0) (T := TX0) 4 k_a0 (by decide) vc_X0 in_X0 (by decide) q356 dX0_comes_147 (pc' := 150) rfl (v := va_rf (mgR M a0 4)) rfl ?_
      obtain ⟨b_54, e_55, k_56, h⟩ := h
      refine r_ref [] e_55 ?_
      refine r_iload C dX0_comes_150 (pc' := 152) rfl (j := 4) rfl ?_
      obtain ⟨c_57, h⟩ := h
      refine r_bald C (j := (ix_ x4)) k_56 c_57 rfl dX0_comes_152 (pc' := 153) rfl ?_
      refine r_isub C dX0_comes_153 (pc' := 154) rfl ?_
      refine r_i2l C dX0_comes_154 (pc' := 155) rfl ?_
      refine r_lmul C dX0_comes_155 (pc' := 156) rfl ?_
      refine r_iload C dX0_comes_156 (pc' := 158) rfl (j := 5) rfl ?_
      refine r_if_ne C dX0_comes_158 (pc' := 161) rfl (tgt := 165) (by decide) (fun c_58 => ?_) (fun c_58 => ?_)
      · have h := it_f h c_58
        refine r_aload_n C dX0_comes_165 (pc' := 166) rfl (j := 0) rfl ?_
        refine r_getf C (Cn := RX0) (T := TX0) 32 k_a0 (by decide) vc_X0 in_X0 (by decide) q386 dX0_comes_166 (pc' := 169) rfl (v := va_rf (mgR M a0 32)) rfl ?_
        obtain ⟨b_59, e_60, k_61, h⟩ := h
        refine r_ref [] e_60 ?_
        refine r_iload C dX0_comes_169 (pc' := 171) rfl (j := 5) rfl ?_
        refine r_iconst C dX0_comes_171 (pc' := 172) rfl (v := 1) rfl ?_
        refine r_isub C dX0_comes_172 (pc' := 173) rfl ?_
        obtain ⟨c_62, h⟩ := h
        refine r_lald C (j := (ix_ (x5 - (1 : Int32)))) k_61 c_62 rfl dX0_comes_173 (pc' := 174) rfl ?_
        refine r_aload_n C dX0_comes_174 (pc' := 175) rfl (j := 0) rfl ?_
        refine r_getf C (Cn := RX0) (T := TX0) 4 k_a0 (by decide) vc_X0 in_X0 (by decide) q356 dX0_comes_175 (pc' := 178) rfl (v := va_rf (mgR M a0 4)) rfl ?_
        obtain ⟨b_63, e_64, k_65, h⟩ := h
        refine r_ref [] e_64 ?_
        refine r_iload C dX0_comes_178 (pc' := 180) rfl (j := 4) rfl ?_
        obtain ⟨c_66, h⟩ := h
        refine r_bald C (j := (ix_ x4)) k_65 c_66 rfl dX0_comes_180 (pc' := 181) rfl ?_
        refine r_i2l C dX0_comes_181 (pc' := 182) rfl ?_
        refine r_lmul C dX0_comes_182 (pc' := 183) rfl ?_
        refine r_sub (lv' := [(0, .ref a0), (1, .int x1), (2, .int x2), (3, .int x3), (4, .int x4), (5, .int x5)]) [0, 1, 2, 3, 4, 5] rfl ?_
        exact B_X0_comes_183 C hE k_a0 k_49 h (fun M8 v0 hm8 g0 h8 => ih M8 v0 g0 h8 (fun M9 hm9 h9 => hX191 M9 (mMo.tr hm8 hm9) h9)) (fun M9 hm9 h9 => hX191 M9 hm9 h9)
      · have h := it_t h c_58
        refine r_lconst C dX0_comes_161 (pc' := 162) rfl (v := 0) rfl ?_
        refine r_goto C dX0_comes_162 (tgt := 183) (by decide) ?_
        refine r_sub (lv' := [(0, .ref a0), (1, .int x1), (2, .int x2), (3, .int x3), (4, .int x4), (5, .int x5)]) [0, 1, 2, 3, 4, 5] rfl ?_
        exact B_X0_comes_183 C hE k_a0 k_49 h (fun M8 v0 hm8 g0 h8 => ih M8 v0 g0 h8 (fun M9 hm9 h9 => hX191 M9 (mMo.tr hm8 hm9) h9)) (fun M9 hm9 h9 => hX191 M9 hm9 h9)
set_option maxHeartbeats 4000000 in
theorem B_X0_comes_116 {E : mE} {a0 : Nat} {x1 : Int32} {x2 : Int32} {x3 : Int32} {X197 : MM → Prop} {Post : Int64 → MM → Prop} (C : mC E yX0_comes cX0_comes 8 ((some .long)) { frames := 1, cells := 0, slots := 0, locals := 29 }) (hE : mEnd E { frames := 1, cells := 0, slots := 0, locals := 29 } (pL_ Post)) : ∀ (n_ : Nat) (M : MM) (x4 : Int32), mkd M a0 = 1 → wl_X0_comes_116 a0 x1 x2 x3 X197 n_ M x4 → (∀ (M' : MM), mMo M M' → X197 M' → mV E M' 0 0 197 [(0, .ref a0), (1, .int x1), (2, .int x2), (3, .int x3)] []) → mV E M 0 0 116 [(0, .ref a0), (1, .int x1), (2, .int x2), (3, .int x3), (4, .int x4)] [] := by
  intro n_
  induction n_ with
  | zero =>
    intro M x4 k_a0 h hX197
    exact absurd h (by rw [wl_X0_comes_116]; exact fun q => q)
  | succ n_ ih =>
    intro M x4 k_a0 h hX197
    rw [wl_X0_comes_116] at h
    refine r_iload C dX0_comes_116 (pc' := 118) rfl (j := 4) rfl ?_
    refine r_iload_n C dX0_comes_118 (pc' := 119) rfl (j := 1) rfl ?_
    refine r_icmp_ge C dX0_comes_119 (pc' := 122) rfl (tgt := 197) (by decide) (fun c_45 => ?_) (fun c_45 => ?_)
    · have h := it_t h c_45
      refine r_sub (lv' := [(0, .ref a0), (1, .int x1), (2, .int x2), (3, .int x3)]) [0, 1, 2, 3] rfl ?_
      exact hX197 M mMo.rf h
    · have h := it_f h c_45
      refine r_bipush C dX0_comes_122 (pc' := 124) rfl (v := 12) rfl ?_
      refine r_istore C (lv' := [(5, .int (12 : Int32)), (0, .ref a0), (1, .int x1), (2, .int x2), (3, .int x3), (4, .int x4)]) dX0_comes_124 (pc' := 126) rfl (12 : Int32) rfl (Nat.le_of_ble_eq_true rfl) rfl ?_
      obtain ⟨n_72, h⟩ := h
      refine r_sub (lv' := [(0, .ref a0), (1, .int x1), (2, .int x2), (3, .int x3), (4, .int x4), (5, .int (12 : Int32))]) [1, 2, 3, 4, 5, 0] rfl ?_
      refine B_X0_comes_126 C hE n_72 M (12 : Int32) k_a0 h (fun M_73 m_74 h => ?_)
      obtain ⟨x4_75, e_76, h⟩ := bn_ h
      refine r_iinc C (lv' := [(4, .int x4_75), (0, .ref a0), (1, .int x1), (2, .int x2), (3, .int x3)]) dX0_comes_191 (pc' := 194) rfl (j := 4) rfl x4_75 (by rw [e_76]; rfl) (Nat.le_of_ble_eq_true rfl) rfl ?_
      refine r_goto C dX0_comes_194 (tgt := 116) (by decide) ?_
      refine r_sub (lv' := [(0, .ref a0), (1, .int x1), (2, .int x2), (3, .int x3), (4, .int x4_75)]) [1, 2, 3, 4, 0] rfl ?_
      exact ih M_73 x4_75 (mMo.kd m_74 k_a0 (by decide)) h (fun M9 hm9 h9 => hX197 M9 (mMo.tr m_74 hm9) h9)
set_option maxHeartbeats 4000000 in
theorem S_X0_comes {D : DD} {l : Launch} {M : MM} {a0 : Nat} {x1 : Int32} {x2 : Int32} {x3 : Int32} {Post : Int64 → MM → Prop} (k_a0 : mkd M a0 = 1) (h : wp_X0_comes M a0 x1 x2 x3 Post) : mMet D l yX0_comes cX0_comes 8 ((some .long)) { frames := 1, cells := 0, slots := 0, locals := 29 } M [.ref a0, .int x1, .int x2, .int x3] (pL_ Post) := by
  refine m_of2 [(0, .ref a0), (1, .int x1), (2, .int x2), (3, .int x3)] (by decide +kernel) (Nat.le_of_ble_eq_true rfl) rfl (fun E hED hEl C hE => ?_)
  subst hED
  subst hEl
  unfold wp_X0_comes at h
  refine r_iload_n C dX0_comes_0 (pc' := 1) rfl (j := 1) rfl ?_
  refine r_iconst C dX0_comes_1 (pc' := 2) rfl (v := 1) rfl ?_
  refine r_bipush C dX0_comes_2 (pc' := 4) rfl (v := 12) rfl ?_
  refine r_callSi (As := [.int x1, .int (1 : Int32), .int (12 : Int32)]) (rest := []) C (S_X0_within h) (lw_S q462 q463 q105 q464) hd_X0_within rfl rfl (Nat.le_of_ble_eq_true rfl) (Nat.le_of_ble_eq_true rfl) (Nat.le_of_ble_eq_true rfl) rfl rfl (Nat.le_of_ble_eq_true rfl) (Nat.le_of_ble_eq_true rfl) dX0_comes_4 (pc' := 7) rfl (fun r_2 M_1 h m_3 => ?_)
  refine r_if_eq C dX0_comes_7 (pc' := 10) rfl (tgt := 36) (by decide) (fun c_4 => ?_) (fun c_4 => ?_)
  · have h := it_t h c_4
    refine r_ldc2 C dX0_comes_36 (pc' := 39) rfl q952 ?_
    exact r_lret C hE (Nat.le_of_ble_eq_true rfl) (Nat.le_of_ble_eq_true rfl) dX0_comes_39 ⟨_, rfl, h⟩
  · have h := it_f h c_4
    refine r_iload_n C dX0_comes_10 (pc' := 11) rfl (j := 2) rfl ?_
    refine r_iconst C dX0_comes_11 (pc' := 12) rfl (v := 0) rfl ?_
    refine r_bipush C dX0_comes_12 (pc' := 14) rfl (v := 12) rfl ?_
    refine r_callSi (As := [.int x2, .int (0 : Int32), .int (12 : Int32)]) (rest := []) C (S_X0_within h) (lw_S q462 q463 q105 q464) hd_X0_within rfl rfl (Nat.le_of_ble_eq_true rfl) (Nat.le_of_ble_eq_true rfl) (Nat.le_of_ble_eq_true rfl) rfl rfl (Nat.le_of_ble_eq_true rfl) (Nat.le_of_ble_eq_true rfl) dX0_comes_14 (pc' := 17) rfl (fun r_6 M_5 h m_7 => ?_)
    refine r_if_eq C dX0_comes_17 (pc' := 20) rfl (tgt := 36) (by decide) (fun c_8 => ?_) (fun c_8 => ?_)
    · have h := it_t h c_8
      refine r_ldc2 C dX0_comes_36 (pc' := 39) rfl q952 ?_
      exact r_lret C hE (Nat.le_of_ble_eq_true rfl) (Nat.le_of_ble_eq_true rfl) dX0_comes_39 ⟨_, rfl, h⟩
    · have h := it_f h c_8
      refine r_iload_n C dX0_comes_20 (pc' := 21) rfl (j := 3) rfl ?_
      refine r_iconst C dX0_comes_21 (pc' := 22) rfl (v := 2) rfl ?_
      refine r_callSi (As := [.int x3, .int (2 : Int32)]) (rest := []) C (S_X0_in h) (lw_S q459 q460 q105 q461) hd_X0_in rfl rfl (Nat.le_of_ble_eq_true rfl) (Nat.le_of_ble_eq_true rfl) (Nat.le_of_ble_eq_true rfl) rfl rfl (Nat.le_of_ble_eq_true rfl) (Nat.le_of_ble_eq_true rfl) dX0_comes_22 (pc' := 25) rfl (fun r_10 M_9 h m_11 => ?_)
      refine r_if_eq C dX0_comes_25 (pc' := 28) rfl (tgt := 36) (by decide) (fun c_12 => ?_) (fun c_12 => ?_)
      · have h := it_t h c_12
        refine r_ldc2 C dX0_comes_36 (pc' := 39) rfl q952 ?_
        exact r_lret C hE (Nat.le_of_ble_eq_true rfl) (Nat.le_of_ble_eq_true rfl) dX0_comes_39 ⟨_, rfl, h⟩
      · have h := it_f h c_12
        refine r_iload_n C dX0_comes_28 (pc' := 29) rfl (j := 1) rfl ?_
        refine r_aload_n C dX0_comes_29 (pc' := 30) rfl (j := 0) rfl ?_
        refine r_getf C (Cn := RX0) (T := TX0) 7 (mMo.kd m_11 (mMo.kd m_7 (mMo.kd m_3 k_a0 (by decide)) (by decide)) (by decide)) (by decide) vc_X0 in_X0 (by decide) q361 dX0_comes_30 (pc' := 33) rfl (v := .int (mgI M_9 a0 7)) rfl ?_
        refine r_icmp_le C dX0_comes_33 (pc' := 36) rfl (tgt := 40) (by decide) (fun c_13 => ?_) (fun c_13 => ?_)
        · have h := it_t h c_13
          refine r_aload_n C dX0_comes_40 (pc' := 41) rfl (j := 0) rfl ?_
          refine r_iconst C dX0_comes_41 (pc' := 42) rfl (v := 0) rfl ?_
          obtain ⟨M_14, e_15, h⟩ := bn_ h
          refine r_putI C (Cn := RX0) (T := TX0) tyX0 7 (mMo.kd m_11 (mMo.kd m_7 (mMo.kd m_3 k_a0 (by decide)) (by decide)) (by decide)) (by decide) vc_X0 in_X0 tyX0_ok nmX0 (by decide) q361 rfl rfl dX0_comes_42 (pc' := 45) rfl rfl rfl M_14 e_15 ?_
          refine r_iconst C dX0_comes_45 (pc' := 46) rfl (v := 0) rfl ?_
          refine r_istore C (lv' := [(4, .int (0 : Int32)), (0, .ref a0), (1, .int x1), (2, .int x2), (3, .int x3)]) dX0_comes_46 (pc' := 48) rfl (0 : Int32) rfl (Nat.le_of_ble_eq_true rfl) rfl ?_
          obtain ⟨n_27, h⟩ := h
          refine r_sub (lv' := [(0, .ref a0), (1, .int x1), (2, .int x2), (3, .int x3), (4, .int (0 : Int32))]) [1, 2, 3, 4, 0] rfl ?_
          refine B_X0_comes_48 C hE n_27 M_14 (0 : Int32) (mMo.kd (mo_I e_15) (mMo.kd m_11 (mMo.kd m_7 (mMo.kd m_3 k_a0 (by decide)) (by decide)) (by decide)) (by decide)) h (fun M_28 m_29 h => ?_) (fun M_30 m_31 h => ?_)
          · refine r_ldc2 C dX0_comes_70 (pc' := 73) rfl q1058 ?_
            exact r_lret C hE (Nat.le_of_ble_eq_true rfl) (Nat.le_of_ble_eq_true rfl) dX0_comes_73 ⟨_, rfl, h⟩
          · refine r_iconst C dX0_comes_80 (pc' := 81) rfl (v := 0) rfl ?_
            refine r_istore C (lv' := [(4, .int (0 : Int32)), (0, .ref a0), (1, .int x1), (2, .int x2), (3, .int x3)]) dX0_comes_81 (pc' := 83) rfl (0 : Int32) rfl (Nat.le_of_ble_eq_true rfl) rfl ?_
            obtain ⟨n_42, h⟩ := h
            refine r_sub (lv' := [(0, .ref a0), (1, .int x1), (2, .int x2), (3, .int x3), (4, .int (0 : Int32))]) [1, 2, 3, 4, 0] rfl ?_
            refine B_X0_comes_83 C hE n_42 M_30 (0 : Int32) (mMo.kd m_31 (mMo.kd (mo_I e_15) (mMo.kd m_11 (mMo.kd m_7 (mMo.kd m_3 k_a0 (by decide)) (by decide)) (by decide)) (by decide)) (by decide)) h (fun M_43 m_44 h => ?_)
            refine r_iconst C dX0_comes_113 (pc' := 114) rfl (v := 0) rfl ?_
            refine r_istore C (lv' := [(4, .int (0 : Int32)), (0, .ref a0), (1, .int x1), (2, .int x2), (3, .int x3)]) dX0_comes_114 (pc' := 116) rfl (0 : Int32) rfl (Nat.le_of_ble_eq_true rfl) rfl ?_
            obtain ⟨n_77, h⟩ := h
            refine r_sub (lv' := [(0, .ref a0), (1, .int x1), (2, .int x2), (3, .int x3), (4, .int (0 : Int32))]) [1, 2, 3, 4, 0] rfl ?_
            refine B_X0_comes_116 C hE n_77 M_43 (0 : Int32) (mMo.kd m_44 (mMo.kd m_31 (mMo.kd (mo_I e_15) (mMo.kd m_11 (mMo.kd m_7 (mMo.kd m_3 k_a0 (by decide)) (by decide)) (by decide)) (by decide)) (by decide)) (by decide)) h (fun M_78 m_79 h => ?_)
            refine r_bipush C dX0_comes_197 (pc' := 199) rfl (v := 10) rfl ?_
            refine r_iload_n C dX0_comes_199 (pc' := 200) rfl (j := 1) rfl ?_
            refine r_callSl (As := [.int (10 : Int32), .int x1]) (rest := []) C (S_X0_powerOf h) (lw_S q962 q963 q105 q964) hd_X0_powerOf rfl rfl (Nat.le_of_ble_eq_true rfl) (Nat.le_of_ble_eq_true rfl) (Nat.le_of_ble_eq_true rfl) rfl rfl (Nat.le_of_ble_eq_true rfl) (Nat.le_of_ble_eq_true rfl) dX0_comes_200 (pc' := 203) rfl (fun r_81 M_80 h m_82 => ?_)
            refine r_lstore C (lv' := [(4, .long r_81), (0, .ref a0), (1, .int x1), (2, .int x2), (3, .int x3)]) dX0_comes_203 (pc' := 205) rfl r_81 rfl (Nat.le_of_ble_eq_true rfl) rfl ?_
            refine r_aload_n C dX0_comes_205 (pc' := 206) rfl (j := 1) rfl ?_
            refine r_getf C (Cn := RX0) (T := TX0) 32 (mMo.kd m_82 (mMo.kd m_79 (mMo.kd m_44 (mMo.kd m_31 (mMo.kd (mo_I e_15) (mMo.kd m_11 (mMo.kd m_7 (mMo.kd m_3 k_a0 (by decide)) (by decide)) (by decide)) (by decide)) (by decide)) (by decide)) (by decide)) (by decide)) (by decide) vc_X0 in_X0 (by decide) q386 dX0_comes_206 (pc' := 209) rfl (v := va_rf (mgR M_80 a0 32)) rfl ?_
            obtain ⟨b_83, e_84, k_85, h⟩ := h
            refine r_ref [] e_84 ?_
            refine r_iload_n C dX0_comes_209 (pc' := 210) rfl (j := 3) rfl ?_
            obtain ⟨c_86, h⟩ := h
            refine r_lald C (j := (ix_ x2)) k_85 c_86 rfl dX0_comes_210 (pc' := 211) rfl ?_
            refine r_lload C dX0_comes_211 (pc' := 213) rfl (j := 0) rfl ?_
            refine r_callSl (As := [.long (mgL M_80 b_83 (ix_ x2)), .long r_81]) (rest := []) C (S_X0_divisor h) (lw_S q1059 q1060 q105 q1061) hd_X0_divisor rfl rfl (Nat.le_of_ble_eq_true rfl) (Nat.le_of_ble_eq_true rfl) (Nat.le_of_ble_eq_true rfl) rfl rfl (Nat.le_of_ble_eq_true rfl) (Nat.le_of_ble_eq_true rfl) dX0_comes_213 (pc' := 216) rfl (fun r_88 M_87 h m_89 => ?_)
            refine r_lstore C (lv' := [(6, .long r_88), (4, .long r_81), (0, .ref a0), (1, .int x1), (2, .int x2), (3, .int x3)]) dX0_comes_216 (pc' := 218) rfl r_88 rfl (Nat.le_of_ble_eq_true rfl) rfl ?_
            refine r_iload_n C dX0_comes_218 (pc' := 219) rfl (j := 5) rfl ?_
            refine r_if_ne C dX0_comes_219 (pc' := 222) rfl (tgt := 234) (by decide) (fun c_90 => ?_) (fun c_90 => ?_)
            · have h := it_f h c_90
              refine r_lload C dX0_comes_234 (pc' := 236) rfl (j := 1) rfl ?_
              refine r_lload C dX0_comes_236 (pc' := 238) rfl (j := 0) rfl ?_
              obtain ⟨c_91, h⟩ := h
              refine r_ldiv C dX0_comes_238 (pc' := 239) rfl c_91 ?_
              exact r_lret C hE (Nat.le_of_ble_eq_true rfl) (Nat.le_of_ble_eq_true rfl) dX0_comes_239 ⟨_, rfl, h⟩
            · have h := it_t h c_90
              refine r_aload_n C dX0_comes_222 (pc' := 223) rfl (j := 2) rfl ?_
              refine r_getf C (Cn := RX0) (T := TX0) 32 (mMo.kd m_89 (mMo.kd m_82 (mMo.kd m_79 (mMo.kd m_44 (mMo.kd m_31 (mMo.kd (mo_I e_15) (mMo.kd m_11 (mMo.kd m_7 (mMo.kd m_3 k_a0 (by decide)) (by decide)) (by decide)) (by decide)) (by decide)) (by decide)) (by decide)) (by decide)) (by decide)) (by decide) vc_X0 in_X0 (by decide) q386 dX0_comes_223 (pc' := 226) rfl (v := va_rf (mgR M_87 a0 32)) rfl ?_
              obtain ⟨b_92, e_93, k_94, h⟩ := h
              refine r_ref [] e_93 ?_
              refine r_iload_n C dX0_comes_226 (pc' := 227) rfl (j := 4) rfl ?_
              obtain ⟨c_95, h⟩ := h
              refine r_lald C (j := (ix_ x2)) k_94 c_95 rfl dX0_comes_227 (pc' := 228) rfl ?_
              refine r_lload C dX0_comes_228 (pc' := 230) rfl (j := 0) rfl ?_
              obtain ⟨c_96, h⟩ := h
              refine r_ldiv C dX0_comes_230 (pc' := 231) rfl c_96 ?_
              refine r_goto C dX0_comes_231 (tgt := 239) (by decide) ?_
              exact r_lret C hE (Nat.le_of_ble_eq_true rfl) (Nat.le_of_ble_eq_true rfl) dX0_comes_239 ⟨_, rfl, h⟩
        · have h := it_f h c_13
          refine r_ldc2 C dX0_comes_36 (pc' := 39) rfl q952 ?_
          exact r_lret C hE (Nat.le_of_ble_eq_true rfl) (Nat.le_of_ble_eq_true rfl) dX0_comes_39 ⟨_, rfl, h⟩
set_option maxHeartbeats 4000000 in
theorem B_X0_theOne_51 {E : mE} {M : MM} {a0 : Nat} {x1 : Int32} {x2 : Int32} {xs0 : Int32} {xs1 : Int32} {R : MM → Int32 → Int32 → Prop} {X62 : MM → Int32 → Prop} {Post : Int32 → MM → Prop} (C : mC E yX0_theOne cX0_theOne 3 ((some .int)) { frames := 2, cells := 0, slots := 0, locals := 42 }) (hE : mEnd E { frames := 2, cells := 0, slots := 0, locals := 42 } (pI_ Post)) (k_a0 : mkd M a0 = 1) (h : wb_X0_theOne_51 M a0 x1 x2 xs0 xs1 R X62) (hR : ∀ (M' : MM) (x1' : Int32) (x2' : Int32), mMo M M' → mkd M' a0 = 1 → R M' x1' x2' → mV E M' 0 0 5 [(0, .ref a0), (1, .int x1'), (2, .int x2')] []) (hX62 : ∀ (M' : MM) (x1' : Int32), mMo M M' → X62 M' x1' → mV E M' 0 0 62 [(1, .int x1')] []) : mV E M 0 0 51 [(0, .ref a0), (1, .int x1), (2, .int x2)] [.int xs1, .int xs0] := by
  unfold wb_X0_theOne_51 at h
  refine r_icmp_le C dX0_theOne_51 (pc' := 54) rfl (tgt := 56) (by decide) (fun c_29 => ?_) (fun c_29 => ?_)
  · have h := it_t h c_29
    obtain ⟨x2_30, e_31, h⟩ := bn_ h
    refine r_iinc C (lv' := [(2, .int x2_30), (0, .ref a0), (1, .int x1)]) dX0_theOne_56 (pc' := 59) rfl (j := 2) rfl x2_30 (by rw [e_31]; rfl) (Nat.le_of_ble_eq_true rfl) rfl ?_
    refine r_goto C dX0_theOne_59 (tgt := 5) (by decide) ?_
    refine r_sub (lv' := [(0, .ref a0), (1, .int x1), (2, .int x2_30)]) [1, 2, 0] rfl ?_
    exact hR M x1 x2_30 mMo.rf k_a0 h
  · have h := it_f h c_29
    refine r_iload_n C dX0_theOne_54 (pc' := 55) rfl (j := 2) rfl ?_
    refine r_istore_n C (lv' := [(1, .int x2), (0, .ref a0), (2, .int x2)]) dX0_theOne_55 (pc' := 56) rfl rfl x2 rfl (Nat.le_of_ble_eq_true rfl) rfl ?_
    obtain ⟨x2_32, e_33, h⟩ := bn_ h
    refine r_iinc C (lv' := [(2, .int x2_32), (1, .int x2), (0, .ref a0)]) dX0_theOne_56 (pc' := 59) rfl (j := 2) rfl x2_32 (by rw [e_33]; rfl) (Nat.le_of_ble_eq_true rfl) rfl ?_
    refine r_goto C dX0_theOne_59 (tgt := 5) (by decide) ?_
    refine r_sub (lv' := [(0, .ref a0), (1, .int x2), (2, .int x2_32)]) [2, 1, 0] rfl ?_
    exact hR M x2 x2_32 mMo.rf k_a0 h
set_option maxHeartbeats 4000000 in
theorem B_X0_theOne_5 {E : mE} {a0 : Nat} {X62 : MM → Int32 → Prop} {Post : Int32 → MM → Prop} (C : mC E yX0_theOne cX0_theOne 3 ((some .int)) { frames := 2, cells := 0, slots := 0, locals := 42 }) (hE : mEnd E { frames := 2, cells := 0, slots := 0, locals := 42 } (pI_ Post)) : ∀ (n_ : Nat) (M : MM) (x1 : Int32) (x2 : Int32), mkd M a0 = 1 → wl_X0_theOne_5 a0 X62 n_ M x1 x2 → (∀ (M' : MM) (x1' : Int32), mMo M M' → X62 M' x1' → mV E M' 0 0 62 [(1, .int x1')] []) → mV E M 0 0 5 [(0, .ref a0), (1, .int x1), (2, .int x2)] [] := by
  intro n_
  induction n_ with
  | zero =>
    intro M x1 x2 k_a0 h hX62
    exact absurd h (by rw [wl_X0_theOne_5]; exact fun q => q)
  | succ n_ ih =>
    intro M x1 x2 k_a0 h hX62
    rw [wl_X0_theOne_5] at h
    refine r_iload_n C dX0_theOne_5 (pc' := 6) rfl (j := 2) rfl ?_
    refine r_bipush C dX0_theOne_6 (pc' := 8) rfl (v := 8) rfl ?_
    refine r_icmp_ge C dX0_theOne_8 (pc' := 11) rfl (tgt := 62) (by decide) (fun c_1 => ?_) (fun c_1 => ?_)
    · have h := it_t h c_1
      refine r_sub (lv' := [(1, .int x1)]) [1] rfl ?_
      exact hX62 M x1 mMo.rf h
    · have h := it_f h c_1
      refine r_aload_n C dX0_theOne_11 (pc' := 12) rfl (j := 0) rfl ?_
      refine r_iload_n C dX0_theOne_12 (pc' := 13) rfl (j := 2) rfl ?_
      refine r_callVi (As := [.int x2]) (rest := []) (Cn := RX0) (T := TX0) C k_a0 (by decide) vc_X0 (S_X0_isPerson k_a0 h) (lw_V q904 q906 qs19 q105 q907) rfl hd_X0_isPerson rfl rfl (Nat.le_of_ble_eq_true rfl) (Nat.le_of_ble_eq_true rfl) (Nat.le_of_ble_eq_true rfl) rfl rfl (Nat.le_of_ble_eq_true rfl) (Nat.le_of_ble_eq_true rfl) dX0_theOne_13 (pc' := 16) rfl (fun r_3 M_2 h m_4 => ?_)
      refine r_if_eq C dX0_theOne_16 (pc' := 19) rfl (tgt := 56) (by decide) (fun c_5 => ?_) (fun c_5 => ?_)
      · have h := it_t h c_5
        obtain ⟨x2_6, e_7, h⟩ := bn_ h
        refine r_iinc C (lv' := [(2, .int x2_6), (0, .ref a0), (1, .int x1)]) dX0_theOne_56 (pc' := 59) rfl (j := 2) rfl x2_6 (by rw [e_7]; rfl) (Nat.le_of_ble_eq_true rfl) rfl ?_
        refine r_goto C dX0_theOne_59 (tgt := 5) (by decide) ?_
        refine r_sub (lv' := [(0, .ref a0), (1, .int x1), (2, .int x2_6)]) [1, 2, 0] rfl ?_
        exact ih M_2 x1 x2_6 (mMo.kd m_4 k_a0 (by decide)) h (fun M9 w0 hm9 h9 => hX62 M9 w0 (mMo.tr m_4 hm9) h9)
      · have h := it_f h c_5
        refine r_aload_n C dX0_theOne_19 (pc' := 20) rfl (j := 0) rfl ?_
        refine r_getf C (Cn := RX0) (T := TX0) 1 (mMo.kd m_4 k_a0 (by decide)) (by decide) vc_X0 in_X0 (by decide) q351 dX0_theOne_20 (pc' := 23) rfl (v := va_rf (mgR M_2 a0 1)) rfl ?_
        obtain ⟨b_8, e_9, k_10, h⟩ := h
        refine r_ref [] e_9 ?_
        refine r_getfN C (Cn := RX3) (T := TX3) 1 k_10 (by decide) vc_X3 in_X3 (by decide) (List.mem_of_getElem? (i := 2) rfl) dX0_theOne_23 (pc' := 26) rfl (v := va_rf (mgR M_2 b_8 1)) rfl ?_
        obtain ⟨b_11, e_12, k_13, h⟩ := h
        refine r_ref [] e_12 ?_
        refine r_iload_n C dX0_theOne_26 (pc' := 27) rfl (j := 2) rfl ?_
        obtain ⟨c_14, h⟩ := h
        refine r_aald C (t := 4) (j := (ix_ x2)) k_13 (by decide) rfl rfl c_14 rfl dX0_theOne_27 (pc' := 28) rfl ?_
        obtain ⟨b_15, e_16, k_17, h⟩ := h
        refine r_ref [] e_16 ?_
        refine r_getfN C (Cn := RX5) (T := TX5) 2 k_17 (by decide) vc_X5 in_X5 (by decide) (List.mem_of_getElem? (i := 15) rfl) dX0_theOne_28 (pc' := 31) rfl (v := .int (mgI M_2 b_15 2)) rfl ?_
        refine r_iload_n C dX0_theOne_31 (pc' := 32) rfl (j := 1) rfl ?_
        refine r_if_ge C dX0_theOne_32 (pc' := 35) rfl (tgt := 39) (by decide) (fun c_18 => ?_) (fun c_18 => ?_)
        · have h := it_t h c_18
          refine r_aload_n C dX0_theOne_39 (pc' := 40) rfl (j := 0) rfl ?_
          refine r_getf C (Cn := RX0) (T := TX0) 1 (mMo.kd m_4 k_a0 (by decide)) (by decide) vc_X0 in_X0 (by decide) q351 dX0_theOne_40 (pc' := 43) rfl (v := va_rf (mgR M_2 a0 1)) rfl ?_
          obtain ⟨b_19, e_20, k_21, h⟩ := h
          refine r_ref [] e_20 ?_
          refine r_getfN C (Cn := RX3) (T := TX3) 1 k_21 (by decide) vc_X3 in_X3 (by decide) (List.mem_of_getElem? (i := 2) rfl) dX0_theOne_43 (pc' := 46) rfl (v := va_rf (mgR M_2 b_19 1)) rfl ?_
          obtain ⟨b_22, e_23, k_24, h⟩ := h
          refine r_ref [] e_23 ?_
          refine r_iload_n C dX0_theOne_46 (pc' := 47) rfl (j := 1) rfl ?_
          obtain ⟨c_25, h⟩ := h
          refine r_aald C (t := 4) (j := (ix_ x1)) k_24 (by decide) rfl rfl c_25 rfl dX0_theOne_47 (pc' := 48) rfl ?_
          obtain ⟨b_26, e_27, k_28, h⟩ := h
          refine r_ref [] e_27 ?_
          refine r_getfN C (Cn := RX5) (T := TX5) 2 k_28 (by decide) vc_X5 in_X5 (by decide) (List.mem_of_getElem? (i := 15) rfl) dX0_theOne_48 (pc' := 51) rfl (v := .int (mgI M_2 b_26 2)) rfl ?_
          refine r_sub (lv' := [(0, .ref a0), (1, .int x1), (2, .int x2)]) [0, 1, 2] rfl ?_
          exact B_X0_theOne_51 C hE (mMo.kd m_4 k_a0 (by decide)) h (fun M8 v0 v1 hm8 g0 h8 => ih M8 v0 v1 g0 h8 (fun M9 w0 hm9 h9 => hX62 M9 w0 (mMo.tr (mMo.tr m_4 hm8) hm9) h9)) (fun M9 w0 hm9 h9 => hX62 M9 w0 (mMo.tr m_4 hm9) h9)
        · have h := it_f h c_18
          refine r_iconst C dX0_theOne_35 (pc' := 36) rfl (v := 0) rfl ?_
          refine r_goto C dX0_theOne_36 (tgt := 51) (by decide) ?_
          refine r_sub (lv' := [(0, .ref a0), (1, .int x1), (2, .int x2)]) [0, 1, 2] rfl ?_
          exact B_X0_theOne_51 C hE (mMo.kd m_4 k_a0 (by decide)) h (fun M8 v0 v1 hm8 g0 h8 => ih M8 v0 v1 g0 h8 (fun M9 w0 hm9 h9 => hX62 M9 w0 (mMo.tr (mMo.tr m_4 hm8) hm9) h9)) (fun M9 w0 hm9 h9 => hX62 M9 w0 (mMo.tr m_4 hm9) h9)
set_option maxHeartbeats 4000000 in
theorem S_X0_theOne {D : DD} {l : Launch} {M : MM} {a0 : Nat} {Post : Int32 → MM → Prop} (k_a0 : mkd M a0 = 1) (h : wp_X0_theOne M a0 Post) : mMet D l yX0_theOne cX0_theOne 3 ((some .int)) { frames := 2, cells := 0, slots := 0, locals := 42 } M [.ref a0] (pI_ Post) := by
  refine m_of2 [(0, .ref a0)] (by decide +kernel) (Nat.le_of_ble_eq_true rfl) rfl (fun E hED hEl C hE => ?_)
  subst hED
  subst hEl
  unfold wp_X0_theOne at h
  refine r_bipush C dX0_theOne_0 (pc' := 2) rfl (v := -2) rfl ?_
  refine r_istore_n C (lv' := [(1, .int (-2 : Int32)), (0, .ref a0)]) dX0_theOne_2 (pc' := 3) rfl rfl (-2 : Int32) rfl (Nat.le_of_ble_eq_true rfl) rfl ?_
  refine r_iconst C dX0_theOne_3 (pc' := 4) rfl (v := 0) rfl ?_
  refine r_istore_n C (lv' := [(2, .int (0 : Int32)), (1, .int (-2 : Int32)), (0, .ref a0)]) dX0_theOne_4 (pc' := 5) rfl rfl (0 : Int32) rfl (Nat.le_of_ble_eq_true rfl) rfl ?_
  obtain ⟨n_34, h⟩ := h
  refine r_sub (lv' := [(0, .ref a0), (1, .int (-2 : Int32)), (2, .int (0 : Int32))]) [2, 1, 0] rfl ?_
  refine B_X0_theOne_5 C hE n_34 M (-2 : Int32) (0 : Int32) k_a0 h (fun M_35 x1_37 m_36 h => ?_)
  refine r_iload_n C dX0_theOne_62 (pc' := 63) rfl (j := 0) rfl ?_
  exact r_iret C hE (Nat.le_of_ble_eq_true rfl) (Nat.le_of_ble_eq_true rfl) dX0_theOne_63 ⟨_, rfl, h⟩
set_option maxHeartbeats 4000000 in
theorem B_X0_share_55 {E : mE} {a0 : Nat} {x1 : Int32} {x2 : Int32} {a4 : Nat} {x5 : Int32} {X95 : MM → Int32 → Prop} {Post : Int32 → MM → Prop} (C : mC E yX0_share cX0_share 8 ((some .int)) { frames := 3, cells := 0, slots := 0, locals := 64 }) (hE : mEnd E { frames := 3, cells := 0, slots := 0, locals := 64 } (pI_ Post)) : ∀ (n_ : Nat) (M : MM) (x3 : Int32) (x6 : Int32), mkd M a0 = 1 → mkd M a4 = 104 → wl_X0_share_55 a0 x1 x2 a4 x5 X95 n_ M x3 x6 → (∀ (M' : MM) (x3' : Int32), mMo M M' → X95 M' x3' → mV E M' 0 0 95 [(0, .ref a0), (1, .int x1), (2, .int x2), (3, .int x3')] []) → mV E M 0 0 55 [(0, .ref a0), (1, .int x1), (2, .int x2), (3, .int x3), (4, .ref a4), (5, .int x5), (6, .int x6)] [] := by
  intro n_
  induction n_ with
  | zero =>
    intro M x3 x6 k_a0 k_a4 h hX95
    exact absurd h (by rw [wl_X0_share_55]; exact fun q => q)
  | succ n_ ih =>
    intro M x3 x6 k_a0 k_a4 h hX95
    rw [wl_X0_share_55] at h
    refine r_iload C dX0_share_55 (pc' := 57) rfl (j := 6) rfl ?_
    refine r_iload C dX0_share_57 (pc' := 59) rfl (j := 5) rfl ?_
    refine r_icmp_ge C dX0_share_59 (pc' := 62) rfl (tgt := 95) (by decide) (fun c_18 => ?_) (fun c_18 => ?_)
    · have h := it_t h c_18
      refine r_sub (lv' := [(0, .ref a0), (1, .int x1), (2, .int x2), (3, .int x3)]) [0, 1, 2, 3] rfl ?_
      exact hX95 M x3 mMo.rf h
    · have h := it_f h c_18
      refine r_aload C dX0_share_62 (pc' := 64) rfl (j := 4) rfl ?_
      refine r_iload C dX0_share_64 (pc' := 66) rfl (j := 6) rfl ?_
      obtain ⟨c_19, h⟩ := h
      refine r_aald C (t := 4) (j := (ix_ x6)) k_a4 (by decide) rfl rfl c_19 rfl dX0_share_66 (pc' := 67) rfl ?_
      obtain ⟨b_20, e_21, k_22, h⟩ := h
      refine r_ref [] e_21 ?_
      refine r_astore C (lv' := [(7, .ref b_20), (0, .ref a0), (1, .int x1), (2, .int x2), (3, .int x3), (4, .ref a4), (5, .int x5), (6, .int x6)]) dX0_share_67 (pc' := 69) rfl b_20 rfl (Nat.le_of_ble_eq_true rfl) rfl ?_
      refine r_iload_n C dX0_share_69 (pc' := 70) rfl (j := 4) rfl ?_
      refine r_aload C dX0_share_70 (pc' := 72) rfl (j := 0) rfl ?_
      refine r_getfN C (Cn := RX5) (T := TX5) 3 k_22 (by decide) vc_X5 in_X5 (by decide) (List.mem_of_getElem? (i := 3) rfl) dX0_share_72 (pc' := 75) rfl (v := .int (mgI M b_20 3)) rfl ?_
      refine r_if_eq C dX0_share_75 (pc' := 78) rfl (tgt := 86) (by decide) (fun c_23 => ?_) (fun c_23 => ?_)
      · have h := it_t h c_23
        refine r_iconst C dX0_share_86 (pc' := 87) rfl (v := 0) rfl ?_
        refine r_iadd C dX0_share_87 (pc' := 88) rfl ?_
        obtain ⟨x3_24, e_25, h⟩ := bn_ h
        refine r_istore_n C (lv' := [(3, .int x3_24), (7, .ref b_20), (0, .ref a0), (1, .int x1), (2, .int x2), (4, .ref a4), (5, .int x5), (6, .int x6)]) dX0_share_88 (pc' := 89) rfl rfl x3_24 e_25 (Nat.le_of_ble_eq_true rfl) rfl ?_
        obtain ⟨x6_26, e_27, h⟩ := bn_ h
        refine r_iinc C (lv' := [(6, .int x6_26), (3, .int x3_24), (7, .ref b_20), (0, .ref a0), (1, .int x1), (2, .int x2), (4, .ref a4), (5, .int x5)]) dX0_share_89 (pc' := 92) rfl (j := 7) rfl x6_26 (by rw [e_27]; rfl) (Nat.le_of_ble_eq_true rfl) rfl ?_
        refine r_goto C dX0_share_92 (tgt := 55) (by decide) ?_
        refine r_sub (lv' := [(0, .ref a0), (1, .int x1), (2, .int x2), (3, .int x3_24), (4, .ref a4), (5, .int x5), (6, .int x6_26)]) [3, 4, 5, 1, 6, 7, 0] rfl ?_
        exact ih M x3_24 x6_26 k_a0 k_a4 h (fun M9 w0 hm9 h9 => hX95 M9 w0 hm9 h9)
      · have h := it_f h c_23
        refine r_aload C dX0_share_78 (pc' := 80) rfl (j := 0) rfl ?_
        refine r_getfN C (Cn := RX5) (T := TX5) 2 k_22 (by decide) vc_X5 in_X5 (by decide) (List.mem_of_getElem? (i := 15) rfl) dX0_share_80 (pc' := 83) rfl (v := .int (mgI M b_20 2)) rfl ?_
        refine r_goto C dX0_share_83 (tgt := 87) (by decide) ?_
        refine r_iadd C dX0_share_87 (pc' := 88) rfl ?_
        obtain ⟨x3_28, e_29, h⟩ := bn_ h
        refine r_istore_n C (lv' := [(3, .int x3_28), (7, .ref b_20), (0, .ref a0), (1, .int x1), (2, .int x2), (4, .ref a4), (5, .int x5), (6, .int x6)]) dX0_share_88 (pc' := 89) rfl rfl x3_28 e_29 (Nat.le_of_ble_eq_true rfl) rfl ?_
        obtain ⟨x6_30, e_31, h⟩ := bn_ h
        refine r_iinc C (lv' := [(6, .int x6_30), (3, .int x3_28), (7, .ref b_20), (0, .ref a0), (1, .int x1), (2, .int x2), (4, .ref a4), (5, .int x5)]) dX0_share_89 (pc' := 92) rfl (j := 7) rfl x6_30 (by rw [e_31]; rfl) (Nat.le_of_ble_eq_true rfl) rfl ?_
        refine r_goto C dX0_share_92 (tgt := 55) (by decide) ?_
        refine r_sub (lv' := [(0, .ref a0), (1, .int x1), (2, .int x2), (3, .int x3_28), (4, .ref a4), (5, .int x5), (6, .int x6_30)]) [3, 4, 5, 1, 6, 7, 0] rfl ?_
        exact ih M x3_28 x6_30 k_a0 k_a4 h (fun M9 w0 hm9 h9 => hX95 M9 w0 hm9 h9)
set_option maxHeartbeats 4000000 in
theorem S_X0_share {D : DD} {l : Launch} {M : MM} {a0 : Nat} {x1 : Int32} {x2 : Int32} {Post : Int32 → MM → Prop} (k_a0 : mkd M a0 = 1) (h : wp_X0_share M a0 x1 x2 Post) : mMet D l yX0_share cX0_share 8 ((some .int)) { frames := 3, cells := 0, slots := 0, locals := 64 } M [.ref a0, .int x1, .int x2] (pI_ Post) := by
  refine m_of2 [(0, .ref a0), (1, .int x1), (2, .int x2)] (by decide +kernel) (Nat.le_of_ble_eq_true rfl) rfl (fun E hED hEl C hE => ?_)
  subst hED
  subst hEl
  unfold wp_X0_share at h
  refine r_iload_n C dX0_share_0 (pc' := 1) rfl (j := 1) rfl ?_
  refine r_iconst C dX0_share_1 (pc' := 2) rfl (v := -1) rfl ?_
  refine r_icmp_ne C dX0_share_2 (pc' := 5) rfl (tgt := 18) (by decide) (fun c_1 => ?_) (fun c_1 => ?_)
  · have h := it_f h c_1
    refine r_aload_n C dX0_share_18 (pc' := 19) rfl (j := 0) rfl ?_
    refine r_iload_n C dX0_share_19 (pc' := 20) rfl (j := 1) rfl ?_
    refine r_callVi (As := [.int x1]) (rest := []) (Cn := RX0) (T := TX0) C k_a0 (by decide) vc_X0 (S_X0_isPerson k_a0 h) (lw_V q904 q906 qs19 q105 q907) rfl hd_X0_isPerson rfl rfl (Nat.le_of_ble_eq_true rfl) (Nat.le_of_ble_eq_true rfl) (Nat.le_of_ble_eq_true rfl) rfl rfl (Nat.le_of_ble_eq_true rfl) (Nat.le_of_ble_eq_true rfl) dX0_share_20 (pc' := 23) rfl (fun r_3 M_2 h m_4 => ?_)
    refine r_if_eq C dX0_share_23 (pc' := 26) rfl (tgt := 34) (by decide) (fun c_5 => ?_) (fun c_5 => ?_)
    · have h := it_t h c_5
      refine r_iconst C dX0_share_34 (pc' := 35) rfl (v := -1) rfl ?_
      exact r_iret C hE (Nat.le_of_ble_eq_true rfl) (Nat.le_of_ble_eq_true rfl) dX0_share_35 ⟨_, rfl, h⟩
    · have h := it_f h c_5
      refine r_iload_n C dX0_share_26 (pc' := 27) rfl (j := 2) rfl ?_
      refine r_iconst C dX0_share_27 (pc' := 28) rfl (v := 2) rfl ?_
      refine r_callSi (As := [.int x2, .int (2 : Int32)]) (rest := []) C (S_X0_in h) (lw_S q459 q460 q105 q461) hd_X0_in rfl rfl (Nat.le_of_ble_eq_true rfl) (Nat.le_of_ble_eq_true rfl) (Nat.le_of_ble_eq_true rfl) rfl rfl (Nat.le_of_ble_eq_true rfl) (Nat.le_of_ble_eq_true rfl) dX0_share_28 (pc' := 31) rfl (fun r_7 M_6 h m_8 => ?_)
      refine r_if_ne C dX0_share_31 (pc' := 34) rfl (tgt := 36) (by decide) (fun c_9 => ?_) (fun c_9 => ?_)
      · have h := it_f h c_9
        refine r_iconst C dX0_share_36 (pc' := 37) rfl (v := 0) rfl ?_
        refine r_istore_n C (lv' := [(3, .int (0 : Int32)), (0, .ref a0), (1, .int x1), (2, .int x2)]) dX0_share_37 (pc' := 38) rfl rfl (0 : Int32) rfl (Nat.le_of_ble_eq_true rfl) rfl ?_
        refine r_aload_n C dX0_share_38 (pc' := 39) rfl (j := 1) rfl ?_
        refine r_getf C (Cn := RX0) (T := TX0) 1 (mMo.kd m_8 (mMo.kd m_4 k_a0 (by decide)) (by decide)) (by decide) vc_X0 in_X0 (by decide) q351 dX0_share_39 (pc' := 42) rfl (v := va_rf (mgR M_6 a0 1)) rfl ?_
        obtain ⟨b_10, e_11, k_12, h⟩ := h
        refine r_ref [] e_11 ?_
        refine r_getfN C (Cn := RX3) (T := TX3) 1 k_12 (by decide) vc_X3 in_X3 (by decide) (List.mem_of_getElem? (i := 2) rfl) dX0_share_42 (pc' := 45) rfl (v := va_rf (mgR M_6 b_10 1)) rfl ?_
        obtain ⟨b_13, e_14, k_15, h⟩ := h
        refine r_ref [] e_14 ?_
        refine r_astore C (lv' := [(4, .ref b_13), (3, .int (0 : Int32)), (0, .ref a0), (1, .int x1), (2, .int x2)]) dX0_share_45 (pc' := 47) rfl b_13 rfl (Nat.le_of_ble_eq_true rfl) rfl ?_
        refine r_aload C dX0_share_47 (pc' := 49) rfl (j := 0) rfl ?_
        refine r_alen C (t := 4) k_15 (by decide) dX0_share_49 (pc' := 50) rfl ?_
        obtain ⟨x5_16, e_17, h⟩ := bn_ h
        refine r_istore C (lv' := [(5, .int x5_16), (4, .ref b_13), (3, .int (0 : Int32)), (0, .ref a0), (1, .int x1), (2, .int x2)]) dX0_share_50 (pc' := 52) rfl x5_16 e_17 (Nat.le_of_ble_eq_true rfl) rfl ?_
        refine r_iconst C dX0_share_52 (pc' := 53) rfl (v := 0) rfl ?_
        refine r_istore C (lv' := [(6, .int (0 : Int32)), (5, .int x5_16), (4, .ref b_13), (3, .int (0 : Int32)), (0, .ref a0), (1, .int x1), (2, .int x2)]) dX0_share_53 (pc' := 55) rfl (0 : Int32) rfl (Nat.le_of_ble_eq_true rfl) rfl ?_
        obtain ⟨n_32, h⟩ := h
        refine r_sub (lv' := [(0, .ref a0), (1, .int x1), (2, .int x2), (3, .int (0 : Int32)), (4, .ref b_13), (5, .int x5_16), (6, .int (0 : Int32))]) [4, 5, 6, 3, 2, 1, 0] rfl ?_
        refine B_X0_share_55 C hE n_32 M_6 (0 : Int32) (0 : Int32) (mMo.kd m_8 (mMo.kd m_4 k_a0 (by decide)) (by decide)) k_15 h (fun M_33 x3_35 m_34 h => ?_)
        refine r_aload_n C dX0_share_95 (pc' := 96) rfl (j := 0) rfl ?_
        refine r_getf C (Cn := RX0) (T := TX0) 1 (mMo.kd m_34 (mMo.kd m_8 (mMo.kd m_4 k_a0 (by decide)) (by decide)) (by decide)) (by decide) vc_X0 in_X0 (by decide) q351 dX0_share_96 (pc' := 99) rfl (v := va_rf (mgR M_33 a0 1)) rfl ?_
        obtain ⟨b_36, e_37, k_38, h⟩ := h
        refine r_ref [] e_37 ?_
        refine r_getfN C (Cn := RX3) (T := TX3) 1 k_38 (by decide) vc_X3 in_X3 (by decide) (List.mem_of_getElem? (i := 2) rfl) dX0_share_99 (pc' := 102) rfl (v := va_rf (mgR M_33 b_36 1)) rfl ?_
        obtain ⟨b_39, e_40, k_41, h⟩ := h
        refine r_ref [] e_40 ?_
        refine r_iload_n C dX0_share_102 (pc' := 103) rfl (j := 1) rfl ?_
        obtain ⟨c_42, h⟩ := h
        refine r_aald C (t := 4) (j := (ix_ x1)) k_41 (by decide) rfl rfl c_42 rfl dX0_share_103 (pc' := 104) rfl ?_
        obtain ⟨b_43, e_44, k_45, h⟩ := h
        refine r_ref [] e_44 ?_
        refine r_getfN C (Cn := RX5) (T := TX5) 2 k_45 (by decide) vc_X5 in_X5 (by decide) (List.mem_of_getElem? (i := 15) rfl) dX0_share_104 (pc' := 107) rfl (v := .int (mgI M_33 b_43 2)) rfl ?_
        obtain ⟨x4_46, e_47, h⟩ := bn_ h
        refine r_istore C (lv' := [(4, .int x4_46), (0, .ref a0), (1, .int x1), (2, .int x2), (3, .int x3_35)]) dX0_share_107 (pc' := 109) rfl x4_46 e_47 (Nat.le_of_ble_eq_true rfl) rfl ?_
        refine r_iload_n C dX0_share_109 (pc' := 110) rfl (j := 4) rfl ?_
        refine r_if_ne C dX0_share_110 (pc' := 113) rfl (tgt := 115) (by decide) (fun c_48 => ?_) (fun c_48 => ?_)
        · have h := it_f h c_48
          refine r_iload C dX0_share_115 (pc' := 117) rfl (j := 0) rfl ?_
          refine r_i2l C dX0_share_117 (pc' := 118) rfl ?_
          refine r_iload_n C dX0_share_118 (pc' := 119) rfl (j := 4) rfl ?_
          refine r_i2l C dX0_share_119 (pc' := 120) rfl ?_
          refine r_callSl (As := [.long x4_46.toInt64, .long x3_35.toInt64]) (rest := []) C (S_X0_divisor h) (lw_S q1059 q1060 q105 q1061) hd_X0_divisor rfl rfl (Nat.le_of_ble_eq_true rfl) (Nat.le_of_ble_eq_true rfl) (Nat.le_of_ble_eq_true rfl) rfl rfl (Nat.le_of_ble_eq_true rfl) (Nat.le_of_ble_eq_true rfl) dX0_share_120 (pc' := 123) rfl (fun r_50 M_49 h m_51 => ?_)
          refine r_l2i C dX0_share_123 (pc' := 124) rfl ?_
          obtain ⟨x5_52, e_53, h⟩ := bn_ h
          refine r_istore C (lv' := [(5, .int x5_52), (4, .int x4_46), (0, .ref a0), (1, .int x1), (2, .int x2), (3, .int x3_35)]) dX0_share_124 (pc' := 126) rfl x5_52 e_53 (Nat.le_of_ble_eq_true rfl) rfl ?_
          refine r_iload_n C dX0_share_126 (pc' := 127) rfl (j := 4) rfl ?_
          refine r_if_ne C dX0_share_127 (pc' := 130) rfl (tgt := 138) (by decide) (fun c_54 => ?_) (fun c_54 => ?_)
          · have h := it_f h c_54
            refine r_iload_n C dX0_share_138 (pc' := 139) rfl (j := 5) rfl ?_
            refine r_iload C dX0_share_139 (pc' := 141) rfl (j := 0) rfl ?_
            obtain ⟨c_55, h⟩ := h
            refine r_idiv C dX0_share_141 (pc' := 142) rfl c_55 ?_
            exact r_iret C hE (Nat.le_of_ble_eq_true rfl) (Nat.le_of_ble_eq_true rfl) dX0_share_142 ⟨_, rfl, h⟩
          · have h := it_t h c_54
            refine r_iload C dX0_share_130 (pc' := 132) rfl (j := 1) rfl ?_
            refine r_iload C dX0_share_132 (pc' := 134) rfl (j := 0) rfl ?_
            obtain ⟨c_56, h⟩ := h
            refine r_idiv C dX0_share_134 (pc' := 135) rfl c_56 ?_
            refine r_goto C dX0_share_135 (tgt := 142) (by decide) ?_
            exact r_iret C hE (Nat.le_of_ble_eq_true rfl) (Nat.le_of_ble_eq_true rfl) dX0_share_142 ⟨_, rfl, h⟩
        · have h := it_t h c_48
          refine r_iload_n C dX0_share_113 (pc' := 114) rfl (j := 3) rfl ?_
          exact r_iret C hE (Nat.le_of_ble_eq_true rfl) (Nat.le_of_ble_eq_true rfl) dX0_share_114 ⟨_, rfl, h⟩
      · have h := it_t h c_9
        refine r_iconst C dX0_share_34 (pc' := 35) rfl (v := -1) rfl ?_
        exact r_iret C hE (Nat.le_of_ble_eq_true rfl) (Nat.le_of_ble_eq_true rfl) dX0_share_35 ⟨_, rfl, h⟩
  · have h := it_t h c_1
    refine r_iload_n C dX0_share_5 (pc' := 6) rfl (j := 2) rfl ?_
    refine r_if_ne C dX0_share_6 (pc' := 9) rfl (tgt := 16) (by decide) (fun c_57 => ?_) (fun c_57 => ?_)
    · have h := it_f h c_57
      refine r_iconst C dX0_share_16 (pc' := 17) rfl (v := -1) rfl ?_
      exact r_iret C hE (Nat.le_of_ble_eq_true rfl) (Nat.le_of_ble_eq_true rfl) dX0_share_17 ⟨_, rfl, h⟩
    · have h := it_t h c_57
      refine r_aload_n C dX0_share_9 (pc' := 10) rfl (j := 0) rfl ?_
      refine r_callVi (As := []) (rest := []) (Cn := RX0) (T := TX0) C k_a0 (by decide) vc_X0 (S_X0_theOne k_a0 h) (lw_V q1066 q1068 qs32 q105 q1069) rfl hd_X0_theOne rfl rfl (Nat.le_of_ble_eq_true rfl) (Nat.le_of_ble_eq_true rfl) (Nat.le_of_ble_eq_true rfl) rfl rfl (Nat.le_of_ble_eq_true rfl) (Nat.le_of_ble_eq_true rfl) dX0_share_10 (pc' := 13) rfl (fun r_59 M_58 h m_60 => ?_)
      refine r_goto C dX0_share_13 (tgt := 17) (by decide) ?_
      exact r_iret C hE (Nat.le_of_ble_eq_true rfl) (Nat.le_of_ble_eq_true rfl) dX0_share_17 ⟨_, rfl, h⟩
set_option maxHeartbeats 4000000 in
theorem B_X0_daysOf_5 {E : mE} {a1 : Nat} {x2 : Int32} {X39 : MM → Int32 → Prop} {Post : Int32 → MM → Prop} (C : mC E yX0_daysOf cX0_daysOf 5 ((some .int)) { frames := 0, cells := 0, slots := 0, locals := 0 }) (hE : mEnd E { frames := 0, cells := 0, slots := 0, locals := 0 } (pI_ Post)) : ∀ (n_ : Nat) (M : MM) (x3 : Int32) (x4 : Int32), mkd M a1 = 15 → wl_X0_daysOf_5 a1 x2 X39 n_ M x3 x4 → (∀ (M' : MM) (x3' : Int32), mMo M M' → X39 M' x3' → mV E M' 0 0 39 [(3, .int x3')] []) → mV E M 0 0 5 [(1, .ref a1), (2, .int x2), (3, .int x3), (4, .int x4)] [] := by
  intro n_
  induction n_ with
  | zero =>
    intro M x3 x4 k_a1 h hX39
    exact absurd h (by rw [wl_X0_daysOf_5]; exact fun q => q)
  | succ n_ ih =>
    intro M x3 x4 k_a1 h hX39
    rw [wl_X0_daysOf_5] at h
    refine r_iload C dX0_daysOf_5 (pc' := 7) rfl (j := 3) rfl ?_
    refine r_aload_n C dX0_daysOf_7 (pc' := 8) rfl (j := 0) rfl ?_
    refine r_getfN C (Cn := RX17) (T := TX17) 3 k_a1 (by decide) vc_X17 in_X17 (by decide) (List.mem_of_getElem? (i := 21) rfl) dX0_daysOf_8 (pc' := 11) rfl (v := .int (mgI M a1 3)) rfl ?_
    refine r_icmp_ge C dX0_daysOf_11 (pc' := 14) rfl (tgt := 39) (by decide) (fun c_1 => ?_) (fun c_1 => ?_)
    · have h := it_t h c_1
      refine r_sub (lv' := [(3, .int x3)]) [2] rfl ?_
      exact hX39 M x3 mMo.rf h
    · have h := it_f h c_1
      refine r_iload_n C dX0_daysOf_14 (pc' := 15) rfl (j := 2) rfl ?_
      refine r_aload_n C dX0_daysOf_15 (pc' := 16) rfl (j := 0) rfl ?_
      refine r_getfN C (Cn := RX17) (T := TX17) 0 k_a1 (by decide) vc_X17 in_X17 (by decide) (List.mem_of_getElem? (i := 22) rfl) dX0_daysOf_16 (pc' := 19) rfl (v := va_rf (mgR M a1 0)) rfl ?_
      obtain ⟨b_2, e_3, k_4, h⟩ := h
      refine r_ref [] e_3 ?_
      refine r_iload C dX0_daysOf_19 (pc' := 21) rfl (j := 3) rfl ?_
      obtain ⟨c_5, h⟩ := h
      refine r_iald C (j := (ix_ x4)) k_4 c_5 rfl dX0_daysOf_21 (pc' := 22) rfl ?_
      refine r_iload_n C dX0_daysOf_22 (pc' := 23) rfl (j := 1) rfl ?_
      refine r_icmp_ne C dX0_daysOf_23 (pc' := 26) rfl (tgt := 30) (by decide) (fun c_6 => ?_) (fun c_6 => ?_)
      · have h := it_f h c_6
        refine r_iconst C dX0_daysOf_30 (pc' := 31) rfl (v := 0) rfl ?_
        refine r_iadd C dX0_daysOf_31 (pc' := 32) rfl ?_
        obtain ⟨x3_7, e_8, h⟩ := bn_ h
        refine r_istore_n C (lv' := [(3, .int x3_7), (1, .ref a1), (2, .int x2), (4, .int x4)]) dX0_daysOf_32 (pc' := 33) rfl rfl x3_7 e_8 (Nat.le_of_ble_eq_true rfl) rfl ?_
        obtain ⟨x4_9, e_10, h⟩ := bn_ h
        refine r_iinc C (lv' := [(4, .int x4_9), (3, .int x3_7), (1, .ref a1), (2, .int x2)]) dX0_daysOf_33 (pc' := 36) rfl (j := 3) rfl x4_9 (by rw [e_10]; rfl) (Nat.le_of_ble_eq_true rfl) rfl ?_
        refine r_goto C dX0_daysOf_36 (tgt := 5) (by decide) ?_
        refine r_sub (lv' := [(1, .ref a1), (2, .int x2), (3, .int x3_7), (4, .int x4_9)]) [2, 3, 1, 0] rfl ?_
        exact ih M x3_7 x4_9 k_a1 h (fun M9 w0 hm9 h9 => hX39 M9 w0 hm9 h9)
      · have h := it_t h c_6
        refine r_iconst C dX0_daysOf_26 (pc' := 27) rfl (v := 1) rfl ?_
        refine r_goto C dX0_daysOf_27 (tgt := 31) (by decide) ?_
        refine r_iadd C dX0_daysOf_31 (pc' := 32) rfl ?_
        obtain ⟨x3_11, e_12, h⟩ := bn_ h
        refine r_istore_n C (lv' := [(3, .int x3_11), (1, .ref a1), (2, .int x2), (4, .int x4)]) dX0_daysOf_32 (pc' := 33) rfl rfl x3_11 e_12 (Nat.le_of_ble_eq_true rfl) rfl ?_
        obtain ⟨x4_13, e_14, h⟩ := bn_ h
        refine r_iinc C (lv' := [(4, .int x4_13), (3, .int x3_11), (1, .ref a1), (2, .int x2)]) dX0_daysOf_33 (pc' := 36) rfl (j := 3) rfl x4_13 (by rw [e_14]; rfl) (Nat.le_of_ble_eq_true rfl) rfl ?_
        refine r_goto C dX0_daysOf_36 (tgt := 5) (by decide) ?_
        refine r_sub (lv' := [(1, .ref a1), (2, .int x2), (3, .int x3_11), (4, .int x4_13)]) [2, 3, 1, 0] rfl ?_
        exact ih M x3_11 x4_13 k_a1 h (fun M9 w0 hm9 h9 => hX39 M9 w0 hm9 h9)
set_option maxHeartbeats 4000000 in
theorem S_X0_daysOf {D : DD} {l : Launch} {M : MM} {a0 : Nat} {a1 : Nat} {x2 : Int32} {Post : Int32 → MM → Prop} (k_a0 : mkd M a0 = 1) (k_a1 : mkd M a1 = 15) (h : wp_X0_daysOf M a0 a1 x2 Post) : mMet D l yX0_daysOf cX0_daysOf 5 ((some .int)) { frames := 0, cells := 0, slots := 0, locals := 0 } M [.ref a0, .ref a1, .int x2] (pI_ Post) := by
  refine m_of2 [(0, .ref a0), (1, .ref a1), (2, .int x2)] (by decide +kernel) (Nat.le_of_ble_eq_true rfl) rfl (fun E hED hEl C hE => ?_)
  subst hED
  subst hEl
  unfold wp_X0_daysOf at h
  refine r_iconst C dX0_daysOf_0 (pc' := 1) rfl (v := 0) rfl ?_
  refine r_istore_n C (lv' := [(3, .int (0 : Int32)), (0, .ref a0), (1, .ref a1), (2, .int x2)]) dX0_daysOf_1 (pc' := 2) rfl rfl (0 : Int32) rfl (Nat.le_of_ble_eq_true rfl) rfl ?_
  refine r_iconst C dX0_daysOf_2 (pc' := 3) rfl (v := 0) rfl ?_
  refine r_istore C (lv' := [(4, .int (0 : Int32)), (3, .int (0 : Int32)), (0, .ref a0), (1, .ref a1), (2, .int x2)]) dX0_daysOf_3 (pc' := 5) rfl (0 : Int32) rfl (Nat.le_of_ble_eq_true rfl) rfl ?_
  obtain ⟨n_15, h⟩ := h
  refine r_sub (lv' := [(1, .ref a1), (2, .int x2), (3, .int (0 : Int32)), (4, .int (0 : Int32))]) [3, 4, 1, 0] rfl ?_
  refine B_X0_daysOf_5 C hE n_15 M (0 : Int32) (0 : Int32) k_a1 h (fun M_16 x3_18 m_17 h => ?_)
  refine r_iload_n C dX0_daysOf_39 (pc' := 40) rfl (j := 0) rfl ?_
  exact r_iret C hE (Nat.le_of_ble_eq_true rfl) (Nat.le_of_ble_eq_true rfl) dX0_daysOf_40 ⟨_, rfl, h⟩
set_option maxHeartbeats 4000000 in
theorem B_X0_rota_198 {E : mE} {M : MM} {a0 : Nat} {x1 : Int32} {x3 : Int32} {a4 : Nat} {x5 : Int32} {a6 : Nat} {x7 : Int32} {x8 : Int32} {R : MM → Int32 → Int32 → Prop} {X237 : MM → Int32 → Prop} {Post : Int32 → MM → Prop} (C : mC E yX0_rota cX0_rota 9 ((some .int)) { frames := 205, cells := 2, slots := 91, locals := 5520 }) (hE : mEnd E { frames := 205, cells := 2, slots := 91, locals := 5520 } (pI_ Post)) (k_a0 : mkd M a0 = 1) (k_a4 : mkd M a4 = 15) (k_a6 : mkd M a6 = 4) (h : wb_X0_rota_198 M a0 x1 x3 a4 x5 a6 x7 x8 R X237) (hR : ∀ (M' : MM) (x7' : Int32) (x8' : Int32), mMo M M' → mkd M' a0 = 1 → mkd M' a4 = 15 → mkd M' a6 = 4 → R M' x7' x8' → mV E M' 2 91 158 [(0, .ref a0), (1, .int x1), (3, .int x3), (4, .ref a4), (5, .int x5), (6, .ref a6), (7, .int x7'), (8, .int x8')] []) (hX237 : ∀ (M' : MM) (x7' : Int32), mMo M M' → X237 M' x7' → mV E M' 2 91 237 [(3, .int x3), (6, .ref a6), (7, .int x7')] []) : mV E M 2 91 198 [(0, .ref a0), (1, .int x1), (3, .int x3), (4, .ref a4), (5, .int x5), (6, .ref a6), (7, .int x7), (8, .int x8)] [] := by
  unfold wb_X0_rota_198 at h
  refine r_aload_n C dX0_rota_198 (pc' := 199) rfl (j := 0) rfl ?_
  refine r_getf C (Cn := RX0) (T := TX0) 2 k_a0 (by decide) vc_X0 in_X0 (by decide) q352 dX0_rota_199 (pc' := 202) rfl (v := va_rf (mgR M a0 2)) rfl ?_
  obtain ⟨b_78, e_79, k_80, h⟩ := h
  refine r_ref [] e_79 ?_
  refine r_iload_n C dX0_rota_202 (pc' := 203) rfl (j := 1) rfl ?_
  refine r_callVv (As := [.int x1]) (rest := []) (Cn := RX3) (T := TX3) C k_80 (by decide) vc_X3 (S_X3_dayEnds k_80 h) (lw_V q1145 q889 q890 q108 q891) rfl hd_X3_dayEnds rfl rfl (Nat.le_of_ble_eq_true rfl) (Nat.le_of_ble_eq_true rfl) (Nat.le_of_ble_eq_true rfl) rfl rfl (Nat.le_of_ble_eq_true rfl) (Nat.le_of_ble_eq_true rfl) dX0_rota_203 (pc' := 206) rfl (fun M_81 h m_83 => ?_)
  refine r_aload_n C dX0_rota_206 (pc' := 207) rfl (j := 0) rfl ?_
  refine r_getf C (Cn := RX0) (T := TX0) 2 (mMo.kd m_83 k_a0 (by decide)) (by decide) vc_X0 in_X0 (by decide) q352 dX0_rota_207 (pc' := 210) rfl (v := va_rf (mgR M_81 a0 2)) rfl ?_
  obtain ⟨b_84, e_85, k_86, h⟩ := h
  refine r_ref [] e_85 ?_
  refine r_dup C dX0_rota_210 (pc' := 211) rfl rfl ?_
  refine r_getfN C (Cn := RX3) (T := TX3) 2 k_86 (by decide) vc_X3 in_X3 (by decide) (List.mem_of_getElem? (i := 20) rfl) dX0_rota_211 (pc' := 214) rfl (v := .int (mgI M_81 b_84 2)) rfl ?_
  refine r_iconst C dX0_rota_214 (pc' := 215) rfl (v := 1) rfl ?_
  refine r_iadd C dX0_rota_215 (pc' := 216) rfl ?_
  obtain ⟨M_87, e_88, h⟩ := bn_ h
  refine r_putIN C (Cn := RX3) (T := TX3) tyX3 2 k_86 (by decide) vc_X3 in_X3 tyX3_ok nmX3 (by decide) (List.mem_of_getElem? (i := 20) rfl) rfl rfl dX0_rota_216 (pc' := 219) rfl rfl rfl M_87 e_88 ?_
  refine r_aload C dX0_rota_219 (pc' := 221) rfl (j := 5) rfl ?_
  refine r_callVi (As := []) (rest := []) (Cn := RX4) (T := TX4) C (mMo.kd (mo_I e_88) (mMo.kd m_83 k_a6 (by decide)) (by decide)) (by decide) vc_X4 (S_X4_isDead (mMo.kd (mo_I e_88) (mMo.kd m_83 k_a6 (by decide)) (by decide)) h) (lw_V q481 q482 q483 q109 q484) rfl hd_X4_isDead rfl rfl (Nat.le_of_ble_eq_true rfl) (Nat.le_of_ble_eq_true rfl) (Nat.le_of_ble_eq_true rfl) rfl rfl (Nat.le_of_ble_eq_true rfl) (Nat.le_of_ble_eq_true rfl) dX0_rota_221 (pc' := 224) rfl (fun r_90 M_89 h m_91 => ?_)
  refine r_if_eq C dX0_rota_224 (pc' := 227) rfl (tgt := 231) (by decide) (fun c_92 => ?_) (fun c_92 => ?_)
  · have h := it_t h c_92
    obtain ⟨x8_93, e_94, h⟩ := bn_ h
    refine r_iinc C (lv' := [(8, .int x8_93), (0, .ref a0), (1, .int x1), (3, .int x3), (4, .ref a4), (5, .int x5), (6, .ref a6), (7, .int x7)]) dX0_rota_231 (pc' := 234) rfl (j := 7) rfl x8_93 (by rw [e_94]; rfl) (Nat.le_of_ble_eq_true rfl) rfl ?_
    refine r_goto C dX0_rota_234 (tgt := 158) (by decide) ?_
    refine r_sub (lv' := [(0, .ref a0), (1, .int x1), (3, .int x3), (4, .ref a4), (5, .int x5), (6, .ref a6), (7, .int x7), (8, .int x8_93)]) [1, 2, 3, 4, 5, 6, 7, 0] rfl ?_
    exact hR M_89 x7 x8_93 (mMo.tr (mMo.tr m_83 (mo_I e_88)) m_91) (mMo.kd m_91 (mMo.kd (mo_I e_88) (mMo.kd m_83 k_a0 (by decide)) (by decide)) (by decide)) (mMo.kd m_91 (mMo.kd (mo_I e_88) (mMo.kd m_83 k_a4 (by decide)) (by decide)) (by decide)) (mMo.kd m_91 (mMo.kd (mo_I e_88) (mMo.kd m_83 k_a6 (by decide)) (by decide)) (by decide)) h
  · have h := it_f h c_92
    refine r_iload C dX0_rota_227 (pc' := 229) rfl (j := 7) rfl ?_
    refine r_istore C (lv' := [(7, .int x8), (0, .ref a0), (1, .int x1), (3, .int x3), (4, .ref a4), (5, .int x5), (6, .ref a6), (8, .int x8)]) dX0_rota_229 (pc' := 231) rfl x8 rfl (Nat.le_of_ble_eq_true rfl) rfl ?_
    obtain ⟨x8_95, e_96, h⟩ := bn_ h
    refine r_iinc C (lv' := [(8, .int x8_95), (7, .int x8), (0, .ref a0), (1, .int x1), (3, .int x3), (4, .ref a4), (5, .int x5), (6, .ref a6)]) dX0_rota_231 (pc' := 234) rfl (j := 7) rfl x8_95 (by rw [e_96]; rfl) (Nat.le_of_ble_eq_true rfl) rfl ?_
    refine r_goto C dX0_rota_234 (tgt := 158) (by decide) ?_
    refine r_sub (lv' := [(0, .ref a0), (1, .int x1), (3, .int x3), (4, .ref a4), (5, .int x5), (6, .ref a6), (7, .int x8), (8, .int x8_95)]) [2, 3, 4, 5, 6, 7, 1, 0] rfl ?_
    exact hR M_89 x8 x8_95 (mMo.tr (mMo.tr m_83 (mo_I e_88)) m_91) (mMo.kd m_91 (mMo.kd (mo_I e_88) (mMo.kd m_83 k_a0 (by decide)) (by decide)) (by decide)) (mMo.kd m_91 (mMo.kd (mo_I e_88) (mMo.kd m_83 k_a4 (by decide)) (by decide)) (by decide)) (mMo.kd m_91 (mMo.kd (mo_I e_88) (mMo.kd m_83 k_a6 (by decide)) (by decide)) (by decide)) h
set_option maxHeartbeats 4000000 in
theorem B_X0_rota_158 {E : mE} {a0 : Nat} {x1 : Int32} {x3 : Int32} {a4 : Nat} {x5 : Int32} {a6 : Nat} {X237 : MM → Int32 → Prop} {Post : Int32 → MM → Prop} (C : mC E yX0_rota cX0_rota 9 ((some .int)) { frames := 205, cells := 2, slots := 91, locals := 5520 }) (hE : mEnd E { frames := 205, cells := 2, slots := 91, locals := 5520 } (pI_ Post)) : ∀ (n_ : Nat) (M : MM) (x7 : Int32) (x8 : Int32), mkd M a0 = 1 → mkd M a4 = 15 → mkd M a6 = 4 → wl_X0_rota_158 a0 x1 x3 a4 x5 a6 X237 n_ M x7 x8 → (∀ (M' : MM) (x7' : Int32), mMo M M' → X237 M' x7' → mV E M' 2 91 237 [(3, .int x3), (6, .ref a6), (7, .int x7')] []) → mV E M 2 91 158 [(0, .ref a0), (1, .int x1), (3, .int x3), (4, .ref a4), (5, .int x5), (6, .ref a6), (7, .int x7), (8, .int x8)] [] := by
  intro n_
  induction n_ with
  | zero =>
    intro M x7 x8 k_a0 k_a4 k_a6 h hX237
    exact absurd h (by rw [wl_X0_rota_158]; exact fun q => q)
  | succ n_ ih =>
    intro M x7 x8 k_a0 k_a4 k_a6 h hX237
    rw [wl_X0_rota_158] at h
    refine r_iload C dX0_rota_158 (pc' := 160) rfl (j := 7) rfl ?_
    refine r_iload C dX0_rota_160 (pc' := 162) rfl (j := 4) rfl ?_
    refine r_icmp_ge C dX0_rota_162 (pc' := 165) rfl (tgt := 237) (by decide) (fun c_71 => ?_) (fun c_71 => ?_)
    · have h := it_t h c_71
      refine r_sub (lv' := [(3, .int x3), (6, .ref a6), (7, .int x7)]) [2, 5, 6] rfl ?_
      exact hX237 M x7 mMo.rf h
    · have h := it_f h c_71
      refine r_iload C dX0_rota_165 (pc' := 167) rfl (j := 6) rfl ?_
      refine r_if_ge C dX0_rota_167 (pc' := 170) rfl (tgt := 237) (by decide) (fun c_72 => ?_) (fun c_72 => ?_)
      · have h := it_t h c_72
        refine r_sub (lv' := [(3, .int x3), (6, .ref a6), (7, .int x7)]) [2, 5, 6] rfl ?_
        exact hX237 M x7 mMo.rf h
      · have h := it_f h c_72
        refine r_aload C dX0_rota_170 (pc' := 172) rfl (j := 3) rfl ?_
        refine r_getfN C (Cn := RX17) (T := TX17) 0 k_a4 (by decide) vc_X17 in_X17 (by decide) (List.mem_of_getElem? (i := 22) rfl) dX0_rota_172 (pc' := 175) rfl (v := va_rf (mgR M a4 0)) rfl ?_
        obtain ⟨b_73, e_74, k_75, h⟩ := h
        refine r_ref [] e_74 ?_
        refine r_iload C dX0_rota_175 (pc' := 177) rfl (j := 7) rfl ?_
        obtain ⟨c_76, h⟩ := h
        refine r_iald C (j := (ix_ x8)) k_75 c_76 rfl dX0_rota_177 (pc' := 178) rfl ?_
        refine r_iconst C dX0_rota_178 (pc' := 179) rfl (v := -1) rfl ?_
        refine r_icmp_eq C dX0_rota_179 (pc' := 182) rfl (tgt := 198) (by decide) (fun c_77 => ?_) (fun c_77 => ?_)
        · have h := it_t h c_77
          refine r_sub (lv' := [(0, .ref a0), (1, .int x1), (3, .int x3), (4, .ref a4), (5, .int x5), (6, .ref a6), (7, .int x7), (8, .int x8)]) [0, 1, 2, 3, 4, 5, 6, 7] rfl ?_
          exact B_X0_rota_198 C hE k_a0 k_a4 k_a6 h (fun M8 v0 v1 hm8 g0 g3 g5 h8 => ih M8 v0 v1 g0 g3 g5 h8 (fun M9 w0 hm9 h9 => hX237 M9 w0 (mMo.tr hm8 hm9) h9)) (fun M9 w0 hm9 h9 => hX237 M9 w0 hm9 h9)
        · have h := it_f h c_77
          refine r_aload_n C dX0_rota_182 (pc' := 183) rfl (j := 0) rfl ?_
          refine r_getf C (Cn := RX0) (T := TX0) 2 k_a0 (by decide) vc_X0 in_X0 (by decide) q352 dX0_rota_183 (pc' := 186) rfl (v := va_rf (mgR M a0 2)) rfl ?_
          obtain ⟨b_97, e_98, k_99, h⟩ := h
          refine r_ref [] e_98 ?_
          refine r_aload C dX0_rota_186 (pc' := 188) rfl (j := 3) rfl ?_
          refine r_getfN C (Cn := RX17) (T := TX17) 0 k_a4 (by decide) vc_X17 in_X17 (by decide) (List.mem_of_getElem? (i := 22) rfl) dX0_rota_188 (pc' := 191) rfl (v := va_rf (mgR M a4 0)) rfl ?_
          obtain ⟨b_100, e_101, k_102, h⟩ := h
          refine r_ref [] e_101 ?_
          refine r_iload C dX0_rota_191 (pc' := 193) rfl (j := 7) rfl ?_
          obtain ⟨c_103, h⟩ := h
          refine r_iald C (j := (ix_ x8)) k_102 c_103 rfl dX0_rota_193 (pc' := 194) rfl ?_
          refine r_iload_n C dX0_rota_194 (pc' := 195) rfl (j := 1) rfl ?_
          refine r_callVv (As := [.int (mgI M b_100 (ix_ x8)), .int x1]) (rest := []) (Cn := RX3) (T := TX3) C k_99 (by decide) vc_X3 (S_X3_waters k_99 h) (lw_V q1044 q798 q799 q108 q800) rfl hd_X3_waters rfl rfl (Nat.le_of_ble_eq_true rfl) (Nat.le_of_ble_eq_true rfl) (Nat.le_of_ble_eq_true rfl) rfl rfl (Nat.le_of_ble_eq_true rfl) (Nat.le_of_ble_eq_true rfl) dX0_rota_195 (pc' := 198) rfl (fun M_104 h m_106 => ?_)
          refine r_sub (lv' := [(0, .ref a0), (1, .int x1), (3, .int x3), (4, .ref a4), (5, .int x5), (6, .ref a6), (7, .int x7), (8, .int x8)]) [0, 1, 2, 3, 4, 5, 6, 7] rfl ?_
          exact B_X0_rota_198 C hE (mMo.kd m_106 k_a0 (by decide)) (mMo.kd m_106 k_a4 (by decide)) (mMo.kd m_106 k_a6 (by decide)) h (fun M8 v0 v1 hm8 g0 g3 g5 h8 => ih M8 v0 v1 g0 g3 g5 h8 (fun M9 w0 hm9 h9 => hX237 M9 w0 (mMo.tr (mMo.tr m_106 hm8) hm9) h9)) (fun M9 w0 hm9 h9 => hX237 M9 w0 (mMo.tr m_106 hm9) h9)
set_option maxHeartbeats 4000000 in
theorem B_X0_rota_237 {E : mE} {M : MM} {x3 : Int32} {a6 : Nat} {x7 : Int32} {Post : Int32 → MM → Prop} (C : mC E yX0_rota cX0_rota 9 ((some .int)) { frames := 205, cells := 2, slots := 91, locals := 5520 }) (hE : mEnd E { frames := 205, cells := 2, slots := 91, locals := 5520 } (pI_ Post)) (k_a6 : mkd M a6 = 4) (h : wb_X0_rota_237 M x3 a6 x7 Post) : mV E M 2 91 237 [(3, .int x3), (6, .ref a6), (7, .int x7)] [] := by
  unfold wb_X0_rota_237 at h
  refine r_iload_n C dX0_rota_237 (pc' := 238) rfl (j := 0) rfl ?_
  refine r_iconst C dX0_rota_238 (pc' := 239) rfl (v := 1) rfl ?_
  refine r_icmp_ne C dX0_rota_239 (pc' := 242) rfl (tgt := 247) (by decide) (fun c_111 => ?_) (fun c_111 => ?_)
  · have h := it_f h c_111
    refine r_aload C dX0_rota_247 (pc' := 249) rfl (j := 1) rfl ?_
    refine r_getfN C (Cn := RX4) (T := TX4) 2 k_a6 (by decide) vc_X4 in_X4 (by decide) (List.mem_of_getElem? (i := 7) rfl) dX0_rota_249 (pc' := 252) rfl (v := .int (mgI M a6 2)) rfl ?_
    exact r_iret C hE (Nat.le_of_ble_eq_true rfl) (Nat.le_of_ble_eq_true rfl) dX0_rota_252 ⟨_, rfl, h⟩
  · have h := it_t h c_111
    refine r_iload C dX0_rota_242 (pc' := 244) rfl (j := 2) rfl ?_
    refine r_goto C dX0_rota_244 (tgt := 252) (by decide) ?_
    exact r_iret C hE (Nat.le_of_ble_eq_true rfl) (Nat.le_of_ble_eq_true rfl) dX0_rota_252 ⟨_, rfl, h⟩
set_option maxHeartbeats 4000000 in
theorem B_X0_rota_53 {E : mE} {M : MM} {a0 : Nat} {x1 : Int32} {x2 : Int32} {x3 : Int32} {Post : Int32 → MM → Prop} (C : mC E yX0_rota cX0_rota 9 ((some .int)) { frames := 205, cells := 2, slots := 91, locals := 5520 }) (hE : mEnd E { frames := 205, cells := 2, slots := 91, locals := 5520 } (pI_ Post)) (k_a0 : mkd M a0 = 1) (h : wb_X0_rota_53 M a0 x1 x2 x3 Post) : mV E M 0 0 53 [(0, .ref a0), (1, .int x1), (2, .int x2), (3, .int x3)] [] := by
  unfold wb_X0_rota_53 at h
  refine r_aload_n C dX0_rota_53 (pc' := 54) rfl (j := 0) rfl ?_
  refine r_getf C (Cn := RX0) (T := TX0) 1 k_a0 (by decide) vc_X0 in_X0 (by decide) q351 dX0_rota_54 (pc' := 57) rfl (v := va_rf (mgR M a0 1)) rfl ?_
  obtain ⟨b_27, e_28, k_29, h⟩ := h
  refine r_ref [] e_28 ?_
  refine r_getfN C (Cn := RX3) (T := TX3) 2 k_29 (by decide) vc_X3 in_X3 (by decide) (List.mem_of_getElem? (i := 20) rfl) dX0_rota_57 (pc' := 60) rfl (v := .int (mgI M b_27 2)) rfl ?_
  refine r_sipush C dX0_rota_60 (pc' := 63) rfl (v := 9915) rfl ?_
  refine r_icmp_gt C dX0_rota_63 (pc' := 66) rfl (tgt := 74) (by decide) (fun c_30 => ?_) (fun c_30 => ?_)
  · have h := it_t h c_30
    refine r_iconst C dX0_rota_74 (pc' := 75) rfl (v := -1) rfl ?_
    exact r_iret C hE (Nat.le_of_ble_eq_true rfl) (Nat.le_of_ble_eq_true rfl) dX0_rota_75 ⟨_, rfl, h⟩
  · have h := it_f h c_30
    refine r_iload_n C dX0_rota_66 (pc' := 67) rfl (j := 2) rfl ?_
    refine r_aload_n C dX0_rota_67 (pc' := 68) rfl (j := 0) rfl ?_
    refine r_getf C (Cn := RX0) (T := TX0) 7 k_a0 (by decide) vc_X0 in_X0 (by decide) q361 dX0_rota_68 (pc' := 71) rfl (v := .int (mgI M a0 7)) rfl ?_
    refine r_icmp_le C dX0_rota_71 (pc' := 74) rfl (tgt := 76) (by decide) (fun c_31 => ?_) (fun c_31 => ?_)
    · have h := it_t h c_31
      refine r_aload_n C dX0_rota_76 (pc' := 77) rfl (j := 0) rfl ?_
      refine r_iconst C dX0_rota_77 (pc' := 78) rfl (v := 0) rfl ?_
      obtain ⟨M_32, e_33, h⟩ := bn_ h
      refine r_putI C (Cn := RX0) (T := TX0) tyX0 7 k_a0 (by decide) vc_X0 in_X0 tyX0_ok nmX0 (by decide) q361 rfl rfl dX0_rota_78 (pc' := 81) rfl rfl rfl M_32 e_33 ?_
      obtain ⟨b_36, e_37, h⟩ := bn_ h
      obtain ⟨M_38, e_39, h⟩ := bn_ h
      refine r_new C (Cn := RX17) (T := TX17) tyX17 (by decide) vc_X17 in_X17 tyX17_ok df_X17 q1074 q1075 q129 (Nat.le_of_ble_eq_true rfl) (Nat.le_of_ble_eq_true rfl) dX0_rota_81 (pc' := 84) rfl b_36 e_37 M_38 e_39 (fun m_34 k_35 => ?_)
      refine r_dup C dX0_rota_84 (pc' := 85) rfl rfl ?_
      refine r_aload_n C dX0_rota_85 (pc' := 86) rfl (j := 0) rfl ?_
      refine r_iload_n C dX0_rota_86 (pc' := 87) rfl (j := 2) rfl ?_
      refine r_callIv (As := [.ref a0, .int x2]) (rest := [.ref b_36]) C (S_X17_init k_35 (mMo.kd m_34 (mMo.kd (mo_I e_33) k_a0 (by decide)) (by decide)) h) q1078 q129 q1076 q1077 rfl rfl hd_X17_init rfl rfl (Nat.le_of_ble_eq_true rfl) (Nat.le_of_ble_eq_true rfl) (Nat.le_of_ble_eq_true rfl) rfl rfl (Nat.le_of_ble_eq_true rfl) (Nat.le_of_ble_eq_true rfl) dX0_rota_87 (pc' := 90) rfl (fun M_40 h m_42 => ?_)
      refine r_astore C (lv' := [(4, .ref b_36), (0, .ref a0), (1, .int x1), (2, .int x2), (3, .int x3)]) dX0_rota_90 (pc' := 92) rfl b_36 rfl (Nat.le_of_ble_eq_true rfl) rfl ?_
      refine r_aload C dX0_rota_92 (pc' := 94) rfl (j := 0) rfl ?_
      refine r_callVi (As := []) (rest := []) (Cn := RX17) (T := TX17) C (mMo.kd m_42 k_35 (by decide)) (by decide) vc_X17 (S_X17_read (mMo.kd m_42 k_35 (by decide)) h) (lw_V q1104 q1105 q1106 q129 q1107) rfl hd_X17_read rfl rfl (Nat.le_of_ble_eq_true rfl) (Nat.le_of_ble_eq_true rfl) (Nat.le_of_ble_eq_true rfl) rfl rfl (Nat.le_of_ble_eq_true rfl) (Nat.le_of_ble_eq_true rfl) dX0_rota_94 (pc' := 97) rfl (fun r_44 M_43 h m_45 => ?_)
      refine r_istore C (lv' := [(5, .int r_44), (4, .ref b_36), (0, .ref a0), (1, .int x1), (2, .int x2), (3, .int x3)]) dX0_rota_97 (pc' := 99) rfl r_44 rfl (Nat.le_of_ble_eq_true rfl) rfl ?_
      refine r_iload C dX0_rota_99 (pc' := 101) rfl (j := 0) rfl ?_
      refine r_if_lt C dX0_rota_101 (pc' := 104) rfl (tgt := 108) (by decide) (fun c_46 => ?_) (fun c_46 => ?_)
      · have h := it_t h c_46
        refine r_iload C dX0_rota_108 (pc' := 110) rfl (j := 0) rfl ?_
        exact r_iret C hE (Nat.le_of_ble_eq_true rfl) (Nat.le_of_ble_eq_true rfl) dX0_rota_110 ⟨_, rfl, h⟩
      · have h := it_f h c_46
        refine r_iload_n C dX0_rota_104 (pc' := 105) rfl (j := 5) rfl ?_
        refine r_if_ne C dX0_rota_105 (pc' := 108) rfl (tgt := 111) (by decide) (fun c_47 => ?_) (fun c_47 => ?_)
        · have h := it_f h c_47
          refine r_iload_n C dX0_rota_111 (pc' := 112) rfl (j := 5) rfl ?_
          refine r_bipush C dX0_rota_112 (pc' := 114) rfl (v := 10) rfl ?_
          refine r_icmp_lt C dX0_rota_114 (pc' := 117) rfl (tgt := 128) (by decide) (fun c_48 => ?_) (fun c_48 => ?_)
          · have h := it_t h c_48
            refine r_aload_n C dX0_rota_128 (pc' := 129) rfl (j := 2) rfl ?_
            refine r_getf C (Cn := RX0) (T := TX0) 2 (mMo.kd m_45 (mMo.kd m_42 (mMo.kd m_34 (mMo.kd (mo_I e_33) k_a0 (by decide)) (by decide)) (by decide)) (by decide)) (by decide) vc_X0 in_X0 (by decide) q352 dX0_rota_129 (pc' := 132) rfl (v := va_rf (mgR M_43 a0 2)) rfl ?_
            obtain ⟨b_49, e_50, k_51, h⟩ := h
            refine r_ref [] e_50 ?_
            refine r_aload_n C dX0_rota_132 (pc' := 133) rfl (j := 2) rfl ?_
            refine r_getf C (Cn := RX0) (T := TX0) 1 (mMo.kd m_45 (mMo.kd m_42 (mMo.kd m_34 (mMo.kd (mo_I e_33) k_a0 (by decide)) (by decide)) (by decide)) (by decide)) (by decide) vc_X0 in_X0 (by decide) q351 dX0_rota_133 (pc' := 136) rfl (v := va_rf (mgR M_43 a0 1)) rfl ?_
            obtain ⟨b_52, e_53, k_54, h⟩ := h
            refine r_ref [] e_53 ?_
            refine r_callVq (As := [.ref b_52]) (rest := []) (Cn := RX3) (T := TX3) C k_51 (by decide) vc_X3 (S_X3_takes k_51 k_54 h) (lw_V q908 q909 q910 q108 q911) rfl hd_X3_takes rfl rfl (Nat.le_of_ble_eq_true rfl) (Nat.le_of_ble_eq_true rfl) (Nat.le_of_ble_eq_true rfl) rfl rfl (Nat.le_of_ble_eq_true rfl) (Nat.le_of_ble_eq_true rfl) dX0_rota_136 (pc' := 139) rfl (fun r_56 M_55 h m_57 => ?_)
            obtain ⟨b_58, e_59, k_60, h⟩ := h
            refine r_ref [] e_59 ?_
            refine r_pop C dX0_rota_139 (pc' := 140) rfl rfl ?_
            refine r_aload_n C dX0_rota_140 (pc' := 141) rfl (j := 2) rfl ?_
            refine r_getf C (Cn := RX0) (T := TX0) 2 (mMo.kd m_57 (mMo.kd m_45 (mMo.kd m_42 (mMo.kd m_34 (mMo.kd (mo_I e_33) k_a0 (by decide)) (by decide)) (by decide)) (by decide)) (by decide)) (by decide) vc_X0 in_X0 (by decide) q352 dX0_rota_141 (pc' := 144) rfl (v := va_rf (mgR M_55 a0 2)) rfl ?_
            obtain ⟨b_61, e_62, k_63, h⟩ := h
            refine r_ref [] e_62 ?_
            refine r_getfN C (Cn := RX3) (T := TX3) 0 k_63 (by decide) vc_X3 in_X3 (by decide) (List.mem_of_getElem? (i := 0) rfl) dX0_rota_144 (pc' := 147) rfl (v := va_rf (mgR M_55 b_61 0)) rfl ?_
            obtain ⟨b_64, e_65, k_66, h⟩ := h
            refine r_ref [] e_65 ?_
            refine r_iload_n C dX0_rota_147 (pc' := 148) rfl (j := 3) rfl ?_
            obtain ⟨c_67, h⟩ := h
            refine r_aald C (t := 3) (j := (ix_ x1)) k_66 (by decide) rfl rfl c_67 rfl dX0_rota_148 (pc' := 149) rfl ?_
            obtain ⟨b_68, e_69, k_70, h⟩ := h
            refine r_ref [] e_69 ?_
            refine r_astore C (lv' := [(6, .ref b_68), (5, .int r_44), (4, .ref b_36), (0, .ref a0), (1, .int x1), (2, .int x2), (3, .int x3)]) dX0_rota_149 (pc' := 151) rfl b_68 rfl (Nat.le_of_ble_eq_true rfl) rfl ?_
            refine r_bipush C dX0_rota_151 (pc' := 153) rfl (v := -2) rfl ?_
            refine r_istore C (lv' := [(7, .int (-2 : Int32)), (6, .ref b_68), (5, .int r_44), (4, .ref b_36), (0, .ref a0), (1, .int x1), (2, .int x2), (3, .int x3)]) dX0_rota_153 (pc' := 155) rfl (-2 : Int32) rfl (Nat.le_of_ble_eq_true rfl) rfl ?_
            refine r_iconst C dX0_rota_155 (pc' := 156) rfl (v := 0) rfl ?_
            refine r_istore C (lv' := [(8, .int (0 : Int32)), (7, .int (-2 : Int32)), (6, .ref b_68), (5, .int r_44), (4, .ref b_36), (0, .ref a0), (1, .int x1), (2, .int x2), (3, .int x3)]) dX0_rota_156 (pc' := 158) rfl (0 : Int32) rfl (Nat.le_of_ble_eq_true rfl) rfl ?_
            obtain ⟨n_107, h⟩ := h
            refine r_sub (lv' := [(0, .ref a0), (1, .int x1), (3, .int x3), (4, .ref b_36), (5, .int r_44), (6, .ref b_68), (7, .int (-2 : Int32)), (8, .int (0 : Int32))]) [5, 6, 8, 4, 3, 2, 1, 0] rfl ?_
            refine B_X0_rota_158 C hE n_107 M_55 (-2 : Int32) (0 : Int32) (mMo.kd m_57 (mMo.kd m_45 (mMo.kd m_42 (mMo.kd m_34 (mMo.kd (mo_I e_33) k_a0 (by decide)) (by decide)) (by decide)) (by decide)) (by decide)) (mMo.kd m_57 (mMo.kd m_45 (mMo.kd m_42 k_35 (by decide)) (by decide)) (by decide)) k_70 h (fun M_108 x7_110 m_109 h => ?_)
            refine r_sub (lv' := [(3, .int x3), (6, .ref b_68), (7, .int x7_110)]) [0, 1, 2] rfl ?_
            exact B_X0_rota_237 C hE (mMo.kd m_109 k_70 (by decide)) h
          · have h := it_f h c_48
            refine r_aload_n C dX0_rota_117 (pc' := 118) rfl (j := 2) rfl ?_
            refine r_aload C dX0_rota_118 (pc' := 120) rfl (j := 1) rfl ?_
            refine r_iload_n C dX0_rota_120 (pc' := 121) rfl (j := 5) rfl ?_
            refine r_bipush C dX0_rota_121 (pc' := 123) rfl (v := 10) rfl ?_
            refine r_isub C dX0_rota_123 (pc' := 124) rfl ?_
            refine r_callVi (As := [.ref b_36, .int (x3 - (10 : Int32))]) (rest := []) (Cn := RX0) (T := TX0) C (mMo.kd m_45 (mMo.kd m_42 (mMo.kd m_34 (mMo.kd (mo_I e_33) k_a0 (by decide)) (by decide)) (by decide)) (by decide)) (by decide) vc_X0 (S_X0_daysOf (mMo.kd m_45 (mMo.kd m_42 (mMo.kd m_34 (mMo.kd (mo_I e_33) k_a0 (by decide)) (by decide)) (by decide)) (by decide)) (mMo.kd m_45 (mMo.kd m_42 k_35 (by decide)) (by decide)) h) (lw_V q1141 q1143 qs41 q105 q1144) rfl hd_X0_daysOf rfl rfl (Nat.le_of_ble_eq_true rfl) (Nat.le_of_ble_eq_true rfl) (Nat.le_of_ble_eq_true rfl) rfl rfl (Nat.le_of_ble_eq_true rfl) (Nat.le_of_ble_eq_true rfl) dX0_rota_124 (pc' := 127) rfl (fun r_113 M_112 h m_114 => ?_)
            exact r_iret C hE (Nat.le_of_ble_eq_true rfl) (Nat.le_of_ble_eq_true rfl) dX0_rota_127 ⟨_, rfl, h⟩
        · have h := it_t h c_47
          refine r_iload C dX0_rota_108 (pc' := 110) rfl (j := 0) rfl ?_
          exact r_iret C hE (Nat.le_of_ble_eq_true rfl) (Nat.le_of_ble_eq_true rfl) dX0_rota_110 ⟨_, rfl, h⟩
    · have h := it_f h c_31
      refine r_iconst C dX0_rota_74 (pc' := 75) rfl (v := -1) rfl ?_
      exact r_iret C hE (Nat.le_of_ble_eq_true rfl) (Nat.le_of_ble_eq_true rfl) dX0_rota_75 ⟨_, rfl, h⟩
set_option maxHeartbeats 4000000 in
theorem S_X0_rota {D : DD} {l : Launch} {M : MM} {a0 : Nat} {x1 : Int32} {x2 : Int32} {x3 : Int32} {Post : Int32 → MM → Prop} (k_a0 : mkd M a0 = 1) (h : wp_X0_rota M a0 x1 x2 x3 Post) : mMet D l yX0_rota cX0_rota 9 ((some .int)) { frames := 205, cells := 2, slots := 91, locals := 5520 } M [.ref a0, .int x1, .int x2, .int x3] (pI_ Post) := by
  refine m_of2 [(0, .ref a0), (1, .int x1), (2, .int x2), (3, .int x3)] (by decide +kernel) (Nat.le_of_ble_eq_true rfl) rfl (fun E hED hEl C hE => ?_)
  subst hED
  subst hEl
  unfold wp_X0_rota at h
  refine r_aload_n C dX0_rota_0 (pc' := 1) rfl (j := 0) rfl ?_
  refine r_iload_n C dX0_rota_1 (pc' := 2) rfl (j := 1) rfl ?_
  refine r_callVi (As := [.int x1]) (rest := []) (Cn := RX0) (T := TX0) C k_a0 (by decide) vc_X0 (S_X0_isPlant k_a0 h) (lw_V q473 q475 qs0 q105 q476) rfl hd_X0_isPlant rfl rfl (Nat.le_of_ble_eq_true rfl) (Nat.le_of_ble_eq_true rfl) (Nat.le_of_ble_eq_true rfl) rfl rfl (Nat.le_of_ble_eq_true rfl) (Nat.le_of_ble_eq_true rfl) dX0_rota_2 (pc' := 5) rfl (fun r_2 M_1 h m_3 => ?_)
  refine r_if_eq C dX0_rota_5 (pc' := 8) rfl (tgt := 74) (by decide) (fun c_4 => ?_) (fun c_4 => ?_)
  · have h := it_t h c_4
    refine r_iconst C dX0_rota_74 (pc' := 75) rfl (v := -1) rfl ?_
    exact r_iret C hE (Nat.le_of_ble_eq_true rfl) (Nat.le_of_ble_eq_true rfl) dX0_rota_75 ⟨_, rfl, h⟩
  · have h := it_f h c_4
    refine r_aload_n C dX0_rota_8 (pc' := 9) rfl (j := 0) rfl ?_
    refine r_getf C (Cn := RX0) (T := TX0) 1 (mMo.kd m_3 k_a0 (by decide)) (by decide) vc_X0 in_X0 (by decide) q351 dX0_rota_9 (pc' := 12) rfl (v := va_rf (mgR M_1 a0 1)) rfl ?_
    obtain ⟨b_5, e_6, k_7, h⟩ := h
    refine r_ref [] e_6 ?_
    refine r_getfN C (Cn := RX3) (T := TX3) 0 k_7 (by decide) vc_X3 in_X3 (by decide) (List.mem_of_getElem? (i := 0) rfl) dX0_rota_12 (pc' := 15) rfl (v := va_rf (mgR M_1 b_5 0)) rfl ?_
    obtain ⟨b_8, e_9, k_10, h⟩ := h
    refine r_ref [] e_9 ?_
    refine r_iload_n C dX0_rota_15 (pc' := 16) rfl (j := 1) rfl ?_
    obtain ⟨c_11, h⟩ := h
    refine r_aald C (t := 3) (j := (ix_ x1)) k_10 (by decide) rfl rfl c_11 rfl dX0_rota_16 (pc' := 17) rfl ?_
    obtain ⟨b_12, e_13, k_14, h⟩ := h
    refine r_ref [] e_13 ?_
    refine r_callVi (As := []) (rest := []) (Cn := RX4) (T := TX4) C k_14 (by decide) vc_X4 (S_X4_isDead k_14 h) (lw_V q481 q482 q483 q109 q484) rfl hd_X4_isDead rfl rfl (Nat.le_of_ble_eq_true rfl) (Nat.le_of_ble_eq_true rfl) (Nat.le_of_ble_eq_true rfl) rfl rfl (Nat.le_of_ble_eq_true rfl) (Nat.le_of_ble_eq_true rfl) dX0_rota_17 (pc' := 20) rfl (fun r_16 M_15 h m_17 => ?_)
    refine r_if_ne C dX0_rota_20 (pc' := 23) rfl (tgt := 74) (by decide) (fun c_18 => ?_) (fun c_18 => ?_)
    · have h := it_f h c_18
      refine r_iconst C dX0_rota_74 (pc' := 75) rfl (v := -1) rfl ?_
      exact r_iret C hE (Nat.le_of_ble_eq_true rfl) (Nat.le_of_ble_eq_true rfl) dX0_rota_75 ⟨_, rfl, h⟩
    · have h := it_t h c_18
      refine r_iload_n C dX0_rota_23 (pc' := 24) rfl (j := 2) rfl ?_
      refine r_iconst C dX0_rota_24 (pc' := 25) rfl (v := 1) rfl ?_
      refine r_bipush C dX0_rota_25 (pc' := 27) rfl (v := 90) rfl ?_
      refine r_callSi (As := [.int x2, .int (1 : Int32), .int (90 : Int32)]) (rest := []) C (S_X0_within h) (lw_S q462 q463 q105 q464) hd_X0_within rfl rfl (Nat.le_of_ble_eq_true rfl) (Nat.le_of_ble_eq_true rfl) (Nat.le_of_ble_eq_true rfl) rfl rfl (Nat.le_of_ble_eq_true rfl) (Nat.le_of_ble_eq_true rfl) dX0_rota_27 (pc' := 30) rfl (fun r_20 M_19 h m_21 => ?_)
      refine r_if_eq C dX0_rota_30 (pc' := 33) rfl (tgt := 74) (by decide) (fun c_22 => ?_) (fun c_22 => ?_)
      · have h := it_t h c_22
        refine r_iconst C dX0_rota_74 (pc' := 75) rfl (v := -1) rfl ?_
        exact r_iret C hE (Nat.le_of_ble_eq_true rfl) (Nat.le_of_ble_eq_true rfl) dX0_rota_75 ⟨_, rfl, h⟩
      · have h := it_f h c_22
        refine r_iload_n C dX0_rota_33 (pc' := 34) rfl (j := 3) rfl ?_
        refine r_iconst C dX0_rota_34 (pc' := 35) rfl (v := 3) rfl ?_
        refine r_callSi (As := [.int x3, .int (3 : Int32)]) (rest := []) C (S_X0_in h) (lw_S q459 q460 q105 q461) hd_X0_in rfl rfl (Nat.le_of_ble_eq_true rfl) (Nat.le_of_ble_eq_true rfl) (Nat.le_of_ble_eq_true rfl) rfl rfl (Nat.le_of_ble_eq_true rfl) (Nat.le_of_ble_eq_true rfl) dX0_rota_35 (pc' := 38) rfl (fun r_24 M_23 h m_25 => ?_)
        refine r_if_ne C dX0_rota_38 (pc' := 41) rfl (tgt := 53) (by decide) (fun c_26 => ?_) (fun c_26 => ?_)
        · have h := it_f h c_26
          refine r_sub (lv' := [(0, .ref a0), (1, .int x1), (2, .int x2), (3, .int x3)]) [0, 1, 2, 3] rfl ?_
          exact B_X0_rota_53 C hE (mMo.kd m_25 (mMo.kd m_21 (mMo.kd m_17 (mMo.kd m_3 k_a0 (by decide)) (by decide)) (by decide)) (by decide)) h
        · have h := it_t h c_26
          refine r_iload_n C dX0_rota_41 (pc' := 42) rfl (j := 3) rfl ?_
          refine r_bipush C dX0_rota_42 (pc' := 44) rfl (v := 10) rfl ?_
          refine r_isub C dX0_rota_44 (pc' := 45) rfl ?_
          refine r_bipush C dX0_rota_45 (pc' := 47) rfl (v := 8) rfl ?_
          refine r_callSi (As := [.int (x3 - (10 : Int32)), .int (8 : Int32)]) (rest := []) C (S_X0_in h) (lw_S q459 q460 q105 q461) hd_X0_in rfl rfl (Nat.le_of_ble_eq_true rfl) (Nat.le_of_ble_eq_true rfl) (Nat.le_of_ble_eq_true rfl) rfl rfl (Nat.le_of_ble_eq_true rfl) (Nat.le_of_ble_eq_true rfl) dX0_rota_47 (pc' := 50) rfl (fun r_116 M_115 h m_117 => ?_)
          refine r_if_eq C dX0_rota_50 (pc' := 53) rfl (tgt := 74) (by decide) (fun c_118 => ?_) (fun c_118 => ?_)
          · have h := it_t h c_118
            refine r_iconst C dX0_rota_74 (pc' := 75) rfl (v := -1) rfl ?_
            exact r_iret C hE (Nat.le_of_ble_eq_true rfl) (Nat.le_of_ble_eq_true rfl) dX0_rota_75 ⟨_, rfl, h⟩
          · have h := it_f h c_118
            refine r_sub (lv' := [(0, .ref a0), (1, .int x1), (2, .int x2), (3, .int x3)]) [0, 1, 2, 3] rfl ?_
            exact B_X0_rota_53 C hE (mMo.kd m_117 (mMo.kd m_25 (mMo.kd m_21 (mMo.kd m_17 (mMo.kd m_3 k_a0 (by decide)) (by decide)) (by decide)) (by decide)) (by decide)) h
set_option maxHeartbeats 4000000 in
theorem S_X0_costOf {D : DD} {l : Launch} {M : MM} {a0 : Nat} {x1 : Int32} {Post : Int32 → MM → Prop} (k_a0 : mkd M a0 = 1) (h : wp_X0_costOf M a0 x1 Post) : mMet D l yX0_costOf cX0_costOf 2 ((some .int)) { frames := 203, cells := 0, slots := 0, locals := 5476 } M [.ref a0, .int x1] (pI_ Post) := by
  refine m_of2 [(0, .ref a0), (1, .int x1)] (by decide +kernel) (Nat.le_of_ble_eq_true rfl) rfl (fun E hED hEl C hE => ?_)
  subst hED
  subst hEl
  unfold wp_X0_costOf at h
  refine r_aload_n C dX0_costOf_0 (pc' := 1) rfl (j := 0) rfl ?_
  refine r_getf C (Cn := RX0) (T := TX0) 0 k_a0 (by decide) vc_X0 in_X0 (by decide) q350 dX0_costOf_1 (pc' := 4) rfl (v := va_rf (mgR M a0 0)) rfl ?_
  obtain ⟨b_1, e_2, k_3, h⟩ := h
  refine r_ref [] e_2 ?_
  refine r_aload_n C dX0_costOf_4 (pc' := 5) rfl (j := 0) rfl ?_
  refine r_getf C (Cn := RX0) (T := TX0) 1 k_a0 (by decide) vc_X0 in_X0 (by decide) q351 dX0_costOf_5 (pc' := 8) rfl (v := va_rf (mgR M a0 1)) rfl ?_
  obtain ⟨b_4, e_5, k_6, h⟩ := h
  refine r_ref [] e_5 ?_
  refine r_getfN C (Cn := RX3) (T := TX3) 2 k_6 (by decide) vc_X3 in_X3 (by decide) (List.mem_of_getElem? (i := 20) rfl) dX0_costOf_8 (pc' := 11) rfl (v := .int (mgI M b_4 2)) rfl ?_
  refine r_aload_n C dX0_costOf_11 (pc' := 12) rfl (j := 0) rfl ?_
  refine r_getf C (Cn := RX0) (T := TX0) 1 k_a0 (by decide) vc_X0 in_X0 (by decide) q351 dX0_costOf_12 (pc' := 15) rfl (v := va_rf (mgR M a0 1)) rfl ?_
  obtain ⟨b_7, e_8, k_9, h⟩ := h
  refine r_ref [] e_8 ?_
  refine r_callVi (As := []) (rest := [.int (mgI M b_4 2), .ref b_1]) (Cn := RX3) (T := TX3) C k_9 (by decide) vc_X3 (S_X3_toldPeople k_9 h) (lw_V q957 q811 q812 q108 q813) rfl hd_X3_toldPeople rfl rfl (Nat.le_of_ble_eq_true rfl) (Nat.le_of_ble_eq_true rfl) (Nat.le_of_ble_eq_true rfl) rfl rfl (Nat.le_of_ble_eq_true rfl) (Nat.le_of_ble_eq_true rfl) dX0_costOf_15 (pc' := 18) rfl (fun r_11 M_10 h m_12 => ?_)
  refine r_callVq (As := [.int (mgI M b_4 2), .int r_11]) (rest := []) (Cn := RX2) (T := TX2) C (mMo.kd m_12 k_3 (by decide)) (by decide) vc_X2 (S_X2_of (mMo.kd m_12 k_3 (by decide)) h) (lw_V q973 q815 q816 q107 q817) rfl hd_X2_of rfl rfl (Nat.le_of_ble_eq_true rfl) (Nat.le_of_ble_eq_true rfl) (Nat.le_of_ble_eq_true rfl) rfl rfl (Nat.le_of_ble_eq_true rfl) (Nat.le_of_ble_eq_true rfl) dX0_costOf_18 (pc' := 21) rfl (fun r_14 M_13 h m_15 => ?_)
  obtain ⟨b_16, e_17, k_18, h⟩ := h
  refine r_ref [] e_17 ?_
  refine r_iload_n C dX0_costOf_21 (pc' := 22) rfl (j := 1) rfl ?_
  refine r_iconst C dX0_costOf_22 (pc' := 23) rfl (v := 0) rfl ?_
  refine r_iconst C dX0_costOf_23 (pc' := 24) rfl (v := 0) rfl ?_
  refine r_callVq (As := [.int x1, .int (0 : Int32), .int (0 : Int32)]) (rest := []) (Cn := RX2) (T := TX2) C k_18 (by decide) vc_X2 (S_X2_by k_18 h) (lw_V q981 q827 q828 q107 q829) rfl hd_X2_by rfl rfl (Nat.le_of_ble_eq_true rfl) (Nat.le_of_ble_eq_true rfl) (Nat.le_of_ble_eq_true rfl) rfl rfl (Nat.le_of_ble_eq_true rfl) (Nat.le_of_ble_eq_true rfl) dX0_costOf_24 (pc' := 27) rfl (fun r_20 M_19 h m_21 => ?_)
  obtain ⟨b_22, e_23, k_24, h⟩ := h
  refine r_ref [] e_23 ?_
  refine r_bipush C dX0_costOf_27 (pc' := 29) rfl (v := 99) rfl ?_
  refine r_bipush C dX0_costOf_29 (pc' := 31) rfl (v := 99) rfl ?_
  refine r_callVi (As := [.int (99 : Int32), .int (99 : Int32)]) (rest := []) (Cn := RX2) (T := TX2) C k_24 (by decide) vc_X2 (S_X2_tells k_24 h) (lw_V q991 q893 q894 q107 q895) rfl hd_X2_tells rfl rfl (Nat.le_of_ble_eq_true rfl) (Nat.le_of_ble_eq_true rfl) (Nat.le_of_ble_eq_true rfl) rfl rfl (Nat.le_of_ble_eq_true rfl) (Nat.le_of_ble_eq_true rfl) dX0_costOf_31 (pc' := 34) rfl (fun r_26 M_25 h m_27 => ?_)
  exact r_iret C hE (Nat.le_of_ble_eq_true rfl) (Nat.le_of_ble_eq_true rfl) dX0_costOf_34 ⟨_, rfl, h⟩
set_option maxHeartbeats 4000000 in
theorem S_X0_worthOf {D : DD} {l : Launch} {M : MM} {a0 : Nat} {x1 : Int32} {Post : Int32 → MM → Prop} (k_a0 : mkd M a0 = 1) (h : wp_X0_worthOf M a0 x1 Post) : mMet D l yX0_worthOf cX0_worthOf 2 ((some .int)) { frames := 203, cells := 0, slots := 0, locals := 5476 } M [.ref a0, .int x1] (pI_ Post) := by
  refine m_of2 [(0, .ref a0), (1, .int x1)] (by decide +kernel) (Nat.le_of_ble_eq_true rfl) rfl (fun E hED hEl C hE => ?_)
  subst hED
  subst hEl
  unfold wp_X0_worthOf at h
  refine r_aload_n C dX0_worthOf_0 (pc' := 1) rfl (j := 0) rfl ?_
  refine r_getf C (Cn := RX0) (T := TX0) 0 k_a0 (by decide) vc_X0 in_X0 (by decide) q350 dX0_worthOf_1 (pc' := 4) rfl (v := va_rf (mgR M a0 0)) rfl ?_
  obtain ⟨b_1, e_2, k_3, h⟩ := h
  refine r_ref [] e_2 ?_
  refine r_aload_n C dX0_worthOf_4 (pc' := 5) rfl (j := 0) rfl ?_
  refine r_getf C (Cn := RX0) (T := TX0) 1 k_a0 (by decide) vc_X0 in_X0 (by decide) q351 dX0_worthOf_5 (pc' := 8) rfl (v := va_rf (mgR M a0 1)) rfl ?_
  obtain ⟨b_4, e_5, k_6, h⟩ := h
  refine r_ref [] e_5 ?_
  refine r_getfN C (Cn := RX3) (T := TX3) 2 k_6 (by decide) vc_X3 in_X3 (by decide) (List.mem_of_getElem? (i := 20) rfl) dX0_worthOf_8 (pc' := 11) rfl (v := .int (mgI M b_4 2)) rfl ?_
  refine r_aload_n C dX0_worthOf_11 (pc' := 12) rfl (j := 0) rfl ?_
  refine r_getf C (Cn := RX0) (T := TX0) 1 k_a0 (by decide) vc_X0 in_X0 (by decide) q351 dX0_worthOf_12 (pc' := 15) rfl (v := va_rf (mgR M a0 1)) rfl ?_
  obtain ⟨b_7, e_8, k_9, h⟩ := h
  refine r_ref [] e_8 ?_
  refine r_callVi (As := []) (rest := [.int (mgI M b_4 2), .ref b_1]) (Cn := RX3) (T := TX3) C k_9 (by decide) vc_X3 (S_X3_toldPeople k_9 h) (lw_V q957 q811 q812 q108 q813) rfl hd_X3_toldPeople rfl rfl (Nat.le_of_ble_eq_true rfl) (Nat.le_of_ble_eq_true rfl) (Nat.le_of_ble_eq_true rfl) rfl rfl (Nat.le_of_ble_eq_true rfl) (Nat.le_of_ble_eq_true rfl) dX0_worthOf_15 (pc' := 18) rfl (fun r_11 M_10 h m_12 => ?_)
  refine r_callVq (As := [.int (mgI M b_4 2), .int r_11]) (rest := []) (Cn := RX2) (T := TX2) C (mMo.kd m_12 k_3 (by decide)) (by decide) vc_X2 (S_X2_of (mMo.kd m_12 k_3 (by decide)) h) (lw_V q973 q815 q816 q107 q817) rfl hd_X2_of rfl rfl (Nat.le_of_ble_eq_true rfl) (Nat.le_of_ble_eq_true rfl) (Nat.le_of_ble_eq_true rfl) rfl rfl (Nat.le_of_ble_eq_true rfl) (Nat.le_of_ble_eq_true rfl) dX0_worthOf_18 (pc' := 21) rfl (fun r_14 M_13 h m_15 => ?_)
  obtain ⟨b_16, e_17, k_18, h⟩ := h
  refine r_ref [] e_17 ?_
  refine r_iload_n C dX0_worthOf_21 (pc' := 22) rfl (j := 1) rfl ?_
  refine r_iconst C dX0_worthOf_22 (pc' := 23) rfl (v := 0) rfl ?_
  refine r_iconst C dX0_worthOf_23 (pc' := 24) rfl (v := 0) rfl ?_
  refine r_callVq (As := [.int x1, .int (0 : Int32), .int (0 : Int32)]) (rest := []) (Cn := RX2) (T := TX2) C k_18 (by decide) vc_X2 (S_X2_by k_18 h) (lw_V q981 q827 q828 q107 q829) rfl hd_X2_by rfl rfl (Nat.le_of_ble_eq_true rfl) (Nat.le_of_ble_eq_true rfl) (Nat.le_of_ble_eq_true rfl) rfl rfl (Nat.le_of_ble_eq_true rfl) (Nat.le_of_ble_eq_true rfl) dX0_worthOf_24 (pc' := 27) rfl (fun r_20 M_19 h m_21 => ?_)
  obtain ⟨b_22, e_23, k_24, h⟩ := h
  refine r_ref [] e_23 ?_
  refine r_bipush C dX0_worthOf_27 (pc' := 29) rfl (v := 98) rfl ?_
  refine r_sipush C dX0_worthOf_29 (pc' := 32) rfl (v := 999) rfl ?_
  refine r_callVi (As := [.int (98 : Int32), .int (999 : Int32)]) (rest := []) (Cn := RX2) (T := TX2) C k_24 (by decide) vc_X2 (S_X2_tells k_24 h) (lw_V q991 q893 q894 q107 q895) rfl hd_X2_tells rfl rfl (Nat.le_of_ble_eq_true rfl) (Nat.le_of_ble_eq_true rfl) (Nat.le_of_ble_eq_true rfl) rfl rfl (Nat.le_of_ble_eq_true rfl) (Nat.le_of_ble_eq_true rfl) dX0_worthOf_32 (pc' := 35) rfl (fun r_26 M_25 h m_27 => ?_)
  exact r_iret C hE (Nat.le_of_ble_eq_true rfl) (Nat.le_of_ble_eq_true rfl) dX0_worthOf_35 ⟨_, rfl, h⟩
set_option maxHeartbeats 4000000 in
theorem B_X0_gainOf_13 {E : mE} {M : MM} {a0 : Nat} {x1 : Int32} {x2 : Int32} {xs0 : Int32} {Post : Int32 → MM → Prop} (C : mC E yX0_gainOf cX0_gainOf 3 ((some .int)) { frames := 204, cells := 0, slots := 0, locals := 5497 }) (hE : mEnd E { frames := 204, cells := 0, slots := 0, locals := 5497 } (pI_ Post)) (k_a0 : mkd M a0 = 1) (h : wb_X0_gainOf_13 M a0 x1 x2 xs0 Post) : mV E M 0 0 13 [(0, .ref a0), (1, .int x1), (2, .int x2)] [.int xs0] := by
  unfold wb_X0_gainOf_13 at h
  refine r_iload_n C dX0_gainOf_13 (pc' := 14) rfl (j := 1) rfl ?_
  refine r_iload_n C dX0_gainOf_14 (pc' := 15) rfl (j := 2) rfl ?_
  refine r_callSi (As := [.int x1, .int x2]) (rest := [.int xs0]) C (S_X0_has h) (lw_S q1166 q1167 q105 q1168) hd_X0_has rfl rfl (Nat.le_of_ble_eq_true rfl) (Nat.le_of_ble_eq_true rfl) (Nat.le_of_ble_eq_true rfl) rfl rfl (Nat.le_of_ble_eq_true rfl) (Nat.le_of_ble_eq_true rfl) dX0_gainOf_15 (pc' := 18) rfl (fun r_3 M_2 h m_4 => ?_)
  refine r_if_eq C dX0_gainOf_18 (pc' := 21) rfl (tgt := 29) (by decide) (fun c_5 => ?_) (fun c_5 => ?_)
  · have h := it_t h c_5
    refine r_iconst C dX0_gainOf_29 (pc' := 30) rfl (v := 0) rfl ?_
    refine r_isub C dX0_gainOf_30 (pc' := 31) rfl ?_
    exact r_iret C hE (Nat.le_of_ble_eq_true rfl) (Nat.le_of_ble_eq_true rfl) dX0_gainOf_31 ⟨_, rfl, h⟩
  · have h := it_f h c_5
    refine r_aload_n C dX0_gainOf_21 (pc' := 22) rfl (j := 0) rfl ?_
    refine r_iload_n C dX0_gainOf_22 (pc' := 23) rfl (j := 2) rfl ?_
    refine r_callVi (As := [.int x2]) (rest := [.int xs0]) (Cn := RX0) (T := TX0) C (mMo.kd m_4 k_a0 (by decide)) (by decide) vc_X0 (S_X0_costOf (mMo.kd m_4 k_a0 (by decide)) h) (lw_V q1158 q1160 qs44 q105 q1161) rfl hd_X0_costOf rfl rfl (Nat.le_of_ble_eq_true rfl) (Nat.le_of_ble_eq_true rfl) (Nat.le_of_ble_eq_true rfl) rfl rfl (Nat.le_of_ble_eq_true rfl) (Nat.le_of_ble_eq_true rfl) dX0_gainOf_23 (pc' := 26) rfl (fun r_7 M_6 h m_8 => ?_)
    refine r_goto C dX0_gainOf_26 (tgt := 30) (by decide) ?_
    refine r_isub C dX0_gainOf_30 (pc' := 31) rfl ?_
    exact r_iret C hE (Nat.le_of_ble_eq_true rfl) (Nat.le_of_ble_eq_true rfl) dX0_gainOf_31 ⟨_, rfl, h⟩
set_option maxHeartbeats 4000000 in
theorem S_X0_gainOf {D : DD} {l : Launch} {M : MM} {a0 : Nat} {x1 : Int32} {x2 : Int32} {Post : Int32 → MM → Prop} (k_a0 : mkd M a0 = 1) (h : wp_X0_gainOf M a0 x1 x2 Post) : mMet D l yX0_gainOf cX0_gainOf 3 ((some .int)) { frames := 204, cells := 0, slots := 0, locals := 5497 } M [.ref a0, .int x1, .int x2] (pI_ Post) := by
  refine m_of2 [(0, .ref a0), (1, .int x1), (2, .int x2)] (by decide +kernel) (Nat.le_of_ble_eq_true rfl) rfl (fun E hED hEl C hE => ?_)
  subst hED
  subst hEl
  unfold wp_X0_gainOf at h
  refine r_iload_n C dX0_gainOf_0 (pc' := 1) rfl (j := 1) rfl ?_
  refine r_if_eq C dX0_gainOf_1 (pc' := 4) rfl (tgt := 12) (by decide) (fun c_1 => ?_) (fun c_1 => ?_)
  · have h := it_t h c_1
    refine r_iconst C dX0_gainOf_12 (pc' := 13) rfl (v := 0) rfl ?_
    refine r_sub (lv' := [(0, .ref a0), (1, .int x1), (2, .int x2)]) [0, 1, 2] rfl ?_
    exact B_X0_gainOf_13 C hE k_a0 h
  · have h := it_f h c_1
    refine r_aload_n C dX0_gainOf_4 (pc' := 5) rfl (j := 0) rfl ?_
    refine r_iload_n C dX0_gainOf_5 (pc' := 6) rfl (j := 2) rfl ?_
    refine r_callVi (As := [.int x2]) (rest := []) (Cn := RX0) (T := TX0) C k_a0 (by decide) vc_X0 (S_X0_worthOf k_a0 h) (lw_V q1154 q1156 qs43 q105 q1157) rfl hd_X0_worthOf rfl rfl (Nat.le_of_ble_eq_true rfl) (Nat.le_of_ble_eq_true rfl) (Nat.le_of_ble_eq_true rfl) rfl rfl (Nat.le_of_ble_eq_true rfl) (Nat.le_of_ble_eq_true rfl) dX0_gainOf_6 (pc' := 9) rfl (fun r_10 M_9 h m_11 => ?_)
    refine r_goto C dX0_gainOf_9 (tgt := 13) (by decide) ?_
    refine r_sub (lv' := [(0, .ref a0), (1, .int x1), (2, .int x2)]) [0, 1, 2] rfl ?_
    exact B_X0_gainOf_13 C hE (mMo.kd m_11 k_a0 (by decide)) h
set_option maxHeartbeats 4000000 in
theorem S_X0_isWorth {D : DD} {l : Launch} {M : MM} {a0 : Nat} {x1 : Int32} {x2 : Int32} {x3 : Int32} {Post : Int32 → MM → Prop} (k_a0 : mkd M a0 = 1) (h : wp_X0_isWorth M a0 x1 x2 x3 Post) : mMet D l yX0_isWorth cX0_isWorth 6 ((some .boolean)) { frames := 204, cells := 0, slots := 0, locals := 5497 } M [.ref a0, .int x1, .int x2, .int x3] (pI_ Post) := by
  refine m_of2 [(0, .ref a0), (1, .int x1), (2, .int x2), (3, .int x3)] (by decide +kernel) (Nat.le_of_ble_eq_true rfl) rfl (fun E hED hEl C hE => ?_)
  subst hED
  subst hEl
  unfold wp_X0_isWorth at h
  refine r_bipush C dX0_isWorth_0 (pc' := 2) rfl (v := 10) rfl ?_
  refine r_iload_n C dX0_isWorth_2 (pc' := 3) rfl (j := 2) rfl ?_
  refine r_iconst C dX0_isWorth_3 (pc' := 4) rfl (v := 1) rfl ?_
  refine r_isub C dX0_isWorth_4 (pc' := 5) rfl ?_
  refine r_callSl (As := [.int (10 : Int32), .int (x2 - (1 : Int32))]) (rest := []) C (S_X0_powerOf h) (lw_S q962 q963 q105 q964) hd_X0_powerOf rfl rfl (Nat.le_of_ble_eq_true rfl) (Nat.le_of_ble_eq_true rfl) (Nat.le_of_ble_eq_true rfl) rfl rfl (Nat.le_of_ble_eq_true rfl) (Nat.le_of_ble_eq_true rfl) dX0_isWorth_5 (pc' := 8) rfl (fun r_2 M_1 h m_3 => ?_)
  refine r_lstore C (lv' := [(4, .long r_2), (0, .ref a0), (1, .int x1), (2, .int x2), (3, .int x3)]) dX0_isWorth_8 (pc' := 10) rfl r_2 rfl (Nat.le_of_ble_eq_true rfl) rfl ?_
  refine r_aload_n C dX0_isWorth_10 (pc' := 11) rfl (j := 1) rfl ?_
  refine r_iload_n C dX0_isWorth_11 (pc' := 12) rfl (j := 2) rfl ?_
  refine r_callVi (As := [.int x1]) (rest := []) (Cn := RX0) (T := TX0) C (mMo.kd m_3 k_a0 (by decide)) (by decide) vc_X0 (S_X0_worthOf (mMo.kd m_3 k_a0 (by decide)) h) (lw_V q1154 q1156 qs43 q105 q1157) rfl hd_X0_worthOf rfl rfl (Nat.le_of_ble_eq_true rfl) (Nat.le_of_ble_eq_true rfl) (Nat.le_of_ble_eq_true rfl) rfl rfl (Nat.le_of_ble_eq_true rfl) (Nat.le_of_ble_eq_true rfl) dX0_isWorth_12 (pc' := 15) rfl (fun r_5 M_4 h m_6 => ?_)
  refine r_aload_n C dX0_isWorth_15 (pc' := 16) rfl (j := 1) rfl ?_
  refine r_iload_n C dX0_isWorth_16 (pc' := 17) rfl (j := 2) rfl ?_
  refine r_callVi (As := [.int x1]) (rest := [.int r_5]) (Cn := RX0) (T := TX0) C (mMo.kd m_6 (mMo.kd m_3 k_a0 (by decide)) (by decide)) (by decide) vc_X0 (S_X0_costOf (mMo.kd m_6 (mMo.kd m_3 k_a0 (by decide)) (by decide)) h) (lw_V q1158 q1160 qs44 q105 q1161) rfl hd_X0_costOf rfl rfl (Nat.le_of_ble_eq_true rfl) (Nat.le_of_ble_eq_true rfl) (Nat.le_of_ble_eq_true rfl) rfl rfl (Nat.le_of_ble_eq_true rfl) (Nat.le_of_ble_eq_true rfl) dX0_isWorth_17 (pc' := 20) rfl (fun r_8 M_7 h m_9 => ?_)
  refine r_isub C dX0_isWorth_20 (pc' := 21) rfl ?_
  refine r_i2l C dX0_isWorth_21 (pc' := 22) rfl ?_
  refine r_lload C dX0_isWorth_22 (pc' := 24) rfl (j := 0) rfl ?_
  refine r_lmul C dX0_isWorth_24 (pc' := 25) rfl ?_
  refine r_aload_n C dX0_isWorth_25 (pc' := 26) rfl (j := 1) rfl ?_
  refine r_iload_n C dX0_isWorth_26 (pc' := 27) rfl (j := 2) rfl ?_
  refine r_callVi (As := [.int x1]) (rest := [.long (((r_5 - r_8).toInt64) * r_2)]) (Cn := RX0) (T := TX0) C (mMo.kd m_9 (mMo.kd m_6 (mMo.kd m_3 k_a0 (by decide)) (by decide)) (by decide)) (by decide) vc_X0 (S_X0_worthOf (mMo.kd m_9 (mMo.kd m_6 (mMo.kd m_3 k_a0 (by decide)) (by decide)) (by decide)) h) (lw_V q1154 q1156 qs43 q105 q1157) rfl hd_X0_worthOf rfl rfl (Nat.le_of_ble_eq_true rfl) (Nat.le_of_ble_eq_true rfl) (Nat.le_of_ble_eq_true rfl) rfl rfl (Nat.le_of_ble_eq_true rfl) (Nat.le_of_ble_eq_true rfl) dX0_isWorth_27 (pc' := 30) rfl (fun r_11 M_10 h m_12 => ?_)
  refine r_i2l C dX0_isWorth_30 (pc' := 31) rfl ?_
  refine r_lload C dX0_isWorth_31 (pc' := 33) rfl (j := 0) rfl ?_
  refine r_bipush C dX0_isWorth_33 (pc' := 35) rfl (v := 10) rfl ?_
  refine r_iload_n C dX0_isWorth_35 (pc' := 36) rfl (j := 4) rfl ?_
  refine r_isub C dX0_isWorth_36 (pc' := 37) rfl ?_
  refine r_iload_n C dX0_isWorth_37 (pc' := 38) rfl (j := 3) rfl ?_
  refine r_iconst C dX0_isWorth_38 (pc' := 39) rfl (v := 1) rfl ?_
  refine r_isub C dX0_isWorth_39 (pc' := 40) rfl ?_
  refine r_callSl (As := [.int ((10 : Int32) - x3), .int (x2 - (1 : Int32))]) (rest := [.long r_2, .long r_11.toInt64, .long (((r_5 - r_8).toInt64) * r_2)]) C (S_X0_powerOf h) (lw_S q962 q963 q105 q964) hd_X0_powerOf rfl rfl (Nat.le_of_ble_eq_true rfl) (Nat.le_of_ble_eq_true rfl) (Nat.le_of_ble_eq_true rfl) rfl rfl (Nat.le_of_ble_eq_true rfl) (Nat.le_of_ble_eq_true rfl) dX0_isWorth_40 (pc' := 43) rfl (fun r_14 M_13 h m_15 => ?_)
  refine r_lsub C dX0_isWorth_43 (pc' := 44) rfl ?_
  refine r_lmul C dX0_isWorth_44 (pc' := 45) rfl ?_
  refine r_lc_lt C dX0_isWorth_45 (pc1 := 46) (pc' := 49) rfl dX0_isWorth_46 rfl (tgt := 53) (by decide) (fun c_16 => ?_) (fun c_16 => ?_)
  · have h := it_t h c_16
    refine r_iconst C dX0_isWorth_53 (pc' := 54) rfl (v := 0) rfl ?_
    exact r_zret C hE (Or.inl rfl) (Nat.le_of_ble_eq_true rfl) (Nat.le_of_ble_eq_true rfl) dX0_isWorth_54 ⟨_, rfl, h⟩
  · have h := it_f h c_16
    refine r_iconst C dX0_isWorth_49 (pc' := 50) rfl (v := 1) rfl ?_
    refine r_goto C dX0_isWorth_50 (tgt := 54) (by decide) ?_
    exact r_zret C hE (Or.inr rfl) (Nat.le_of_ble_eq_true rfl) (Nat.le_of_ble_eq_true rfl) dX0_isWorth_54 ⟨_, rfl, h⟩
set_option maxHeartbeats 4000000 in
theorem B_X0_alone_104 {E : mE} {a0 : Nat} {x1 : Int32} {x2 : Int32} {x3 : Int32} {x4 : Int32} {x5 : Int32} {X152 : MM → Int32 → Prop} {Post : Int32 → MM → Prop} (C : mC E yX0_alone cX0_alone 8 ((some .int)) { frames := 205, cells := 0, slots := 0, locals := 5522 }) (hE : mEnd E { frames := 205, cells := 0, slots := 0, locals := 5522 } (pI_ Post)) : ∀ (n_ : Nat) (M : MM) (x6 : Int32) (x7 : Int32), mkd M a0 = 1 → wl_X0_alone_104 a0 x1 x2 x3 x4 x5 X152 n_ M x6 x7 → (∀ (M' : MM) (x6' : Int32), mMo M M' → X152 M' x6' → mV E M' 0 0 152 [(0, .ref a0), (1, .int x1), (2, .int x2), (3, .int x3), (4, .int x4), (5, .int x5), (6, .int x6')] []) → mV E M 0 0 104 [(0, .ref a0), (1, .int x1), (2, .int x2), (3, .int x3), (4, .int x4), (5, .int x5), (6, .int x6), (7, .int x7)] [] := by
  intro n_
  induction n_ with
  | zero =>
    intro M x6 x7 k_a0 h hX152
    exact absurd h (by rw [wl_X0_alone_104]; exact fun q => q)
  | succ n_ ih =>
    intro M x6 x7 k_a0 h hX152
    rw [wl_X0_alone_104] at h
    refine r_iload C dX0_alone_104 (pc' := 106) rfl (j := 7) rfl ?_
    refine r_iload_n C dX0_alone_106 (pc' := 107) rfl (j := 1) rfl ?_
    refine r_icmp_ge C dX0_alone_107 (pc' := 110) rfl (tgt := 152) (by decide) (fun c_11 => ?_) (fun c_11 => ?_)
    · have h := it_t h c_11
      refine r_sub (lv' := [(0, .ref a0), (1, .int x1), (2, .int x2), (3, .int x3), (4, .int x4), (5, .int x5), (6, .int x6)]) [0, 1, 2, 3, 4, 5, 6] rfl ?_
      exact hX152 M x6 mMo.rf h
    · have h := it_f h c_11
      refine r_iload C dX0_alone_110 (pc' := 112) rfl (j := 6) rfl ?_
      refine r_if_eq C dX0_alone_112 (pc' := 115) rfl (tgt := 152) (by decide) (fun c_12 => ?_) (fun c_12 => ?_)
      · have h := it_t h c_12
        refine r_sub (lv' := [(0, .ref a0), (1, .int x1), (2, .int x2), (3, .int x3), (4, .int x4), (5, .int x5), (6, .int x6)]) [0, 1, 2, 3, 4, 5, 6] rfl ?_
        exact hX152 M x6 mMo.rf h
      · have h := it_f h c_12
        refine r_aload_n C dX0_alone_115 (pc' := 116) rfl (j := 0) rfl ?_
        refine r_iload C dX0_alone_116 (pc' := 118) rfl (j := 5) rfl ?_
        refine r_iconst C dX0_alone_118 (pc' := 119) rfl (v := 1) rfl ?_
        refine r_iload C dX0_alone_119 (pc' := 121) rfl (j := 7) rfl ?_
        refine r_ishl C dX0_alone_121 (pc' := 122) rfl ?_
        refine r_ixor C dX0_alone_122 (pc' := 123) rfl ?_
        refine r_iload C dX0_alone_123 (pc' := 125) rfl (j := 7) rfl ?_
        refine r_callVi (As := [.int (x5 ^^^ ((1 : Int32) <<< (x7 &&& 31))), .int x7]) (rest := []) (Cn := RX0) (T := TX0) C k_a0 (by decide) vc_X0 (S_X0_gainOf k_a0 h) (lw_V q1162 q1164 qs45 q105 q1165) rfl hd_X0_gainOf rfl rfl (Nat.le_of_ble_eq_true rfl) (Nat.le_of_ble_eq_true rfl) (Nat.le_of_ble_eq_true rfl) rfl rfl (Nat.le_of_ble_eq_true rfl) (Nat.le_of_ble_eq_true rfl) dX0_alone_125 (pc' := 128) rfl (fun r_14 M_13 h m_15 => ?_)
        refine r_aload_n C dX0_alone_128 (pc' := 129) rfl (j := 0) rfl ?_
        refine r_iload C dX0_alone_129 (pc' := 131) rfl (j := 5) rfl ?_
        refine r_iload C dX0_alone_131 (pc' := 133) rfl (j := 7) rfl ?_
        refine r_callVi (As := [.int x5, .int x7]) (rest := [.int r_14]) (Cn := RX0) (T := TX0) C (mMo.kd m_15 k_a0 (by decide)) (by decide) vc_X0 (S_X0_gainOf (mMo.kd m_15 k_a0 (by decide)) h) (lw_V q1162 q1164 qs45 q105 q1165) rfl hd_X0_gainOf rfl rfl (Nat.le_of_ble_eq_true rfl) (Nat.le_of_ble_eq_true rfl) (Nat.le_of_ble_eq_true rfl) rfl rfl (Nat.le_of_ble_eq_true rfl) (Nat.le_of_ble_eq_true rfl) dX0_alone_133 (pc' := 136) rfl (fun r_17 M_16 h m_18 => ?_)
        refine r_icmp_gt C dX0_alone_136 (pc' := 139) rfl (tgt := 143) (by decide) (fun c_19 => ?_) (fun c_19 => ?_)
        · have h := it_t h c_19
          refine r_iconst C dX0_alone_143 (pc' := 144) rfl (v := 0) rfl ?_
          refine r_istore C (lv' := [(6, .int (0 : Int32)), (0, .ref a0), (1, .int x1), (2, .int x2), (3, .int x3), (4, .int x4), (5, .int x5), (7, .int x7)]) dX0_alone_144 (pc' := 146) rfl (0 : Int32) rfl (Nat.le_of_ble_eq_true rfl) rfl ?_
          obtain ⟨x7_20, e_21, h⟩ := bn_ h
          refine r_iinc C (lv' := [(7, .int x7_20), (6, .int (0 : Int32)), (0, .ref a0), (1, .int x1), (2, .int x2), (3, .int x3), (4, .int x4), (5, .int x5)]) dX0_alone_146 (pc' := 149) rfl (j := 7) rfl x7_20 (by rw [e_21]; rfl) (Nat.le_of_ble_eq_true rfl) rfl ?_
          refine r_goto C dX0_alone_149 (tgt := 104) (by decide) ?_
          refine r_sub (lv' := [(0, .ref a0), (1, .int x1), (2, .int x2), (3, .int x3), (4, .int x4), (5, .int x5), (6, .int (0 : Int32)), (7, .int x7_20)]) [2, 3, 4, 5, 6, 7, 1, 0] rfl ?_
          exact ih M_16 (0 : Int32) x7_20 (mMo.kd m_18 (mMo.kd m_15 k_a0 (by decide)) (by decide)) h (fun M9 w0 hm9 h9 => hX152 M9 w0 (mMo.tr (mMo.tr m_15 m_18) hm9) h9)
        · have h := it_f h c_19
          refine r_iconst C dX0_alone_139 (pc' := 140) rfl (v := 1) rfl ?_
          refine r_goto C dX0_alone_140 (tgt := 144) (by decide) ?_
          refine r_istore C (lv' := [(6, .int (1 : Int32)), (0, .ref a0), (1, .int x1), (2, .int x2), (3, .int x3), (4, .int x4), (5, .int x5), (7, .int x7)]) dX0_alone_144 (pc' := 146) rfl (1 : Int32) rfl (Nat.le_of_ble_eq_true rfl) rfl ?_
          obtain ⟨x7_22, e_23, h⟩ := bn_ h
          refine r_iinc C (lv' := [(7, .int x7_22), (6, .int (1 : Int32)), (0, .ref a0), (1, .int x1), (2, .int x2), (3, .int x3), (4, .int x4), (5, .int x5)]) dX0_alone_146 (pc' := 149) rfl (j := 7) rfl x7_22 (by rw [e_23]; rfl) (Nat.le_of_ble_eq_true rfl) rfl ?_
          refine r_goto C dX0_alone_149 (tgt := 104) (by decide) ?_
          refine r_sub (lv' := [(0, .ref a0), (1, .int x1), (2, .int x2), (3, .int x3), (4, .int x4), (5, .int x5), (6, .int (1 : Int32)), (7, .int x7_22)]) [2, 3, 4, 5, 6, 7, 1, 0] rfl ?_
          exact ih M_16 (1 : Int32) x7_22 (mMo.kd m_18 (mMo.kd m_15 k_a0 (by decide)) (by decide)) h (fun M9 w0 hm9 h9 => hX152 M9 w0 (mMo.tr (mMo.tr m_15 m_18) hm9) h9)
set_option maxHeartbeats 4000000 in
theorem B_X0_alone_152 {E : mE} {M : MM} {a0 : Nat} {x1 : Int32} {x2 : Int32} {x3 : Int32} {x4 : Int32} {x5 : Int32} {x6 : Int32} {R : MM → Int32 → Int32 → Int32 → Prop} {X182 : MM → Int32 → Int32 → Prop} {Post : Int32 → MM → Prop} (C : mC E yX0_alone cX0_alone 8 ((some .int)) { frames := 205, cells := 0, slots := 0, locals := 5522 }) (hE : mEnd E { frames := 205, cells := 0, slots := 0, locals := 5522 } (pI_ Post)) (k_a0 : mkd M a0 = 1) (h : wb_X0_alone_152 M a0 x1 x2 x3 x4 x5 x6 R X182) (hR : ∀ (M' : MM) (x3' : Int32) (x4' : Int32) (x5' : Int32), mMo M M' → mkd M' a0 = 1 → R M' x3' x4' x5' → mV E M' 0 0 90 [(0, .ref a0), (1, .int x1), (2, .int x2), (3, .int x3'), (4, .int x4'), (5, .int x5')] []) (hX182 : ∀ (M' : MM) (x3' : Int32) (x4' : Int32), mMo M M' → X182 M' x3' x4' → mV E M' 0 0 182 [(2, .int x2), (3, .int x3'), (4, .int x4')] []) : mV E M 0 0 152 [(0, .ref a0), (1, .int x1), (2, .int x2), (3, .int x3), (4, .int x4), (5, .int x5), (6, .int x6)] [] := by
  unfold wb_X0_alone_152 at h
  refine r_iload C dX0_alone_152 (pc' := 154) rfl (j := 6) rfl ?_
  refine r_if_ne C dX0_alone_154 (pc' := 157) rfl (tgt := 160) (by decide) (fun c_28 => ?_) (fun c_28 => ?_)
  · have h := it_f h c_28
    refine r_iload_n C dX0_alone_160 (pc' := 161) rfl (j := 3) rfl ?_
    refine r_if_ne C dX0_alone_161 (pc' := 164) rfl (tgt := 169) (by decide) (fun c_29 => ?_) (fun c_29 => ?_)
    · have h := it_f h c_29
      refine r_iload C dX0_alone_169 (pc' := 171) rfl (j := 4) rfl ?_
      refine r_istore C (lv' := [(4, .int x4), (0, .ref a0), (1, .int x1), (2, .int x2), (3, .int x3), (5, .int x5), (6, .int x6)]) dX0_alone_171 (pc' := 173) rfl x4 rfl (Nat.le_of_ble_eq_true rfl) rfl ?_
      obtain ⟨x3_30, e_31, h⟩ := bn_ h
      refine r_iinc C (lv' := [(3, .int x3_30), (4, .int x4), (0, .ref a0), (1, .int x1), (2, .int x2), (5, .int x5), (6, .int x6)]) dX0_alone_173 (pc' := 176) rfl (j := 4) rfl x3_30 (by rw [e_31]; rfl) (Nat.le_of_ble_eq_true rfl) rfl ?_
      obtain ⟨x5_32, e_33, h⟩ := bn_ h
      refine r_iinc C (lv' := [(5, .int x5_32), (3, .int x3_30), (4, .int x4), (0, .ref a0), (1, .int x1), (2, .int x2), (6, .int x6)]) dX0_alone_176 (pc' := 179) rfl (j := 5) rfl x5_32 (by rw [e_33]; rfl) (Nat.le_of_ble_eq_true rfl) rfl ?_
      refine r_goto C dX0_alone_179 (tgt := 90) (by decide) ?_
      refine r_sub (lv' := [(0, .ref a0), (1, .int x1), (2, .int x2), (3, .int x3_30), (4, .int x4), (5, .int x5_32)]) [3, 4, 5, 1, 2, 0] rfl ?_
      exact hR M x3_30 x4 x5_32 mMo.rf k_a0 h
    · have h := it_t h c_29
      refine r_iload C dX0_alone_164 (pc' := 166) rfl (j := 5) rfl ?_
      refine r_goto C dX0_alone_166 (tgt := 171) (by decide) ?_
      refine r_istore C (lv' := [(4, .int x5), (0, .ref a0), (1, .int x1), (2, .int x2), (3, .int x3), (5, .int x5), (6, .int x6)]) dX0_alone_171 (pc' := 173) rfl x5 rfl (Nat.le_of_ble_eq_true rfl) rfl ?_
      obtain ⟨x3_34, e_35, h⟩ := bn_ h
      refine r_iinc C (lv' := [(3, .int x3_34), (4, .int x5), (0, .ref a0), (1, .int x1), (2, .int x2), (5, .int x5), (6, .int x6)]) dX0_alone_173 (pc' := 176) rfl (j := 4) rfl x3_34 (by rw [e_35]; rfl) (Nat.le_of_ble_eq_true rfl) rfl ?_
      obtain ⟨x5_36, e_37, h⟩ := bn_ h
      refine r_iinc C (lv' := [(5, .int x5_36), (3, .int x3_34), (4, .int x5), (0, .ref a0), (1, .int x1), (2, .int x2), (6, .int x6)]) dX0_alone_176 (pc' := 179) rfl (j := 5) rfl x5_36 (by rw [e_37]; rfl) (Nat.le_of_ble_eq_true rfl) rfl ?_
      refine r_goto C dX0_alone_179 (tgt := 90) (by decide) ?_
      refine r_sub (lv' := [(0, .ref a0), (1, .int x1), (2, .int x2), (3, .int x3_34), (4, .int x5), (5, .int x5_36)]) [3, 4, 5, 1, 2, 0] rfl ?_
      exact hR M x3_34 x5 x5_36 mMo.rf k_a0 h
  · have h := it_t h c_28
    refine r_goto C dX0_alone_157 (tgt := 176) (by decide) ?_
    obtain ⟨x5_38, e_39, h⟩ := bn_ h
    refine r_iinc C (lv' := [(5, .int x5_38), (0, .ref a0), (1, .int x1), (2, .int x2), (3, .int x3), (4, .int x4), (6, .int x6)]) dX0_alone_176 (pc' := 179) rfl (j := 5) rfl x5_38 (by rw [e_39]; rfl) (Nat.le_of_ble_eq_true rfl) rfl ?_
    refine r_goto C dX0_alone_179 (tgt := 90) (by decide) ?_
    refine r_sub (lv' := [(0, .ref a0), (1, .int x1), (2, .int x2), (3, .int x3), (4, .int x4), (5, .int x5_38)]) [1, 2, 3, 4, 5, 0] rfl ?_
    exact hR M x3 x4 x5_38 mMo.rf k_a0 h
set_option maxHeartbeats 4000000 in
theorem B_X0_alone_90 {E : mE} {a0 : Nat} {x1 : Int32} {x2 : Int32} {X182 : MM → Int32 → Int32 → Prop} {Post : Int32 → MM → Prop} (C : mC E yX0_alone cX0_alone 8 ((some .int)) { frames := 205, cells := 0, slots := 0, locals := 5522 }) (hE : mEnd E { frames := 205, cells := 0, slots := 0, locals := 5522 } (pI_ Post)) : ∀ (n_ : Nat) (M : MM) (x3 : Int32) (x4 : Int32) (x5 : Int32), mkd M a0 = 1 → wl_X0_alone_90 a0 x1 x2 X182 n_ M x3 x4 x5 → (∀ (M' : MM) (x3' : Int32) (x4' : Int32), mMo M M' → X182 M' x3' x4' → mV E M' 0 0 182 [(2, .int x2), (3, .int x3'), (4, .int x4')] []) → mV E M 0 0 90 [(0, .ref a0), (1, .int x1), (2, .int x2), (3, .int x3), (4, .int x4), (5, .int x5)] [] := by
  intro n_
  induction n_ with
  | zero =>
    intro M x3 x4 x5 k_a0 h hX182
    exact absurd h (by rw [wl_X0_alone_90]; exact fun q => q)
  | succ n_ ih =>
    intro M x3 x4 x5 k_a0 h hX182
    rw [wl_X0_alone_90] at h
    refine r_iload C dX0_alone_90 (pc' := 92) rfl (j := 5) rfl ?_
    refine r_iconst C dX0_alone_92 (pc' := 93) rfl (v := 1) rfl ?_
    refine r_iload_n C dX0_alone_93 (pc' := 94) rfl (j := 1) rfl ?_
    refine r_ishl C dX0_alone_94 (pc' := 95) rfl ?_
    refine r_icmp_ge C dX0_alone_95 (pc' := 98) rfl (tgt := 182) (by decide) (fun c_10 => ?_) (fun c_10 => ?_)
    · have h := it_t h c_10
      refine r_sub (lv' := [(2, .int x2), (3, .int x3), (4, .int x4)]) [2, 3, 4] rfl ?_
      exact hX182 M x3 x4 mMo.rf h
    · have h := it_f h c_10
      refine r_iconst C dX0_alone_98 (pc' := 99) rfl (v := 1) rfl ?_
      refine r_istore C (lv' := [(6, .int (1 : Int32)), (0, .ref a0), (1, .int x1), (2, .int x2), (3, .int x3), (4, .int x4), (5, .int x5)]) dX0_alone_99 (pc' := 101) rfl (1 : Int32) rfl (Nat.le_of_ble_eq_true rfl) rfl ?_
      refine r_iconst C dX0_alone_101 (pc' := 102) rfl (v := 0) rfl ?_
      refine r_istore C (lv' := [(7, .int (0 : Int32)), (6, .int (1 : Int32)), (0, .ref a0), (1, .int x1), (2, .int x2), (3, .int x3), (4, .int x4), (5, .int x5)]) dX0_alone_102 (pc' := 104) rfl (0 : Int32) rfl (Nat.le_of_ble_eq_true rfl) rfl ?_
      obtain ⟨n_24, h⟩ := h
      refine r_sub (lv' := [(0, .ref a0), (1, .int x1), (2, .int x2), (3, .int x3), (4, .int x4), (5, .int x5), (6, .int (1 : Int32)), (7, .int (0 : Int32))]) [2, 3, 4, 5, 6, 7, 1, 0] rfl ?_
      refine B_X0_alone_104 C hE n_24 M (1 : Int32) (0 : Int32) k_a0 h (fun M_25 x6_27 m_26 h => ?_)
      refine r_sub (lv' := [(0, .ref a0), (1, .int x1), (2, .int x2), (3, .int x3), (4, .int x4), (5, .int x5), (6, .int x6_27)]) [0, 1, 2, 3, 4, 5, 6] rfl ?_
      exact B_X0_alone_152 C hE (mMo.kd m_26 k_a0 (by decide)) h (fun M8 v0 v1 v2 hm8 g0 h8 => ih M8 v0 v1 v2 g0 h8 (fun M9 w0 w1 hm9 h9 => hX182 M9 w0 w1 (mMo.tr (mMo.tr m_26 hm8) hm9) h9)) (fun M9 w0 w1 hm9 h9 => hX182 M9 w0 w1 (mMo.tr m_26 hm9) h9)
set_option maxHeartbeats 4000000 in
theorem B_X0_alone_38 {E : mE} {a0 : Nat} {x1 : Int32} {x3 : Int32} {X65 : MM → Int32 → Prop} {Post : Int32 → MM → Prop} (C : mC E yX0_alone cX0_alone 8 ((some .int)) { frames := 205, cells := 0, slots := 0, locals := 5522 }) (hE : mEnd E { frames := 205, cells := 0, slots := 0, locals := 5522 } (pI_ Post)) : ∀ (n_ : Nat) (M : MM) (x4 : Int32) (x5 : Int32), mkd M a0 = 1 → wl_X0_alone_38 a0 x1 x3 X65 n_ M x4 x5 → (∀ (M' : MM) (x4' : Int32), mMo M M' → X65 M' x4' → mV E M' 0 0 65 [(0, .ref a0), (1, .int x1), (3, .int x3), (4, .int x4')] []) → mV E M 0 0 38 [(0, .ref a0), (1, .int x1), (3, .int x3), (4, .int x4), (5, .int x5)] [] := by
  intro n_
  induction n_ with
  | zero =>
    intro M x4 x5 k_a0 h hX65
    exact absurd h (by rw [wl_X0_alone_38]; exact fun q => q)
  | succ n_ ih =>
    intro M x4 x5 k_a0 h hX65
    rw [wl_X0_alone_38] at h
    refine r_iload C dX0_alone_38 (pc' := 40) rfl (j := 4) rfl ?_
    refine r_iload_n C dX0_alone_40 (pc' := 41) rfl (j := 1) rfl ?_
    refine r_icmp_ge C dX0_alone_41 (pc' := 44) rfl (tgt := 65) (by decide) (fun c_47 => ?_) (fun c_47 => ?_)
    · have h := it_t h c_47
      refine r_sub (lv' := [(0, .ref a0), (1, .int x1), (3, .int x3), (4, .int x4)]) [0, 1, 2, 3] rfl ?_
      exact hX65 M x4 mMo.rf h
    · have h := it_f h c_47
      refine r_iload C dX0_alone_44 (pc' := 46) rfl (j := 3) rfl ?_
      refine r_if_eq C dX0_alone_46 (pc' := 49) rfl (tgt := 65) (by decide) (fun c_48 => ?_) (fun c_48 => ?_)
      · have h := it_t h c_48
        refine r_sub (lv' := [(0, .ref a0), (1, .int x1), (3, .int x3), (4, .int x4)]) [0, 1, 2, 3] rfl ?_
        exact hX65 M x4 mMo.rf h
      · have h := it_f h c_48
        refine r_aload_n C dX0_alone_49 (pc' := 50) rfl (j := 0) rfl ?_
        refine r_iload C dX0_alone_50 (pc' := 52) rfl (j := 4) rfl ?_
        refine r_iload_n C dX0_alone_52 (pc' := 53) rfl (j := 1) rfl ?_
        refine r_iload_n C dX0_alone_53 (pc' := 54) rfl (j := 2) rfl ?_
        refine r_callVi (As := [.int x5, .int x1, .int x3]) (rest := []) (Cn := RX0) (T := TX0) C k_a0 (by decide) vc_X0 (S_X0_isWorth k_a0 h) (lw_V q1150 q1152 qs42 q105 q1153) rfl hd_X0_isWorth rfl rfl (Nat.le_of_ble_eq_true rfl) (Nat.le_of_ble_eq_true rfl) (Nat.le_of_ble_eq_true rfl) rfl rfl (Nat.le_of_ble_eq_true rfl) (Nat.le_of_ble_eq_true rfl) dX0_alone_54 (pc' := 57) rfl (fun r_50 M_49 h m_51 => ?_)
        refine r_istore C (lv' := [(4, .int r_50), (0, .ref a0), (1, .int x1), (3, .int x3), (5, .int x5)]) dX0_alone_57 (pc' := 59) rfl r_50 rfl (Nat.le_of_ble_eq_true rfl) rfl ?_
        obtain ⟨x5_52, e_53, h⟩ := bn_ h
        refine r_iinc C (lv' := [(5, .int x5_52), (4, .int r_50), (0, .ref a0), (1, .int x1), (3, .int x3)]) dX0_alone_59 (pc' := 62) rfl (j := 4) rfl x5_52 (by rw [e_53]; rfl) (Nat.le_of_ble_eq_true rfl) rfl ?_
        refine r_goto C dX0_alone_62 (tgt := 38) (by decide) ?_
        refine r_sub (lv' := [(0, .ref a0), (1, .int x1), (3, .int x3), (4, .int r_50), (5, .int x5_52)]) [2, 3, 4, 1, 0] rfl ?_
        exact ih M_49 r_50 x5_52 (mMo.kd m_51 k_a0 (by decide)) h (fun M9 w0 hm9 h9 => hX65 M9 w0 (mMo.tr m_51 hm9) h9)
set_option maxHeartbeats 4000000 in
theorem B_X0_alone_65 {E : mE} {M : MM} {a0 : Nat} {x1 : Int32} {x3 : Int32} {x4 : Int32} {R : MM → Int32 → Prop} {X70 : MM → Int32 → Prop} {X78 : MM → Prop} {Post : Int32 → MM → Prop} (C : mC E yX0_alone cX0_alone 8 ((some .int)) { frames := 205, cells := 0, slots := 0, locals := 5522 }) (hE : mEnd E { frames := 205, cells := 0, slots := 0, locals := 5522 } (pI_ Post)) (k_a0 : mkd M a0 = 1) (h : wb_X0_alone_65 M a0 x1 x3 x4 R X70 X78) (hR : ∀ (M' : MM) (x3' : Int32), mMo M M' → mkd M' a0 = 1 → R M' x3' → mV E M' 0 0 28 [(0, .ref a0), (1, .int x1), (3, .int x3')] []) (hX70 : ∀ (M' : MM) (x3' : Int32), mMo M M' → X70 M' x3' → mV E M' 0 0 70 [(3, .int x3')] []) (hX78 : ∀ (M' : MM), mMo M M' → X78 M' → mV E M' 0 0 78 [] []) : mV E M 0 0 65 [(0, .ref a0), (1, .int x1), (3, .int x3), (4, .int x4)] [] := by
  unfold wb_X0_alone_65 at h
  refine r_iload C dX0_alone_65 (pc' := 67) rfl (j := 3) rfl ?_
  refine r_if_eq C dX0_alone_67 (pc' := 70) rfl (tgt := 72) (by decide) (fun c_58 => ?_) (fun c_58 => ?_)
  · have h := it_t h c_58
    obtain ⟨x3_59, e_60, h⟩ := bn_ h
    refine r_iinc C (lv' := [(3, .int x3_59), (0, .ref a0), (1, .int x1), (4, .int x4)]) dX0_alone_72 (pc' := 75) rfl (j := 2) rfl x3_59 (by rw [e_60]; rfl) (Nat.le_of_ble_eq_true rfl) rfl ?_
    refine r_goto C dX0_alone_75 (tgt := 28) (by decide) ?_
    refine r_sub (lv' := [(0, .ref a0), (1, .int x1), (3, .int x3_59)]) [1, 2, 0] rfl ?_
    exact hR M x3_59 mMo.rf k_a0 h
  · have h := it_f h c_58
    refine r_sub (lv' := [(3, .int x3)]) [2] rfl ?_
    exact hX70 M x3 mMo.rf h
set_option maxHeartbeats 4000000 in
theorem B_X0_alone_28 {E : mE} {a0 : Nat} {x1 : Int32} {X70 : MM → Int32 → Prop} {X78 : MM → Prop} {Post : Int32 → MM → Prop} (C : mC E yX0_alone cX0_alone 8 ((some .int)) { frames := 205, cells := 0, slots := 0, locals := 5522 }) (hE : mEnd E { frames := 205, cells := 0, slots := 0, locals := 5522 } (pI_ Post)) : ∀ (n_ : Nat) (M : MM) (x3 : Int32), mkd M a0 = 1 → wl_X0_alone_28 a0 x1 X70 X78 n_ M x3 → (∀ (M' : MM) (x3' : Int32), mMo M M' → X70 M' x3' → mV E M' 0 0 70 [(3, .int x3')] []) → (∀ (M' : MM), mMo M M' → X78 M' → mV E M' 0 0 78 [] []) → mV E M 0 0 28 [(0, .ref a0), (1, .int x1), (3, .int x3)] [] := by
  intro n_
  induction n_ with
  | zero =>
    intro M x3 k_a0 h hX70 hX78
    exact absurd h (by rw [wl_X0_alone_28]; exact fun q => q)
  | succ n_ ih =>
    intro M x3 k_a0 h hX70 hX78
    rw [wl_X0_alone_28] at h
    refine r_iload_n C dX0_alone_28 (pc' := 29) rfl (j := 2) rfl ?_
    refine r_if_lt C dX0_alone_29 (pc' := 32) rfl (tgt := 78) (by decide) (fun c_46 => ?_) (fun c_46 => ?_)
    · have h := it_t h c_46
      refine r_sub (lv' := []) [] rfl ?_
      exact hX78 M mMo.rf h
    · have h := it_f h c_46
      refine r_iconst C dX0_alone_32 (pc' := 33) rfl (v := 1) rfl ?_
      refine r_istore C (lv' := [(4, .int (1 : Int32)), (0, .ref a0), (1, .int x1), (3, .int x3)]) dX0_alone_33 (pc' := 35) rfl (1 : Int32) rfl (Nat.le_of_ble_eq_true rfl) rfl ?_
      refine r_iconst C dX0_alone_35 (pc' := 36) rfl (v := 0) rfl ?_
      refine r_istore C (lv' := [(5, .int (0 : Int32)), (4, .int (1 : Int32)), (0, .ref a0), (1, .int x1), (3, .int x3)]) dX0_alone_36 (pc' := 38) rfl (0 : Int32) rfl (Nat.le_of_ble_eq_true rfl) rfl ?_
      obtain ⟨n_54, h⟩ := h
      refine r_sub (lv' := [(0, .ref a0), (1, .int x1), (3, .int x3), (4, .int (1 : Int32)), (5, .int (0 : Int32))]) [2, 3, 4, 1, 0] rfl ?_
      refine B_X0_alone_38 C hE n_54 M (1 : Int32) (0 : Int32) k_a0 h (fun M_55 x4_57 m_56 h => ?_)
      refine r_sub (lv' := [(0, .ref a0), (1, .int x1), (3, .int x3), (4, .int x4_57)]) [0, 1, 2, 3] rfl ?_
      exact B_X0_alone_65 C hE (mMo.kd m_56 k_a0 (by decide)) h (fun M8 v0 hm8 g0 h8 => ih M8 v0 g0 h8 (fun M9 w0 hm9 h9 => hX70 M9 w0 (mMo.tr (mMo.tr m_56 hm8) hm9) h9) (fun M9 hm9 h9 => hX78 M9 (mMo.tr (mMo.tr m_56 hm8) hm9) h9)) (fun M9 w0 hm9 h9 => hX70 M9 w0 (mMo.tr m_56 hm9) h9) (fun M9 hm9 h9 => hX78 M9 (mMo.tr m_56 hm9) h9)
set_option maxHeartbeats 4000000 in
theorem S_X0_alone {D : DD} {l : Launch} {M : MM} {a0 : Nat} {x1 : Int32} {x2 : Int32} {Post : Int32 → MM → Prop} (k_a0 : mkd M a0 = 1) (h : wp_X0_alone M a0 x1 x2 Post) : mMet D l yX0_alone cX0_alone 8 ((some .int)) { frames := 205, cells := 0, slots := 0, locals := 5522 } M [.ref a0, .int x1, .int x2] (pI_ Post) := by
  refine m_of2 [(0, .ref a0), (1, .int x1), (2, .int x2)] (by decide +kernel) (Nat.le_of_ble_eq_true rfl) rfl (fun E hED hEl C hE => ?_)
  subst hED
  subst hEl
  unfold wp_X0_alone at h
  refine r_iload_n C dX0_alone_0 (pc' := 1) rfl (j := 1) rfl ?_
  refine r_iconst C dX0_alone_1 (pc' := 2) rfl (v := 2) rfl ?_
  refine r_bipush C dX0_alone_2 (pc' := 4) rfl (v := 6) rfl ?_
  refine r_callSi (As := [.int x1, .int (2 : Int32), .int (6 : Int32)]) (rest := []) C (S_X0_within h) (lw_S q462 q463 q105 q464) hd_X0_within rfl rfl (Nat.le_of_ble_eq_true rfl) (Nat.le_of_ble_eq_true rfl) (Nat.le_of_ble_eq_true rfl) rfl rfl (Nat.le_of_ble_eq_true rfl) (Nat.le_of_ble_eq_true rfl) dX0_alone_4 (pc' := 7) rfl (fun r_2 M_1 h m_3 => ?_)
  refine r_if_eq C dX0_alone_7 (pc' := 10) rfl (tgt := 18) (by decide) (fun c_4 => ?_) (fun c_4 => ?_)
  · have h := it_t h c_4
    refine r_iconst C dX0_alone_18 (pc' := 19) rfl (v := -1) rfl ?_
    exact r_iret C hE (Nat.le_of_ble_eq_true rfl) (Nat.le_of_ble_eq_true rfl) dX0_alone_19 ⟨_, rfl, h⟩
  · have h := it_f h c_4
    refine r_iload_n C dX0_alone_10 (pc' := 11) rfl (j := 2) rfl ?_
    refine r_iconst C dX0_alone_11 (pc' := 12) rfl (v := 3) rfl ?_
    refine r_callSi (As := [.int x2, .int (3 : Int32)]) (rest := []) C (S_X0_in h) (lw_S q459 q460 q105 q461) hd_X0_in rfl rfl (Nat.le_of_ble_eq_true rfl) (Nat.le_of_ble_eq_true rfl) (Nat.le_of_ble_eq_true rfl) rfl rfl (Nat.le_of_ble_eq_true rfl) (Nat.le_of_ble_eq_true rfl) dX0_alone_12 (pc' := 15) rfl (fun r_6 M_5 h m_7 => ?_)
    refine r_if_ne C dX0_alone_15 (pc' := 18) rfl (tgt := 20) (by decide) (fun c_8 => ?_) (fun c_8 => ?_)
    · have h := it_f h c_8
      refine r_iload_n C dX0_alone_20 (pc' := 21) rfl (j := 2) rfl ?_
      refine r_iconst C dX0_alone_21 (pc' := 22) rfl (v := 2) rfl ?_
      refine r_icmp_ne C dX0_alone_22 (pc' := 25) rfl (tgt := 81) (by decide) (fun c_9 => ?_) (fun c_9 => ?_)
      · have h := it_f h c_9
        refine r_iconst C dX0_alone_81 (pc' := 82) rfl (v := 0) rfl ?_
        refine r_istore_n C (lv' := [(3, .int (0 : Int32)), (0, .ref a0), (1, .int x1), (2, .int x2)]) dX0_alone_82 (pc' := 83) rfl rfl (0 : Int32) rfl (Nat.le_of_ble_eq_true rfl) rfl ?_
        refine r_bipush C dX0_alone_83 (pc' := 85) rfl (v := -2) rfl ?_
        refine r_istore C (lv' := [(4, .int (-2 : Int32)), (3, .int (0 : Int32)), (0, .ref a0), (1, .int x1), (2, .int x2)]) dX0_alone_85 (pc' := 87) rfl (-2 : Int32) rfl (Nat.le_of_ble_eq_true rfl) rfl ?_
        refine r_iconst C dX0_alone_87 (pc' := 88) rfl (v := 0) rfl ?_
        refine r_istore C (lv' := [(5, .int (0 : Int32)), (4, .int (-2 : Int32)), (3, .int (0 : Int32)), (0, .ref a0), (1, .int x1), (2, .int x2)]) dX0_alone_88 (pc' := 90) rfl (0 : Int32) rfl (Nat.le_of_ble_eq_true rfl) rfl ?_
        obtain ⟨n_40, h⟩ := h
        refine r_sub (lv' := [(0, .ref a0), (1, .int x1), (2, .int x2), (3, .int (0 : Int32)), (4, .int (-2 : Int32)), (5, .int (0 : Int32))]) [3, 4, 5, 2, 1, 0] rfl ?_
        refine B_X0_alone_90 C hE n_40 M_5 (0 : Int32) (-2 : Int32) (0 : Int32) (mMo.kd m_7 (mMo.kd m_3 k_a0 (by decide)) (by decide)) h (fun M_41 x3_43 x4_44 m_42 h => ?_)
        refine r_iload_n C dX0_alone_182 (pc' := 183) rfl (j := 0) rfl ?_
        refine r_if_ne C dX0_alone_183 (pc' := 186) rfl (tgt := 190) (by decide) (fun c_45 => ?_) (fun c_45 => ?_)
        · have h := it_f h c_45
          refine r_iload C dX0_alone_190 (pc' := 192) rfl (j := 2) rfl ?_
          exact r_iret C hE (Nat.le_of_ble_eq_true rfl) (Nat.le_of_ble_eq_true rfl) dX0_alone_192 ⟨_, rfl, h⟩
        · have h := it_t h c_45
          refine r_iload_n C dX0_alone_186 (pc' := 187) rfl (j := 1) rfl ?_
          refine r_goto C dX0_alone_187 (tgt := 192) (by decide) ?_
          exact r_iret C hE (Nat.le_of_ble_eq_true rfl) (Nat.le_of_ble_eq_true rfl) dX0_alone_192 ⟨_, rfl, h⟩
      · have h := it_t h c_9
        refine r_bipush C dX0_alone_25 (pc' := 27) rfl (v := 10) rfl ?_
        refine r_istore_n C (lv' := [(3, .int (10 : Int32)), (0, .ref a0), (1, .int x1), (2, .int x2)]) dX0_alone_27 (pc' := 28) rfl rfl (10 : Int32) rfl (Nat.le_of_ble_eq_true rfl) rfl ?_
        obtain ⟨n_61, h⟩ := h
        refine r_sub (lv' := [(0, .ref a0), (1, .int x1), (3, .int (10 : Int32))]) [1, 2, 0] rfl ?_
        refine B_X0_alone_28 C hE n_61 M_5 (10 : Int32) (mMo.kd m_7 (mMo.kd m_3 k_a0 (by decide)) (by decide)) h (fun M_62 x3_64 m_63 h => ?_) (fun M_65 m_66 h => ?_)
        · refine r_iload_n C dX0_alone_70 (pc' := 71) rfl (j := 0) rfl ?_
          exact r_iret C hE (Nat.le_of_ble_eq_true rfl) (Nat.le_of_ble_eq_true rfl) dX0_alone_71 ⟨_, rfl, h⟩
        · refine r_bipush C dX0_alone_78 (pc' := 80) rfl (v := -2) rfl ?_
          exact r_iret C hE (Nat.le_of_ble_eq_true rfl) (Nat.le_of_ble_eq_true rfl) dX0_alone_80 ⟨_, rfl, h⟩
    · have h := it_t h c_8
      refine r_iconst C dX0_alone_18 (pc' := 19) rfl (v := -1) rfl ?_
      exact r_iret C hE (Nat.le_of_ble_eq_true rfl) (Nat.le_of_ble_eq_true rfl) dX0_alone_19 ⟨_, rfl, h⟩
set_option maxHeartbeats 4000000 in
theorem S_X0_fits {D : DD} {l : Launch} {M : MM} {a0 : Nat} {x1 : Int32} {x2 : Int32} {x3 : Int32} {x4 : Int32} {Post : Int32 → MM → Prop} (k_a0 : mkd M a0 = 1) (h : wp_X0_fits M a0 x1 x2 x3 x4 Post) : mMet D l yX0_fits cX0_fits 5 ((some .boolean)) { frames := 1, cells := 0, slots := 0, locals := 20 } M [.ref a0, .int x1, .int x2, .int x3, .int x4] (pI_ Post) := by
  refine m_of2 [(0, .ref a0), (1, .int x1), (2, .int x2), (3, .int x3), (4, .int x4)] (by decide +kernel) (Nat.le_of_ble_eq_true rfl) rfl (fun E hED hEl C hE => ?_)
  subst hED
  subst hEl
  unfold wp_X0_fits at h
  refine r_iconst C dX0_fits_0 (pc' := 1) rfl (v := 0) rfl ?_
  refine r_aload_n C dX0_fits_1 (pc' := 2) rfl (j := 0) rfl ?_
  refine r_getf C (Cn := RX0) (T := TX0) 4 k_a0 (by decide) vc_X0 in_X0 (by decide) q356 dX0_fits_2 (pc' := 5) rfl (v := va_rf (mgR M a0 4)) rfl ?_
  obtain ⟨b_1, e_2, k_3, h⟩ := h
  refine r_ref [] e_2 ?_
  refine r_iload_n C dX0_fits_5 (pc' := 6) rfl (j := 1) rfl ?_
  obtain ⟨c_4, h⟩ := h
  refine r_bald C (j := (ix_ x1)) k_3 c_4 rfl dX0_fits_6 (pc' := 7) rfl ?_
  refine r_sipush C dX0_fits_7 (pc' := 10) rfl (v := 255) rfl ?_
  refine r_iand C dX0_fits_10 (pc' := 11) rfl ?_
  refine r_iload_n C dX0_fits_11 (pc' := 12) rfl (j := 3) rfl ?_
  refine r_iload_n C dX0_fits_12 (pc' := 13) rfl (j := 2) rfl ?_
  refine r_callSi (As := [.int x2]) (rest := [.int x3, .int ((mgI M b_1 (ix_ x1)) &&& (255 : Int32)), .int (0 : Int32)]) C (S_J6_bitCount h) (lw_S q924 q925 q128 q926) hd_J6_bitCount rfl rfl (Nat.le_of_ble_eq_true rfl) (Nat.le_of_ble_eq_true rfl) (Nat.le_of_ble_eq_true rfl) rfl rfl (Nat.le_of_ble_eq_true rfl) (Nat.le_of_ble_eq_true rfl) dX0_fits_13 (pc' := 16) rfl (fun r_6 M_5 h m_7 => ?_)
  refine r_imul C dX0_fits_16 (pc' := 17) rfl ?_
  refine r_iadd C dX0_fits_17 (pc' := 18) rfl ?_
  refine r_iload C dX0_fits_18 (pc' := 20) rfl (j := 4) rfl ?_
  refine r_isub C dX0_fits_20 (pc' := 21) rfl ?_
  refine r_mmax C q886 q490 q113 q491 (Nat.le_of_ble_eq_true rfl) (Nat.le_of_ble_eq_true rfl) (Nat.le_of_ble_eq_true rfl) (Nat.le_of_ble_eq_true rfl) dX0_fits_21 (pc' := 24) rfl ?_
  refine r_aload_n C dX0_fits_24 (pc' := 25) rfl (j := 0) rfl ?_
  refine r_getf C (Cn := RX0) (T := TX0) 4 (mMo.kd m_7 k_a0 (by decide)) (by decide) vc_X0 in_X0 (by decide) q356 dX0_fits_25 (pc' := 28) rfl (v := va_rf (mgR M_5 a0 4)) rfl ?_
  obtain ⟨b_8, e_9, k_10, h⟩ := h
  refine r_ref [] e_9 ?_
  refine r_iload_n C dX0_fits_28 (pc' := 29) rfl (j := 1) rfl ?_
  refine r_iconst C dX0_fits_29 (pc' := 30) rfl (v := 1) rfl ?_
  refine r_iadd C dX0_fits_30 (pc' := 31) rfl ?_
  obtain ⟨c_11, h⟩ := h
  refine r_bald C (j := (ix_ (x1 + (1 : Int32)))) k_10 c_11 rfl dX0_fits_31 (pc' := 32) rfl ?_
  refine r_sipush C dX0_fits_32 (pc' := 35) rfl (v := 255) rfl ?_
  refine r_iand C dX0_fits_35 (pc' := 36) rfl ?_
  refine r_icmp_ne C dX0_fits_36 (pc' := 39) rfl (tgt := 43) (by decide) (fun c_12 => ?_) (fun c_12 => ?_)
  · have h := it_f h c_12
    refine r_iconst C dX0_fits_43 (pc' := 44) rfl (v := 0) rfl ?_
    exact r_zret C hE (Or.inl rfl) (Nat.le_of_ble_eq_true rfl) (Nat.le_of_ble_eq_true rfl) dX0_fits_44 ⟨_, rfl, h⟩
  · have h := it_t h c_12
    refine r_iconst C dX0_fits_39 (pc' := 40) rfl (v := 1) rfl ?_
    refine r_goto C dX0_fits_40 (tgt := 44) (by decide) ?_
    exact r_zret C hE (Or.inr rfl) (Nat.le_of_ble_eq_true rfl) (Nat.le_of_ble_eq_true rfl) dX0_fits_44 ⟨_, rfl, h⟩
set_option maxHeartbeats 4000000 in
theorem B_X0_setsFor_35 {E : mE} {M : MM} {a0 : Nat} {x1 : Int32} {x2 : Int32} {x3 : Int32} {x4 : Int32} {x5 : Int32} {x6 : Int32} {x7 : Int32} {R : MM → Int32 → Int32 → Prop} {X58 : MM → Int32 → Prop} {Post : Int32 → MM → Prop} (C : mC E yX0_setsFor cX0_setsFor 8 ((some .int)) { frames := 2, cells := 0, slots := 0, locals := 44 }) (hE : mEnd E { frames := 2, cells := 0, slots := 0, locals := 44 } (pI_ Post)) (k_a0 : mkd M a0 = 1) (h : wb_X0_setsFor_35 M a0 x1 x2 x3 x4 x5 x6 x7 R X58) (hR : ∀ (M' : MM) (x6' : Int32) (x7' : Int32), mMo M M' → mkd M' a0 = 1 → R M' x6' x7' → mV E M' 0 0 6 [(0, .ref a0), (1, .int x1), (2, .int x2), (3, .int x3), (4, .int x4), (5, .int x5), (6, .int x6'), (7, .int x7')] []) (hX58 : ∀ (M' : MM) (x6' : Int32), mMo M M' → X58 M' x6' → mV E M' 0 0 58 [(6, .int x6')] []) : mV E M 0 0 35 [(0, .ref a0), (1, .int x1), (2, .int x2), (3, .int x3), (4, .int x4), (5, .int x5), (6, .int x6), (7, .int x7)] [] := by
  unfold wb_X0_setsFor_35 at h
  refine r_aload_n C dX0_setsFor_35 (pc' := 36) rfl (j := 0) rfl ?_
  refine r_iload_n C dX0_setsFor_36 (pc' := 37) rfl (j := 1) rfl ?_
  refine r_iload C dX0_setsFor_37 (pc' := 39) rfl (j := 7) rfl ?_
  refine r_iload C dX0_setsFor_39 (pc' := 41) rfl (j := 4) rfl ?_
  refine r_iload C dX0_setsFor_41 (pc' := 43) rfl (j := 5) rfl ?_
  refine r_callVi (As := [.int x1, .int x7, .int x4, .int x5]) (rest := []) (Cn := RX0) (T := TX0) C k_a0 (by decide) vc_X0 (S_X0_fits k_a0 h) (lw_V q1177 q1179 qs47 q105 q1180) rfl hd_X0_fits rfl rfl (Nat.le_of_ble_eq_true rfl) (Nat.le_of_ble_eq_true rfl) (Nat.le_of_ble_eq_true rfl) rfl rfl (Nat.le_of_ble_eq_true rfl) (Nat.le_of_ble_eq_true rfl) dX0_setsFor_43 (pc' := 46) rfl (fun r_7 M_6 h m_8 => ?_)
  refine r_if_eq C dX0_setsFor_46 (pc' := 49) rfl (tgt := 52) (by decide) (fun c_9 => ?_) (fun c_9 => ?_)
  · have h := it_t h c_9
    obtain ⟨x7_10, e_11, h⟩ := bn_ h
    refine r_iinc C (lv' := [(7, .int x7_10), (0, .ref a0), (1, .int x1), (2, .int x2), (3, .int x3), (4, .int x4), (5, .int x5), (6, .int x6)]) dX0_setsFor_52 (pc' := 55) rfl (j := 7) rfl x7_10 (by rw [e_11]; rfl) (Nat.le_of_ble_eq_true rfl) rfl ?_
    refine r_goto C dX0_setsFor_55 (tgt := 6) (by decide) ?_
    refine r_sub (lv' := [(0, .ref a0), (1, .int x1), (2, .int x2), (3, .int x3), (4, .int x4), (5, .int x5), (6, .int x6), (7, .int x7_10)]) [1, 2, 3, 4, 5, 6, 7, 0] rfl ?_
    exact hR M_6 x6 x7_10 m_8 (mMo.kd m_8 k_a0 (by decide)) h
  · have h := it_f h c_9
    obtain ⟨x6_12, e_13, h⟩ := bn_ h
    refine r_iinc C (lv' := [(6, .int x6_12), (0, .ref a0), (1, .int x1), (2, .int x2), (3, .int x3), (4, .int x4), (5, .int x5), (7, .int x7)]) dX0_setsFor_49 (pc' := 52) rfl (j := 6) rfl x6_12 (by rw [e_13]; rfl) (Nat.le_of_ble_eq_true rfl) rfl ?_
    obtain ⟨x7_14, e_15, h⟩ := bn_ h
    refine r_iinc C (lv' := [(7, .int x7_14), (6, .int x6_12), (0, .ref a0), (1, .int x1), (2, .int x2), (3, .int x3), (4, .int x4), (5, .int x5)]) dX0_setsFor_52 (pc' := 55) rfl (j := 7) rfl x7_14 (by rw [e_15]; rfl) (Nat.le_of_ble_eq_true rfl) rfl ?_
    refine r_goto C dX0_setsFor_55 (tgt := 6) (by decide) ?_
    refine r_sub (lv' := [(0, .ref a0), (1, .int x1), (2, .int x2), (3, .int x3), (4, .int x4), (5, .int x5), (6, .int x6_12), (7, .int x7_14)]) [2, 3, 4, 5, 6, 7, 1, 0] rfl ?_
    exact hR M_6 x6_12 x7_14 m_8 (mMo.kd m_8 k_a0 (by decide)) h
set_option maxHeartbeats 4000000 in
theorem B_X0_setsFor_6 {E : mE} {a0 : Nat} {x1 : Int32} {x2 : Int32} {x3 : Int32} {x4 : Int32} {x5 : Int32} {X58 : MM → Int32 → Prop} {Post : Int32 → MM → Prop} (C : mC E yX0_setsFor cX0_setsFor 8 ((some .int)) { frames := 2, cells := 0, slots := 0, locals := 44 }) (hE : mEnd E { frames := 2, cells := 0, slots := 0, locals := 44 } (pI_ Post)) : ∀ (n_ : Nat) (M : MM) (x6 : Int32) (x7 : Int32), mkd M a0 = 1 → wl_X0_setsFor_6 a0 x1 x2 x3 x4 x5 X58 n_ M x6 x7 → (∀ (M' : MM) (x6' : Int32), mMo M M' → X58 M' x6' → mV E M' 0 0 58 [(6, .int x6')] []) → mV E M 0 0 6 [(0, .ref a0), (1, .int x1), (2, .int x2), (3, .int x3), (4, .int x4), (5, .int x5), (6, .int x6), (7, .int x7)] [] := by
  intro n_
  induction n_ with
  | zero =>
    intro M x6 x7 k_a0 h hX58
    exact absurd h (by rw [wl_X0_setsFor_6]; exact fun q => q)
  | succ n_ ih =>
    intro M x6 x7 k_a0 h hX58
    rw [wl_X0_setsFor_6] at h
    refine r_iload C dX0_setsFor_6 (pc' := 8) rfl (j := 7) rfl ?_
    refine r_iload_n C dX0_setsFor_8 (pc' := 9) rfl (j := 2) rfl ?_
    refine r_icmp_gt C dX0_setsFor_9 (pc' := 12) rfl (tgt := 58) (by decide) (fun c_1 => ?_) (fun c_1 => ?_)
    · have h := it_t h c_1
      refine r_sub (lv' := [(6, .int x6)]) [6] rfl ?_
      exact hX58 M x6 mMo.rf h
    · have h := it_f h c_1
      refine r_iload C dX0_setsFor_12 (pc' := 14) rfl (j := 7) rfl ?_
      refine r_iload_n C dX0_setsFor_14 (pc' := 15) rfl (j := 2) rfl ?_
      refine r_iconst C dX0_setsFor_15 (pc' := 16) rfl (v := -1) rfl ?_
      refine r_ixor C dX0_setsFor_16 (pc' := 17) rfl ?_
      refine r_iand C dX0_setsFor_17 (pc' := 18) rfl ?_
      refine r_if_ne C dX0_setsFor_18 (pc' := 21) rfl (tgt := 52) (by decide) (fun c_2 => ?_) (fun c_2 => ?_)
      · have h := it_f h c_2
        obtain ⟨x7_3, e_4, h⟩ := bn_ h
        refine r_iinc C (lv' := [(7, .int x7_3), (0, .ref a0), (1, .int x1), (2, .int x2), (3, .int x3), (4, .int x4), (5, .int x5), (6, .int x6)]) dX0_setsFor_52 (pc' := 55) rfl (j := 7) rfl x7_3 (by rw [e_4]; rfl) (Nat.le_of_ble_eq_true rfl) rfl ?_
        refine r_goto C dX0_setsFor_55 (tgt := 6) (by decide) ?_
        refine r_sub (lv' := [(0, .ref a0), (1, .int x1), (2, .int x2), (3, .int x3), (4, .int x4), (5, .int x5), (6, .int x6), (7, .int x7_3)]) [1, 2, 3, 4, 5, 6, 7, 0] rfl ?_
        exact ih M x6 x7_3 k_a0 h (fun M9 w0 hm9 h9 => hX58 M9 w0 hm9 h9)
      · have h := it_t h c_2
        refine r_iload_n C dX0_setsFor_21 (pc' := 22) rfl (j := 3) rfl ?_
        refine r_iconst C dX0_setsFor_22 (pc' := 23) rfl (v := -1) rfl ?_
        refine r_icmp_eq C dX0_setsFor_23 (pc' := 26) rfl (tgt := 35) (by decide) (fun c_5 => ?_) (fun c_5 => ?_)
        · have h := it_t h c_5
          refine r_sub (lv' := [(0, .ref a0), (1, .int x1), (2, .int x2), (3, .int x3), (4, .int x4), (5, .int x5), (6, .int x6), (7, .int x7)]) [0, 1, 2, 3, 4, 5, 6, 7] rfl ?_
          exact B_X0_setsFor_35 C hE k_a0 h (fun M8 v0 v1 hm8 g0 h8 => ih M8 v0 v1 g0 h8 (fun M9 w0 hm9 h9 => hX58 M9 w0 (mMo.tr hm8 hm9) h9)) (fun M9 w0 hm9 h9 => hX58 M9 w0 hm9 h9)
        · have h := it_f h c_5
          refine r_iload C dX0_setsFor_26 (pc' := 28) rfl (j := 7) rfl ?_
          refine r_iload_n C dX0_setsFor_28 (pc' := 29) rfl (j := 3) rfl ?_
          refine r_callSi (As := [.int x7, .int x3]) (rest := []) C (S_X0_has h) (lw_S q1166 q1167 q105 q1168) hd_X0_has rfl rfl (Nat.le_of_ble_eq_true rfl) (Nat.le_of_ble_eq_true rfl) (Nat.le_of_ble_eq_true rfl) rfl rfl (Nat.le_of_ble_eq_true rfl) (Nat.le_of_ble_eq_true rfl) dX0_setsFor_29 (pc' := 32) rfl (fun r_17 M_16 h m_18 => ?_)
          refine r_if_ne C dX0_setsFor_32 (pc' := 35) rfl (tgt := 52) (by decide) (fun c_19 => ?_) (fun c_19 => ?_)
          · have h := it_f h c_19
            obtain ⟨x7_20, e_21, h⟩ := bn_ h
            refine r_iinc C (lv' := [(7, .int x7_20), (0, .ref a0), (1, .int x1), (2, .int x2), (3, .int x3), (4, .int x4), (5, .int x5), (6, .int x6)]) dX0_setsFor_52 (pc' := 55) rfl (j := 7) rfl x7_20 (by rw [e_21]; rfl) (Nat.le_of_ble_eq_true rfl) rfl ?_
            refine r_goto C dX0_setsFor_55 (tgt := 6) (by decide) ?_
            refine r_sub (lv' := [(0, .ref a0), (1, .int x1), (2, .int x2), (3, .int x3), (4, .int x4), (5, .int x5), (6, .int x6), (7, .int x7_20)]) [1, 2, 3, 4, 5, 6, 7, 0] rfl ?_
            exact ih M_16 x6 x7_20 (mMo.kd m_18 k_a0 (by decide)) h (fun M9 w0 hm9 h9 => hX58 M9 w0 (mMo.tr m_18 hm9) h9)
          · have h := it_t h c_19
            refine r_sub (lv' := [(0, .ref a0), (1, .int x1), (2, .int x2), (3, .int x3), (4, .int x4), (5, .int x5), (6, .int x6), (7, .int x7)]) [0, 1, 2, 3, 4, 5, 6, 7] rfl ?_
            exact B_X0_setsFor_35 C hE (mMo.kd m_18 k_a0 (by decide)) h (fun M8 v0 v1 hm8 g0 h8 => ih M8 v0 v1 g0 h8 (fun M9 w0 hm9 h9 => hX58 M9 w0 (mMo.tr (mMo.tr m_18 hm8) hm9) h9)) (fun M9 w0 hm9 h9 => hX58 M9 w0 (mMo.tr m_18 hm9) h9)
set_option maxHeartbeats 4000000 in
theorem S_X0_setsFor {D : DD} {l : Launch} {M : MM} {a0 : Nat} {x1 : Int32} {x2 : Int32} {x3 : Int32} {x4 : Int32} {x5 : Int32} {Post : Int32 → MM → Prop} (k_a0 : mkd M a0 = 1) (h : wp_X0_setsFor M a0 x1 x2 x3 x4 x5 Post) : mMet D l yX0_setsFor cX0_setsFor 8 ((some .int)) { frames := 2, cells := 0, slots := 0, locals := 44 } M [.ref a0, .int x1, .int x2, .int x3, .int x4, .int x5] (pI_ Post) := by
  refine m_of2 [(0, .ref a0), (1, .int x1), (2, .int x2), (3, .int x3), (4, .int x4), (5, .int x5)] (by decide +kernel) (Nat.le_of_ble_eq_true rfl) rfl (fun E hED hEl C hE => ?_)
  subst hED
  subst hEl
  unfold wp_X0_setsFor at h
  refine r_iconst C dX0_setsFor_0 (pc' := 1) rfl (v := 0) rfl ?_
  refine r_istore C (lv' := [(6, .int (0 : Int32)), (0, .ref a0), (1, .int x1), (2, .int x2), (3, .int x3), (4, .int x4), (5, .int x5)]) dX0_setsFor_1 (pc' := 3) rfl (0 : Int32) rfl (Nat.le_of_ble_eq_true rfl) rfl ?_
  refine r_iconst C dX0_setsFor_3 (pc' := 4) rfl (v := 0) rfl ?_
  refine r_istore C (lv' := [(7, .int (0 : Int32)), (6, .int (0 : Int32)), (0, .ref a0), (1, .int x1), (2, .int x2), (3, .int x3), (4, .int x4), (5, .int x5)]) dX0_setsFor_4 (pc' := 6) rfl (0 : Int32) rfl (Nat.le_of_ble_eq_true rfl) rfl ?_
  obtain ⟨n_22, h⟩ := h
  refine r_sub (lv' := [(0, .ref a0), (1, .int x1), (2, .int x2), (3, .int x3), (4, .int x4), (5, .int x5), (6, .int (0 : Int32)), (7, .int (0 : Int32))]) [2, 3, 4, 5, 6, 7, 1, 0] rfl ?_
  refine B_X0_setsFor_6 C hE n_22 M (0 : Int32) (0 : Int32) k_a0 h (fun M_23 x6_25 m_24 h => ?_)
  refine r_iload C dX0_setsFor_58 (pc' := 60) rfl (j := 0) rfl ?_
  exact r_iret C hE (Nat.le_of_ble_eq_true rfl) (Nat.le_of_ble_eq_true rfl) dX0_setsFor_60 ⟨_, rfl, h⟩
set_option maxHeartbeats 4000000 in
theorem B_X0_whoDid_91 {E : mE} {a0 : Nat} {x1 : Int32} {x2 : Int32} {x3 : Int32} {x4 : Int32} {x5 : Int32} {X138 : MM → Int64 → Int32 → Prop} {Post : Int64 → MM → Prop} (C : mC E yX0_whoDid cX0_whoDid 13 ((some .long)) { frames := 3, cells := 0, slots := 0, locals := 71 }) (hE : mEnd E { frames := 3, cells := 0, slots := 0, locals := 71 } (pL_ Post)) : ∀ (n_ : Nat) (M : MM) (x6 : Int64) (x8 : Int32) (x9 : Int32), mkd M a0 = 1 → wl_X0_whoDid_91 a0 x1 x2 x3 x4 x5 X138 n_ M x6 x8 x9 → (∀ (M' : MM) (x6' : Int64) (x8' : Int32), mMo M M' → X138 M' x6' x8' → mV E M' 0 0 138 [(0, .ref a0), (1, .int x1), (2, .int x2), (3, .int x3), (4, .int x4), (5, .int x5), (6, .long x6'), (8, .int x8')] []) → mV E M 0 0 91 [(0, .ref a0), (1, .int x1), (2, .int x2), (3, .int x3), (4, .int x4), (5, .int x5), (6, .long x6), (8, .int x8), (9, .int x9)] [] := by
  intro n_
  induction n_ with
  | zero =>
    intro M x6 x8 x9 k_a0 h hX138
    exact absurd h (by rw [wl_X0_whoDid_91]; exact fun q => q)
  | succ n_ ih =>
    intro M x6 x8 x9 k_a0 h hX138
    rw [wl_X0_whoDid_91] at h
    refine r_iload C dX0_whoDid_91 (pc' := 93) rfl (j := 8) rfl ?_
    refine r_iload_n C dX0_whoDid_93 (pc' := 94) rfl (j := 1) rfl ?_
    refine r_icmp_ge C dX0_whoDid_94 (pc' := 97) rfl (tgt := 138) (by decide) (fun c_31 => ?_) (fun c_31 => ?_)
    · have h := it_t h c_31
      refine r_sub (lv' := [(0, .ref a0), (1, .int x1), (2, .int x2), (3, .int x3), (4, .int x4), (5, .int x5), (6, .long x6), (8, .int x8)]) [0, 1, 2, 3, 4, 5, 6, 7] rfl ?_
      exact hX138 M x6 x8 mMo.rf h
    · have h := it_f h c_31
      refine r_aload_n C dX0_whoDid_97 (pc' := 98) rfl (j := 0) rfl ?_
      refine r_iload C dX0_whoDid_98 (pc' := 100) rfl (j := 8) rfl ?_
      refine r_iload_n C dX0_whoDid_100 (pc' := 101) rfl (j := 2) rfl ?_
      refine r_iconst C dX0_whoDid_101 (pc' := 102) rfl (v := -1) rfl ?_
      refine r_iload_n C dX0_whoDid_102 (pc' := 103) rfl (j := 3) rfl ?_
      refine r_iload C dX0_whoDid_103 (pc' := 105) rfl (j := 4) rfl ?_
      refine r_callVi (As := [.int x9, .int x2, .int (-1 : Int32), .int x3, .int x4]) (rest := []) (Cn := RX0) (T := TX0) C k_a0 (by decide) vc_X0 (S_X0_setsFor k_a0 h) (lw_V q1173 q1175 qs46 q105 q1176) rfl hd_X0_setsFor rfl rfl (Nat.le_of_ble_eq_true rfl) (Nat.le_of_ble_eq_true rfl) (Nat.le_of_ble_eq_true rfl) rfl rfl (Nat.le_of_ble_eq_true rfl) (Nat.le_of_ble_eq_true rfl) dX0_whoDid_105 (pc' := 108) rfl (fun r_33 M_32 h m_34 => ?_)
      refine r_istore C (lv' := [(10, .int r_33), (0, .ref a0), (1, .int x1), (2, .int x2), (3, .int x3), (4, .int x4), (5, .int x5), (6, .long x6), (8, .int x8), (9, .int x9)]) dX0_whoDid_108 (pc' := 110) rfl r_33 rfl (Nat.le_of_ble_eq_true rfl) rfl ?_
      refine r_lload C dX0_whoDid_110 (pc' := 112) rfl (j := 7) rfl ?_
      refine r_iload C dX0_whoDid_112 (pc' := 114) rfl (j := 0) rfl ?_
      refine r_i2l C dX0_whoDid_114 (pc' := 115) rfl ?_
      refine r_lmul C dX0_whoDid_115 (pc' := 116) rfl ?_
      obtain ⟨x6_35, e_36, h⟩ := bn_ h
      refine r_lstore C (lv' := [(6, .long x6_35), (10, .int r_33), (0, .ref a0), (1, .int x1), (2, .int x2), (3, .int x3), (4, .int x4), (5, .int x5), (8, .int x8), (9, .int x9)]) dX0_whoDid_116 (pc' := 118) rfl x6_35 e_36 (Nat.le_of_ble_eq_true rfl) rfl ?_
      refine r_iload C dX0_whoDid_118 (pc' := 120) rfl (j := 1) rfl ?_
      refine r_if_ne C dX0_whoDid_120 (pc' := 123) rfl (tgt := 132) (by decide) (fun c_37 => ?_) (fun c_37 => ?_)
      · have h := it_f h c_37
        obtain ⟨x9_38, e_39, h⟩ := bn_ h
        refine r_iinc C (lv' := [(9, .int x9_38), (6, .long x6_35), (10, .int r_33), (0, .ref a0), (1, .int x1), (2, .int x2), (3, .int x3), (4, .int x4), (5, .int x5), (8, .int x8)]) dX0_whoDid_132 (pc' := 135) rfl (j := 9) rfl x9_38 (by rw [e_39]; rfl) (Nat.le_of_ble_eq_true rfl) rfl ?_
        refine r_goto C dX0_whoDid_135 (tgt := 91) (by decide) ?_
        refine r_sub (lv' := [(0, .ref a0), (1, .int x1), (2, .int x2), (3, .int x3), (4, .int x4), (5, .int x5), (6, .long x6_35), (8, .int x8), (9, .int x9_38)]) [3, 4, 5, 6, 7, 8, 1, 9, 0] rfl ?_
        exact ih M_32 x6_35 x8 x9_38 (mMo.kd m_34 k_a0 (by decide)) h (fun M9 w0 w1 hm9 h9 => hX138 M9 w0 w1 (mMo.tr m_34 hm9) h9)
      · have h := it_t h c_37
        refine r_iload C dX0_whoDid_123 (pc' := 125) rfl (j := 8) rfl ?_
        refine r_if_ge C dX0_whoDid_125 (pc' := 128) rfl (tgt := 132) (by decide) (fun c_40 => ?_) (fun c_40 => ?_)
        · have h := it_t h c_40
          obtain ⟨x9_41, e_42, h⟩ := bn_ h
          refine r_iinc C (lv' := [(9, .int x9_41), (6, .long x6_35), (10, .int r_33), (0, .ref a0), (1, .int x1), (2, .int x2), (3, .int x3), (4, .int x4), (5, .int x5), (8, .int x8)]) dX0_whoDid_132 (pc' := 135) rfl (j := 9) rfl x9_41 (by rw [e_42]; rfl) (Nat.le_of_ble_eq_true rfl) rfl ?_
          refine r_goto C dX0_whoDid_135 (tgt := 91) (by decide) ?_
          refine r_sub (lv' := [(0, .ref a0), (1, .int x1), (2, .int x2), (3, .int x3), (4, .int x4), (5, .int x5), (6, .long x6_35), (8, .int x8), (9, .int x9_41)]) [3, 4, 5, 6, 7, 8, 1, 9, 0] rfl ?_
          exact ih M_32 x6_35 x8 x9_41 (mMo.kd m_34 k_a0 (by decide)) h (fun M9 w0 w1 hm9 h9 => hX138 M9 w0 w1 (mMo.tr m_34 hm9) h9)
        · have h := it_f h c_40
          refine r_iload C dX0_whoDid_128 (pc' := 130) rfl (j := 9) rfl ?_
          refine r_istore C (lv' := [(8, .int x9), (6, .long x6_35), (10, .int r_33), (0, .ref a0), (1, .int x1), (2, .int x2), (3, .int x3), (4, .int x4), (5, .int x5), (9, .int x9)]) dX0_whoDid_130 (pc' := 132) rfl x9 rfl (Nat.le_of_ble_eq_true rfl) rfl ?_
          obtain ⟨x9_43, e_44, h⟩ := bn_ h
          refine r_iinc C (lv' := [(9, .int x9_43), (8, .int x9), (6, .long x6_35), (10, .int r_33), (0, .ref a0), (1, .int x1), (2, .int x2), (3, .int x3), (4, .int x4), (5, .int x5)]) dX0_whoDid_132 (pc' := 135) rfl (j := 9) rfl x9_43 (by rw [e_44]; rfl) (Nat.le_of_ble_eq_true rfl) rfl ?_
          refine r_goto C dX0_whoDid_135 (tgt := 91) (by decide) ?_
          refine r_sub (lv' := [(0, .ref a0), (1, .int x1), (2, .int x2), (3, .int x3), (4, .int x4), (5, .int x5), (6, .long x6_35), (8, .int x9), (9, .int x9_43)]) [4, 5, 6, 7, 8, 9, 2, 1, 0] rfl ?_
          exact ih M_32 x6_35 x9 x9_43 (mMo.kd m_34 k_a0 (by decide)) h (fun M9 w0 w1 hm9 h9 => hX138 M9 w0 w1 (mMo.tr m_34 hm9) h9)
set_option maxHeartbeats 4000000 in
theorem B_X0_whoDid_219 {E : mE} {M : MM} {a0 : Nat} {x1 : Int32} {x2 : Int32} {x3 : Int32} {x4 : Int32} {x6 : Int64} {x9 : Int32} {x10 : Int32} {x12 : Int32} {R : MM → Int32 → Int32 → Prop} {X232 : MM → Int32 → Prop} {Post : Int64 → MM → Prop} (C : mC E yX0_whoDid cX0_whoDid 13 ((some .long)) { frames := 3, cells := 0, slots := 0, locals := 71 }) (hE : mEnd E { frames := 3, cells := 0, slots := 0, locals := 71 } (pL_ Post)) (k_a0 : mkd M a0 = 1) (h : wb_X0_whoDid_219 M a0 x1 x2 x3 x4 x6 x9 x10 x12 R X232) (hR : ∀ (M' : MM) (x11' : Int32) (x12' : Int32), mMo M M' → mkd M' a0 = 1 → R M' x11' x12' → mV E M' 0 0 184 [(0, .ref a0), (1, .int x1), (2, .int x2), (3, .int x3), (4, .int x4), (6, .long x6), (9, .int x9), (10, .int x10), (11, .int x11'), (12, .int x12')] []) (hX232 : ∀ (M' : MM) (x11' : Int32), mMo M M' → X232 M' x11' → mV E M' 0 0 232 [(0, .ref a0), (1, .int x1), (2, .int x2), (3, .int x3), (4, .int x4), (6, .long x6), (9, .int x9), (10, .int x10), (11, .int x11')] []) : mV E M 0 0 219 [(0, .ref a0), (1, .int x1), (2, .int x2), (3, .int x3), (4, .int x4), (6, .long x6), (9, .int x9), (10, .int x10), (12, .int x12)] [] := by
  unfold wb_X0_whoDid_219 at h
  refine r_iconst C dX0_whoDid_219 (pc' := 220) rfl (v := 1) rfl ?_
  refine r_goto C dX0_whoDid_220 (tgt := 224) (by decide) ?_
  refine r_istore C (lv' := [(11, .int (1 : Int32)), (0, .ref a0), (1, .int x1), (2, .int x2), (3, .int x3), (4, .int x4), (6, .long x6), (9, .int x9), (10, .int x10), (12, .int x12)]) dX0_whoDid_224 (pc' := 226) rfl (1 : Int32) rfl (Nat.le_of_ble_eq_true rfl) rfl ?_
  obtain ⟨x12_55, e_56, h⟩ := bn_ h
  refine r_iinc C (lv' := [(12, .int x12_55), (11, .int (1 : Int32)), (0, .ref a0), (1, .int x1), (2, .int x2), (3, .int x3), (4, .int x4), (6, .long x6), (9, .int x9), (10, .int x10)]) dX0_whoDid_226 (pc' := 229) rfl (j := 9) rfl x12_55 (by rw [e_56]; rfl) (Nat.le_of_ble_eq_true rfl) rfl ?_
  refine r_goto C dX0_whoDid_229 (tgt := 184) (by decide) ?_
  refine r_sub (lv' := [(0, .ref a0), (1, .int x1), (2, .int x2), (3, .int x3), (4, .int x4), (6, .long x6), (9, .int x9), (10, .int x10), (11, .int (1 : Int32)), (12, .int x12_55)]) [2, 3, 4, 5, 6, 7, 8, 9, 1, 0] rfl ?_
  exact hR M (1 : Int32) x12_55 mMo.rf k_a0 h
set_option maxHeartbeats 4000000 in
theorem B_X0_whoDid_184 {E : mE} {a0 : Nat} {x1 : Int32} {x2 : Int32} {x3 : Int32} {x4 : Int32} {x6 : Int64} {x9 : Int32} {x10 : Int32} {X232 : MM → Int32 → Prop} {Post : Int64 → MM → Prop} (C : mC E yX0_whoDid cX0_whoDid 13 ((some .long)) { frames := 3, cells := 0, slots := 0, locals := 71 }) (hE : mEnd E { frames := 3, cells := 0, slots := 0, locals := 71 } (pL_ Post)) : ∀ (n_ : Nat) (M : MM) (x11 : Int32) (x12 : Int32), mkd M a0 = 1 → wl_X0_whoDid_184 a0 x1 x2 x3 x4 x6 x9 x10 X232 n_ M x11 x12 → (∀ (M' : MM) (x11' : Int32), mMo M M' → X232 M' x11' → mV E M' 0 0 232 [(0, .ref a0), (1, .int x1), (2, .int x2), (3, .int x3), (4, .int x4), (6, .long x6), (9, .int x9), (10, .int x10), (11, .int x11')] []) → mV E M 0 0 184 [(0, .ref a0), (1, .int x1), (2, .int x2), (3, .int x3), (4, .int x4), (6, .long x6), (9, .int x9), (10, .int x10), (11, .int x11), (12, .int x12)] [] := by
  intro n_
  induction n_ with
  | zero =>
    intro M x11 x12 k_a0 h hX232
    exact absurd h (by rw [wl_X0_whoDid_184]; exact fun q => q)
  | succ n_ ih =>
    intro M x11 x12 k_a0 h hX232
    rw [wl_X0_whoDid_184] at h
    refine r_iload C dX0_whoDid_184 (pc' := 186) rfl (j := 9) rfl ?_
    refine r_iload_n C dX0_whoDid_186 (pc' := 187) rfl (j := 1) rfl ?_
    refine r_icmp_ge C dX0_whoDid_187 (pc' := 190) rfl (tgt := 232) (by decide) (fun c_53 => ?_) (fun c_53 => ?_)
    · have h := it_t h c_53
      refine r_sub (lv' := [(0, .ref a0), (1, .int x1), (2, .int x2), (3, .int x3), (4, .int x4), (6, .long x6), (9, .int x9), (10, .int x10), (11, .int x11)]) [0, 1, 2, 3, 4, 5, 6, 7, 8] rfl ?_
      exact hX232 M x11 mMo.rf h
    · have h := it_f h c_53
      refine r_iload C dX0_whoDid_190 (pc' := 192) rfl (j := 8) rfl ?_
      refine r_if_ne C dX0_whoDid_192 (pc' := 195) rfl (tgt := 219) (by decide) (fun c_54 => ?_) (fun c_54 => ?_)
      · have h := it_f h c_54
        refine r_sub (lv' := [(0, .ref a0), (1, .int x1), (2, .int x2), (3, .int x3), (4, .int x4), (6, .long x6), (9, .int x9), (10, .int x10), (12, .int x12)]) [0, 1, 2, 3, 4, 5, 6, 7, 9] rfl ?_
        exact B_X0_whoDid_219 C hE k_a0 h (fun M8 v0 v1 hm8 g0 h8 => ih M8 v0 v1 g0 h8 (fun M9 w0 hm9 h9 => hX232 M9 w0 (mMo.tr hm8 hm9) h9)) (fun M9 w0 hm9 h9 => hX232 M9 w0 hm9 h9)
      · have h := it_t h c_54
        refine r_iload_n C dX0_whoDid_195 (pc' := 196) rfl (j := 2) rfl ?_
        refine r_iload C dX0_whoDid_196 (pc' := 198) rfl (j := 7) rfl ?_
        refine r_callSi (As := [.int x2, .int x10]) (rest := []) C (S_X0_has h) (lw_S q1166 q1167 q105 q1168) hd_X0_has rfl rfl (Nat.le_of_ble_eq_true rfl) (Nat.le_of_ble_eq_true rfl) (Nat.le_of_ble_eq_true rfl) rfl rfl (Nat.le_of_ble_eq_true rfl) (Nat.le_of_ble_eq_true rfl) dX0_whoDid_198 (pc' := 201) rfl (fun r_58 M_57 h m_59 => ?_)
        refine r_if_eq C dX0_whoDid_201 (pc' := 204) rfl (tgt := 223) (by decide) (fun c_60 => ?_) (fun c_60 => ?_)
        · have h := it_t h c_60
          refine r_iconst C dX0_whoDid_223 (pc' := 224) rfl (v := 0) rfl ?_
          refine r_istore C (lv' := [(11, .int (0 : Int32)), (0, .ref a0), (1, .int x1), (2, .int x2), (3, .int x3), (4, .int x4), (6, .long x6), (9, .int x9), (10, .int x10), (12, .int x12)]) dX0_whoDid_224 (pc' := 226) rfl (0 : Int32) rfl (Nat.le_of_ble_eq_true rfl) rfl ?_
          obtain ⟨x12_61, e_62, h⟩ := bn_ h
          refine r_iinc C (lv' := [(12, .int x12_61), (11, .int (0 : Int32)), (0, .ref a0), (1, .int x1), (2, .int x2), (3, .int x3), (4, .int x4), (6, .long x6), (9, .int x9), (10, .int x10)]) dX0_whoDid_226 (pc' := 229) rfl (j := 9) rfl x12_61 (by rw [e_62]; rfl) (Nat.le_of_ble_eq_true rfl) rfl ?_
          refine r_goto C dX0_whoDid_229 (tgt := 184) (by decide) ?_
          refine r_sub (lv' := [(0, .ref a0), (1, .int x1), (2, .int x2), (3, .int x3), (4, .int x4), (6, .long x6), (9, .int x9), (10, .int x10), (11, .int (0 : Int32)), (12, .int x12_61)]) [2, 3, 4, 5, 6, 7, 8, 9, 1, 0] rfl ?_
          exact ih M_57 (0 : Int32) x12_61 (mMo.kd m_59 k_a0 (by decide)) h (fun M9 w0 hm9 h9 => hX232 M9 w0 (mMo.tr m_59 hm9) h9)
        · have h := it_f h c_60
          refine r_aload_n C dX0_whoDid_204 (pc' := 205) rfl (j := 0) rfl ?_
          refine r_iload C dX0_whoDid_205 (pc' := 207) rfl (j := 9) rfl ?_
          refine r_iload_n C dX0_whoDid_207 (pc' := 208) rfl (j := 2) rfl ?_
          refine r_iload C dX0_whoDid_208 (pc' := 210) rfl (j := 7) rfl ?_
          refine r_iload_n C dX0_whoDid_210 (pc' := 211) rfl (j := 3) rfl ?_
          refine r_iload C dX0_whoDid_211 (pc' := 213) rfl (j := 4) rfl ?_
          refine r_callVi (As := [.int x12, .int x2, .int x10, .int x3, .int x4]) (rest := []) (Cn := RX0) (T := TX0) C (mMo.kd m_59 k_a0 (by decide)) (by decide) vc_X0 (S_X0_setsFor (mMo.kd m_59 k_a0 (by decide)) h) (lw_V q1173 q1175 qs46 q105 q1176) rfl hd_X0_setsFor rfl rfl (Nat.le_of_ble_eq_true rfl) (Nat.le_of_ble_eq_true rfl) (Nat.le_of_ble_eq_true rfl) rfl rfl (Nat.le_of_ble_eq_true rfl) (Nat.le_of_ble_eq_true rfl) dX0_whoDid_213 (pc' := 216) rfl (fun r_64 M_63 h m_65 => ?_)
          refine r_if_ne C dX0_whoDid_216 (pc' := 219) rfl (tgt := 223) (by decide) (fun c_66 => ?_) (fun c_66 => ?_)
          · have h := it_f h c_66
            refine r_iconst C dX0_whoDid_223 (pc' := 224) rfl (v := 0) rfl ?_
            refine r_istore C (lv' := [(11, .int (0 : Int32)), (0, .ref a0), (1, .int x1), (2, .int x2), (3, .int x3), (4, .int x4), (6, .long x6), (9, .int x9), (10, .int x10), (12, .int x12)]) dX0_whoDid_224 (pc' := 226) rfl (0 : Int32) rfl (Nat.le_of_ble_eq_true rfl) rfl ?_
            obtain ⟨x12_67, e_68, h⟩ := bn_ h
            refine r_iinc C (lv' := [(12, .int x12_67), (11, .int (0 : Int32)), (0, .ref a0), (1, .int x1), (2, .int x2), (3, .int x3), (4, .int x4), (6, .long x6), (9, .int x9), (10, .int x10)]) dX0_whoDid_226 (pc' := 229) rfl (j := 9) rfl x12_67 (by rw [e_68]; rfl) (Nat.le_of_ble_eq_true rfl) rfl ?_
            refine r_goto C dX0_whoDid_229 (tgt := 184) (by decide) ?_
            refine r_sub (lv' := [(0, .ref a0), (1, .int x1), (2, .int x2), (3, .int x3), (4, .int x4), (6, .long x6), (9, .int x9), (10, .int x10), (11, .int (0 : Int32)), (12, .int x12_67)]) [2, 3, 4, 5, 6, 7, 8, 9, 1, 0] rfl ?_
            exact ih M_63 (0 : Int32) x12_67 (mMo.kd m_65 (mMo.kd m_59 k_a0 (by decide)) (by decide)) h (fun M9 w0 hm9 h9 => hX232 M9 w0 (mMo.tr (mMo.tr m_59 m_65) hm9) h9)
          · have h := it_t h c_66
            refine r_sub (lv' := [(0, .ref a0), (1, .int x1), (2, .int x2), (3, .int x3), (4, .int x4), (6, .long x6), (9, .int x9), (10, .int x10), (12, .int x12)]) [0, 1, 2, 3, 4, 5, 6, 7, 9] rfl ?_
            exact B_X0_whoDid_219 C hE (mMo.kd m_65 (mMo.kd m_59 k_a0 (by decide)) (by decide)) h (fun M8 v0 v1 hm8 g0 h8 => ih M8 v0 v1 g0 h8 (fun M9 w0 hm9 h9 => hX232 M9 w0 (mMo.tr (mMo.tr (mMo.tr m_59 m_65) hm8) hm9) h9)) (fun M9 w0 hm9 h9 => hX232 M9 w0 (mMo.tr (mMo.tr m_59 m_65) hm9) h9)
set_option maxHeartbeats 4000000 in
theorem B_X0_whoDid_164 {E : mE} {a0 : Nat} {x1 : Int32} {x2 : Int32} {x3 : Int32} {x4 : Int32} {x6 : Int64} {X256 : MM → Int32 → Prop} {Post : Int64 → MM → Prop} (C : mC E yX0_whoDid cX0_whoDid 13 ((some .long)) { frames := 3, cells := 0, slots := 0, locals := 71 }) (hE : mEnd E { frames := 3, cells := 0, slots := 0, locals := 71 } (pL_ Post)) : ∀ (n_ : Nat) (M : MM) (x9 : Int32) (x10 : Int32), mkd M a0 = 1 → wl_X0_whoDid_164 a0 x1 x2 x3 x4 x6 X256 n_ M x9 x10 → (∀ (M' : MM) (x9' : Int32), mMo M M' → X256 M' x9' → mV E M' 0 0 256 [(9, .int x9')] []) → mV E M 0 0 164 [(0, .ref a0), (1, .int x1), (2, .int x2), (3, .int x3), (4, .int x4), (6, .long x6), (9, .int x9), (10, .int x10)] [] := by
  intro n_
  induction n_ with
  | zero =>
    intro M x9 x10 k_a0 h hX256
    exact absurd h (by rw [wl_X0_whoDid_164]; exact fun q => q)
  | succ n_ ih =>
    intro M x9 x10 k_a0 h hX256
    rw [wl_X0_whoDid_164] at h
    refine r_iload C dX0_whoDid_164 (pc' := 166) rfl (j := 7) rfl ?_
    refine r_bipush C dX0_whoDid_166 (pc' := 168) rfl (v := 8) rfl ?_
    refine r_icmp_ge C dX0_whoDid_168 (pc' := 171) rfl (tgt := 256) (by decide) (fun c_51 => ?_) (fun c_51 => ?_)
    · have h := it_t h c_51
      refine r_sub (lv' := [(9, .int x9)]) [6] rfl ?_
      exact hX256 M x9 mMo.rf h
    · have h := it_f h c_51
      refine r_lload C dX0_whoDid_171 (pc' := 173) rfl (j := 5) rfl ?_
      refine r_lconst C dX0_whoDid_173 (pc' := 174) rfl (v := 0) rfl ?_
      refine r_lc_le C dX0_whoDid_174 (pc1 := 175) (pc' := 178) rfl dX0_whoDid_175 rfl (tgt := 256) (by decide) (fun c_52 => ?_) (fun c_52 => ?_)
      · have h := it_t h c_52
        refine r_sub (lv' := [(9, .int x9)]) [6] rfl ?_
        exact hX256 M x9 mMo.rf h
      · have h := it_f h c_52
        refine r_iconst C dX0_whoDid_178 (pc' := 179) rfl (v := 0) rfl ?_
        refine r_istore C (lv' := [(11, .int (0 : Int32)), (0, .ref a0), (1, .int x1), (2, .int x2), (3, .int x3), (4, .int x4), (6, .long x6), (9, .int x9), (10, .int x10)]) dX0_whoDid_179 (pc' := 181) rfl (0 : Int32) rfl (Nat.le_of_ble_eq_true rfl) rfl ?_
        refine r_iconst C dX0_whoDid_181 (pc' := 182) rfl (v := 0) rfl ?_
        refine r_istore C (lv' := [(12, .int (0 : Int32)), (11, .int (0 : Int32)), (0, .ref a0), (1, .int x1), (2, .int x2), (3, .int x3), (4, .int x4), (6, .long x6), (9, .int x9), (10, .int x10)]) dX0_whoDid_182 (pc' := 184) rfl (0 : Int32) rfl (Nat.le_of_ble_eq_true rfl) rfl ?_
        obtain ⟨n_69, h⟩ := h
        refine r_sub (lv' := [(0, .ref a0), (1, .int x1), (2, .int x2), (3, .int x3), (4, .int x4), (6, .long x6), (9, .int x9), (10, .int x10), (11, .int (0 : Int32)), (12, .int (0 : Int32))]) [2, 3, 4, 5, 6, 7, 8, 9, 1, 0] rfl ?_
        refine B_X0_whoDid_184 C hE n_69 M (0 : Int32) (0 : Int32) k_a0 h (fun M_70 x11_72 m_71 h => ?_)
        refine r_iload C dX0_whoDid_232 (pc' := 234) rfl (j := 6) rfl ?_
        refine r_iload C dX0_whoDid_234 (pc' := 236) rfl (j := 8) rfl ?_
        refine r_if_eq C dX0_whoDid_236 (pc' := 239) rfl (tgt := 246) (by decide) (fun c_73 => ?_) (fun c_73 => ?_)
        · have h := it_t h c_73
          refine r_iconst C dX0_whoDid_246 (pc' := 247) rfl (v := 0) rfl ?_
          refine r_ior C dX0_whoDid_247 (pc' := 248) rfl ?_
          obtain ⟨x9_74, e_75, h⟩ := bn_ h
          refine r_istore C (lv' := [(9, .int x9_74), (0, .ref a0), (1, .int x1), (2, .int x2), (3, .int x3), (4, .int x4), (6, .long x6), (10, .int x10), (11, .int x11_72)]) dX0_whoDid_248 (pc' := 250) rfl x9_74 e_75 (Nat.le_of_ble_eq_true rfl) rfl ?_
          obtain ⟨x10_76, e_77, h⟩ := bn_ h
          refine r_iinc C (lv' := [(10, .int x10_76), (9, .int x9_74), (0, .ref a0), (1, .int x1), (2, .int x2), (3, .int x3), (4, .int x4), (6, .long x6), (11, .int x11_72)]) dX0_whoDid_250 (pc' := 253) rfl (j := 7) rfl x10_76 (by rw [e_77]; rfl) (Nat.le_of_ble_eq_true rfl) rfl ?_
          refine r_goto C dX0_whoDid_253 (tgt := 164) (by decide) ?_
          refine r_sub (lv' := [(0, .ref a0), (1, .int x1), (2, .int x2), (3, .int x3), (4, .int x4), (6, .long x6), (9, .int x9_74), (10, .int x10_76)]) [2, 3, 4, 5, 6, 7, 1, 0] rfl ?_
          exact ih M_70 x9_74 x10_76 (mMo.kd m_71 k_a0 (by decide)) h (fun M9 w0 hm9 h9 => hX256 M9 w0 (mMo.tr m_71 hm9) h9)
        · have h := it_f h c_73
          refine r_iconst C dX0_whoDid_239 (pc' := 240) rfl (v := 1) rfl ?_
          refine r_iload C dX0_whoDid_240 (pc' := 242) rfl (j := 7) rfl ?_
          refine r_ishl C dX0_whoDid_242 (pc' := 243) rfl ?_
          refine r_goto C dX0_whoDid_243 (tgt := 247) (by decide) ?_
          refine r_ior C dX0_whoDid_247 (pc' := 248) rfl ?_
          obtain ⟨x9_78, e_79, h⟩ := bn_ h
          refine r_istore C (lv' := [(9, .int x9_78), (0, .ref a0), (1, .int x1), (2, .int x2), (3, .int x3), (4, .int x4), (6, .long x6), (10, .int x10), (11, .int x11_72)]) dX0_whoDid_248 (pc' := 250) rfl x9_78 e_79 (Nat.le_of_ble_eq_true rfl) rfl ?_
          obtain ⟨x10_80, e_81, h⟩ := bn_ h
          refine r_iinc C (lv' := [(10, .int x10_80), (9, .int x9_78), (0, .ref a0), (1, .int x1), (2, .int x2), (3, .int x3), (4, .int x4), (6, .long x6), (11, .int x11_72)]) dX0_whoDid_250 (pc' := 253) rfl (j := 7) rfl x10_80 (by rw [e_81]; rfl) (Nat.le_of_ble_eq_true rfl) rfl ?_
          refine r_goto C dX0_whoDid_253 (tgt := 164) (by decide) ?_
          refine r_sub (lv' := [(0, .ref a0), (1, .int x1), (2, .int x2), (3, .int x3), (4, .int x4), (6, .long x6), (9, .int x9_78), (10, .int x10_80)]) [2, 3, 4, 5, 6, 7, 1, 0] rfl ?_
          exact ih M_70 x9_78 x10_80 (mMo.kd m_71 k_a0 (by decide)) h (fun M9 w0 hm9 h9 => hX256 M9 w0 (mMo.tr m_71 hm9) h9)
set_option maxHeartbeats 4000000 in
theorem S_X0_whoDid {D : DD} {l : Launch} {M : MM} {a0 : Nat} {x1 : Int32} {x2 : Int32} {x3 : Int32} {x4 : Int32} {x5 : Int32} {Post : Int64 → MM → Prop} (k_a0 : mkd M a0 = 1) (h : wp_X0_whoDid M a0 x1 x2 x3 x4 x5 Post) : mMet D l yX0_whoDid cX0_whoDid 13 ((some .long)) { frames := 3, cells := 0, slots := 0, locals := 71 } M [.ref a0, .int x1, .int x2, .int x3, .int x4, .int x5] (pL_ Post) := by
  refine m_of2 [(0, .ref a0), (1, .int x1), (2, .int x2), (3, .int x3), (4, .int x4), (5, .int x5)] (by decide +kernel) (Nat.le_of_ble_eq_true rfl) rfl (fun E hED hEl C hE => ?_)
  subst hED
  subst hEl
  unfold wp_X0_whoDid at h
  refine r_iload_n C dX0_whoDid_0 (pc' := 1) rfl (j := 1) rfl ?_
  refine r_iconst C dX0_whoDid_1 (pc' := 2) rfl (v := 1) rfl ?_
  refine r_bipush C dX0_whoDid_2 (pc' := 4) rfl (v := 6) rfl ?_
  refine r_callSi (As := [.int x1, .int (1 : Int32), .int (6 : Int32)]) (rest := []) C (S_X0_within h) (lw_S q462 q463 q105 q464) hd_X0_within rfl rfl (Nat.le_of_ble_eq_true rfl) (Nat.le_of_ble_eq_true rfl) (Nat.le_of_ble_eq_true rfl) rfl rfl (Nat.le_of_ble_eq_true rfl) (Nat.le_of_ble_eq_true rfl) dX0_whoDid_4 (pc' := 7) rfl (fun r_2 M_1 h m_3 => ?_)
  refine r_if_eq C dX0_whoDid_7 (pc' := 10) rfl (tgt := 72) (by decide) (fun c_4 => ?_) (fun c_4 => ?_)
  · have h := it_t h c_4
    refine r_ldc2 C dX0_whoDid_72 (pc' := 75) rfl q952 ?_
    exact r_lret C hE (Nat.le_of_ble_eq_true rfl) (Nat.le_of_ble_eq_true rfl) dX0_whoDid_75 ⟨_, rfl, h⟩
  · have h := it_f h c_4
    refine r_iload_n C dX0_whoDid_10 (pc' := 11) rfl (j := 2) rfl ?_
    refine r_sipush C dX0_whoDid_11 (pc' := 14) rfl (v := 256) rfl ?_
    refine r_callSi (As := [.int x2, .int (256 : Int32)]) (rest := []) C (S_X0_in h) (lw_S q459 q460 q105 q461) hd_X0_in rfl rfl (Nat.le_of_ble_eq_true rfl) (Nat.le_of_ble_eq_true rfl) (Nat.le_of_ble_eq_true rfl) rfl rfl (Nat.le_of_ble_eq_true rfl) (Nat.le_of_ble_eq_true rfl) dX0_whoDid_14 (pc' := 17) rfl (fun r_6 M_5 h m_7 => ?_)
    refine r_if_eq C dX0_whoDid_17 (pc' := 20) rfl (tgt := 72) (by decide) (fun c_8 => ?_) (fun c_8 => ?_)
    · have h := it_t h c_8
      refine r_ldc2 C dX0_whoDid_72 (pc' := 75) rfl q952 ?_
      exact r_lret C hE (Nat.le_of_ble_eq_true rfl) (Nat.le_of_ble_eq_true rfl) dX0_whoDid_75 ⟨_, rfl, h⟩
    · have h := it_f h c_8
      refine r_iload_n C dX0_whoDid_20 (pc' := 21) rfl (j := 2) rfl ?_
      refine r_callSi (As := [.int x2]) (rest := []) C (S_J6_bitCount h) (lw_S q924 q925 q128 q926) hd_J6_bitCount rfl rfl (Nat.le_of_ble_eq_true rfl) (Nat.le_of_ble_eq_true rfl) (Nat.le_of_ble_eq_true rfl) rfl rfl (Nat.le_of_ble_eq_true rfl) (Nat.le_of_ble_eq_true rfl) dX0_whoDid_21 (pc' := 24) rfl (fun r_10 M_9 h m_11 => ?_)
      refine r_iconst C dX0_whoDid_24 (pc' := 25) rfl (v := 1) rfl ?_
      refine r_iconst C dX0_whoDid_25 (pc' := 26) rfl (v := 5) rfl ?_
      refine r_callSi (As := [.int r_10, .int (1 : Int32), .int (5 : Int32)]) (rest := []) C (S_X0_within h) (lw_S q462 q463 q105 q464) hd_X0_within rfl rfl (Nat.le_of_ble_eq_true rfl) (Nat.le_of_ble_eq_true rfl) (Nat.le_of_ble_eq_true rfl) rfl rfl (Nat.le_of_ble_eq_true rfl) (Nat.le_of_ble_eq_true rfl) dX0_whoDid_26 (pc' := 29) rfl (fun r_13 M_12 h m_14 => ?_)
      refine r_if_eq C dX0_whoDid_29 (pc' := 32) rfl (tgt := 72) (by decide) (fun c_15 => ?_) (fun c_15 => ?_)
      · have h := it_t h c_15
        refine r_ldc2 C dX0_whoDid_72 (pc' := 75) rfl q952 ?_
        exact r_lret C hE (Nat.le_of_ble_eq_true rfl) (Nat.le_of_ble_eq_true rfl) dX0_whoDid_75 ⟨_, rfl, h⟩
      · have h := it_f h c_15
        refine r_iload_n C dX0_whoDid_32 (pc' := 33) rfl (j := 3) rfl ?_
        refine r_iconst C dX0_whoDid_33 (pc' := 34) rfl (v := 1) rfl ?_
        refine r_bipush C dX0_whoDid_34 (pc' := 36) rfl (v := 9) rfl ?_
        refine r_callSi (As := [.int x3, .int (1 : Int32), .int (9 : Int32)]) (rest := []) C (S_X0_within h) (lw_S q462 q463 q105 q464) hd_X0_within rfl rfl (Nat.le_of_ble_eq_true rfl) (Nat.le_of_ble_eq_true rfl) (Nat.le_of_ble_eq_true rfl) rfl rfl (Nat.le_of_ble_eq_true rfl) (Nat.le_of_ble_eq_true rfl) dX0_whoDid_36 (pc' := 39) rfl (fun r_17 M_16 h m_18 => ?_)
        refine r_if_eq C dX0_whoDid_39 (pc' := 42) rfl (tgt := 72) (by decide) (fun c_19 => ?_) (fun c_19 => ?_)
        · have h := it_t h c_19
          refine r_ldc2 C dX0_whoDid_72 (pc' := 75) rfl q952 ?_
          exact r_lret C hE (Nat.le_of_ble_eq_true rfl) (Nat.le_of_ble_eq_true rfl) dX0_whoDid_75 ⟨_, rfl, h⟩
        · have h := it_f h c_19
          refine r_iload C dX0_whoDid_42 (pc' := 44) rfl (j := 4) rfl ?_
          refine r_iconst C dX0_whoDid_44 (pc' := 45) rfl (v := 0) rfl ?_
          refine r_bipush C dX0_whoDid_45 (pc' := 47) rfl (v := 9) rfl ?_
          refine r_callSi (As := [.int x4, .int (0 : Int32), .int (9 : Int32)]) (rest := []) C (S_X0_within h) (lw_S q462 q463 q105 q464) hd_X0_within rfl rfl (Nat.le_of_ble_eq_true rfl) (Nat.le_of_ble_eq_true rfl) (Nat.le_of_ble_eq_true rfl) rfl rfl (Nat.le_of_ble_eq_true rfl) (Nat.le_of_ble_eq_true rfl) dX0_whoDid_47 (pc' := 50) rfl (fun r_21 M_20 h m_22 => ?_)
          refine r_if_eq C dX0_whoDid_50 (pc' := 53) rfl (tgt := 72) (by decide) (fun c_23 => ?_) (fun c_23 => ?_)
          · have h := it_t h c_23
            refine r_ldc2 C dX0_whoDid_72 (pc' := 75) rfl q952 ?_
            exact r_lret C hE (Nat.le_of_ble_eq_true rfl) (Nat.le_of_ble_eq_true rfl) dX0_whoDid_75 ⟨_, rfl, h⟩
          · have h := it_f h c_23
            refine r_iload C dX0_whoDid_53 (pc' := 55) rfl (j := 5) rfl ?_
            refine r_iconst C dX0_whoDid_55 (pc' := 56) rfl (v := 3) rfl ?_
            refine r_callSi (As := [.int x5, .int (3 : Int32)]) (rest := []) C (S_X0_in h) (lw_S q459 q460 q105 q461) hd_X0_in rfl rfl (Nat.le_of_ble_eq_true rfl) (Nat.le_of_ble_eq_true rfl) (Nat.le_of_ble_eq_true rfl) rfl rfl (Nat.le_of_ble_eq_true rfl) (Nat.le_of_ble_eq_true rfl) dX0_whoDid_56 (pc' := 59) rfl (fun r_25 M_24 h m_26 => ?_)
            refine r_if_eq C dX0_whoDid_59 (pc' := 62) rfl (tgt := 72) (by decide) (fun c_27 => ?_) (fun c_27 => ?_)
            · have h := it_t h c_27
              refine r_ldc2 C dX0_whoDid_72 (pc' := 75) rfl q952 ?_
              exact r_lret C hE (Nat.le_of_ble_eq_true rfl) (Nat.le_of_ble_eq_true rfl) dX0_whoDid_75 ⟨_, rfl, h⟩
            · have h := it_f h c_27
              refine r_iload_n C dX0_whoDid_62 (pc' := 63) rfl (j := 1) rfl ?_
              refine r_iconst C dX0_whoDid_63 (pc' := 64) rfl (v := 1) rfl ?_
              refine r_iadd C dX0_whoDid_64 (pc' := 65) rfl ?_
              refine r_aload_n C dX0_whoDid_65 (pc' := 66) rfl (j := 0) rfl ?_
              refine r_getf C (Cn := RX0) (T := TX0) 7 (mMo.kd m_26 (mMo.kd m_22 (mMo.kd m_18 (mMo.kd m_14 (mMo.kd m_11 (mMo.kd m_7 (mMo.kd m_3 k_a0 (by decide)) (by decide)) (by decide)) (by decide)) (by decide)) (by decide)) (by decide)) (by decide) vc_X0 in_X0 (by decide) q361 dX0_whoDid_66 (pc' := 69) rfl (v := .int (mgI M_24 a0 7)) rfl ?_
              refine r_icmp_le C dX0_whoDid_69 (pc' := 72) rfl (tgt := 76) (by decide) (fun c_28 => ?_) (fun c_28 => ?_)
              · have h := it_t h c_28
                refine r_aload_n C dX0_whoDid_76 (pc' := 77) rfl (j := 0) rfl ?_
                refine r_iconst C dX0_whoDid_77 (pc' := 78) rfl (v := 0) rfl ?_
                obtain ⟨M_29, e_30, h⟩ := bn_ h
                refine r_putI C (Cn := RX0) (T := TX0) tyX0 7 (mMo.kd m_26 (mMo.kd m_22 (mMo.kd m_18 (mMo.kd m_14 (mMo.kd m_11 (mMo.kd m_7 (mMo.kd m_3 k_a0 (by decide)) (by decide)) (by decide)) (by decide)) (by decide)) (by decide)) (by decide)) (by decide) vc_X0 in_X0 tyX0_ok nmX0 (by decide) q361 rfl rfl dX0_whoDid_78 (pc' := 81) rfl rfl rfl M_29 e_30 ?_
                refine r_lconst C dX0_whoDid_81 (pc' := 82) rfl (v := 1) rfl ?_
                refine r_lstore C (lv' := [(6, .long (1 : Int64)), (0, .ref a0), (1, .int x1), (2, .int x2), (3, .int x3), (4, .int x4), (5, .int x5)]) dX0_whoDid_82 (pc' := 84) rfl (1 : Int64) rfl (Nat.le_of_ble_eq_true rfl) rfl ?_
                refine r_bipush C dX0_whoDid_84 (pc' := 86) rfl (v := -2) rfl ?_
                refine r_istore C (lv' := [(8, .int (-2 : Int32)), (6, .long (1 : Int64)), (0, .ref a0), (1, .int x1), (2, .int x2), (3, .int x3), (4, .int x4), (5, .int x5)]) dX0_whoDid_86 (pc' := 88) rfl (-2 : Int32) rfl (Nat.le_of_ble_eq_true rfl) rfl ?_
                refine r_iconst C dX0_whoDid_88 (pc' := 89) rfl (v := 0) rfl ?_
                refine r_istore C (lv' := [(9, .int (0 : Int32)), (8, .int (-2 : Int32)), (6, .long (1 : Int64)), (0, .ref a0), (1, .int x1), (2, .int x2), (3, .int x3), (4, .int x4), (5, .int x5)]) dX0_whoDid_89 (pc' := 91) rfl (0 : Int32) rfl (Nat.le_of_ble_eq_true rfl) rfl ?_
                obtain ⟨n_45, h⟩ := h
                refine r_sub (lv' := [(0, .ref a0), (1, .int x1), (2, .int x2), (3, .int x3), (4, .int x4), (5, .int x5), (6, .long (1 : Int64)), (8, .int (-2 : Int32)), (9, .int (0 : Int32))]) [3, 4, 5, 6, 7, 8, 2, 1, 0] rfl ?_
                refine B_X0_whoDid_91 C hE n_45 M_29 (1 : Int64) (-2 : Int32) (0 : Int32) (mMo.kd (mo_I e_30) (mMo.kd m_26 (mMo.kd m_22 (mMo.kd m_18 (mMo.kd m_14 (mMo.kd m_11 (mMo.kd m_7 (mMo.kd m_3 k_a0 (by decide)) (by decide)) (by decide)) (by decide)) (by decide)) (by decide)) (by decide)) (by decide)) h (fun M_46 x6_48 x8_49 m_47 h => ?_)
                refine r_iload C dX0_whoDid_138 (pc' := 140) rfl (j := 5) rfl ?_
                refine r_iconst C dX0_whoDid_140 (pc' := 141) rfl (v := 2) rfl ?_
                refine r_icmp_ge C dX0_whoDid_141 (pc' := 144) rfl (tgt := 158) (by decide) (fun c_50 => ?_) (fun c_50 => ?_)
                · have h := it_t h c_50
                  refine r_iconst C dX0_whoDid_158 (pc' := 159) rfl (v := 0) rfl ?_
                  refine r_istore C (lv' := [(9, .int (0 : Int32)), (0, .ref a0), (1, .int x1), (2, .int x2), (3, .int x3), (4, .int x4), (5, .int x5), (6, .long x6_48), (8, .int x8_49)]) dX0_whoDid_159 (pc' := 161) rfl (0 : Int32) rfl (Nat.le_of_ble_eq_true rfl) rfl ?_
                  refine r_iconst C dX0_whoDid_161 (pc' := 162) rfl (v := 0) rfl ?_
                  refine r_istore C (lv' := [(10, .int (0 : Int32)), (9, .int (0 : Int32)), (0, .ref a0), (1, .int x1), (2, .int x2), (3, .int x3), (4, .int x4), (5, .int x5), (6, .long x6_48), (8, .int x8_49)]) dX0_whoDid_162 (pc' := 164) rfl (0 : Int32) rfl (Nat.le_of_ble_eq_true rfl) rfl ?_
                  obtain ⟨n_82, h⟩ := h
                  refine r_sub (lv' := [(0, .ref a0), (1, .int x1), (2, .int x2), (3, .int x3), (4, .int x4), (6, .long x6_48), (9, .int (0 : Int32)), (10, .int (0 : Int32))]) [2, 3, 4, 5, 6, 8, 1, 0] rfl ?_
                  refine B_X0_whoDid_164 C hE n_82 M_46 (0 : Int32) (0 : Int32) (mMo.kd m_47 (mMo.kd (mo_I e_30) (mMo.kd m_26 (mMo.kd m_22 (mMo.kd m_18 (mMo.kd m_14 (mMo.kd m_11 (mMo.kd m_7 (mMo.kd m_3 k_a0 (by decide)) (by decide)) (by decide)) (by decide)) (by decide)) (by decide)) (by decide)) (by decide)) (by decide)) h (fun M_83 x9_85 m_84 h => ?_)
                  refine r_iload C dX0_whoDid_256 (pc' := 258) rfl (j := 0) rfl ?_
                  refine r_i2l C dX0_whoDid_258 (pc' := 259) rfl ?_
                  exact r_lret C hE (Nat.le_of_ble_eq_true rfl) (Nat.le_of_ble_eq_true rfl) dX0_whoDid_259 ⟨_, rfl, h⟩
                · have h := it_f h c_50
                  refine r_iload C dX0_whoDid_144 (pc' := 146) rfl (j := 5) rfl ?_
                  refine r_if_ne C dX0_whoDid_146 (pc' := 149) rfl (tgt := 154) (by decide) (fun c_86 => ?_) (fun c_86 => ?_)
                  · have h := it_f h c_86
                    refine r_iload C dX0_whoDid_154 (pc' := 156) rfl (j := 7) rfl ?_
                    refine r_i2l C dX0_whoDid_156 (pc' := 157) rfl ?_
                    exact r_lret C hE (Nat.le_of_ble_eq_true rfl) (Nat.le_of_ble_eq_true rfl) dX0_whoDid_157 ⟨_, rfl, h⟩
                  · have h := it_t h c_86
                    refine r_lload C dX0_whoDid_149 (pc' := 151) rfl (j := 6) rfl ?_
                    refine r_goto C dX0_whoDid_151 (tgt := 157) (by decide) ?_
                    exact r_lret C hE (Nat.le_of_ble_eq_true rfl) (Nat.le_of_ble_eq_true rfl) dX0_whoDid_157 ⟨_, rfl, h⟩
              · have h := it_f h c_28
                refine r_ldc2 C dX0_whoDid_72 (pc' := 75) rfl q952 ?_
                exact r_lret C hE (Nat.le_of_ble_eq_true rfl) (Nat.le_of_ble_eq_true rfl) dX0_whoDid_75 ⟨_, rfl, h⟩
set_option maxHeartbeats 4000000 in
theorem B_X0_can_59 {E : mE} {a0 : Nat} {x1 : Int32} {x2 : Int32} {x3 : Int32} {x4 : Int32} {X81 : MM → Prop} {X91 : MM → Prop} {Post : Int64 → MM → Prop} (C : mC E yX0_can cX0_can 12 ((some .long)) { frames := 1, cells := 0, slots := 0, locals := 29 }) (hE : mEnd E { frames := 1, cells := 0, slots := 0, locals := 29 } (pL_ Post)) : ∀ (n_ : Nat) (M : MM) (x5 : Int32), mkd M a0 = 1 → wl_X0_can_59 a0 x1 x2 x3 x4 X81 X91 n_ M x5 → (∀ (M' : MM), mMo M M' → X81 M' → mV E M' 0 0 81 [] []) → (∀ (M' : MM), mMo M M' → X91 M' → mV E M' 0 0 91 [(0, .ref a0), (1, .int x1), (2, .int x2), (3, .int x3), (4, .int x4)] []) → mV E M 0 0 59 [(0, .ref a0), (1, .int x1), (2, .int x2), (3, .int x3), (4, .int x4), (5, .int x5)] [] := by
  intro n_
  induction n_ with
  | zero =>
    intro M x5 k_a0 h hX81 hX91
    exact absurd h (by rw [wl_X0_can_59]; exact fun q => q)
  | succ n_ ih =>
    intro M x5 k_a0 h hX81 hX91
    rw [wl_X0_can_59] at h
    refine r_iload C dX0_can_59 (pc' := 61) rfl (j := 5) rfl ?_
    refine r_iload_n C dX0_can_61 (pc' := 62) rfl (j := 1) rfl ?_
    refine r_icmp_ge C dX0_can_62 (pc' := 65) rfl (tgt := 91) (by decide) (fun c_20 => ?_) (fun c_20 => ?_)
    · have h := it_t h c_20
      refine r_sub (lv' := [(0, .ref a0), (1, .int x1), (2, .int x2), (3, .int x3), (4, .int x4)]) [0, 1, 2, 3, 4] rfl ?_
      exact hX91 M mMo.rf h
    · have h := it_f h c_20
      refine r_aload_n C dX0_can_65 (pc' := 66) rfl (j := 0) rfl ?_
      refine r_getf C (Cn := RX0) (T := TX0) 4 k_a0 (by decide) vc_X0 in_X0 (by decide) q356 dX0_can_66 (pc' := 69) rfl (v := va_rf (mgR M a0 4)) rfl ?_
      obtain ⟨b_21, e_22, k_23, h⟩ := h
      refine r_ref [] e_22 ?_
      refine r_iload C dX0_can_69 (pc' := 71) rfl (j := 5) rfl ?_
      obtain ⟨c_24, h⟩ := h
      refine r_bald C (j := (ix_ x5)) k_23 c_24 rfl dX0_can_71 (pc' := 72) rfl ?_
      refine r_iconst C dX0_can_72 (pc' := 73) rfl (v := 0) rfl ?_
      refine r_bipush C dX0_can_73 (pc' := 75) rfl (v := 10) rfl ?_
      refine r_callSi (As := [.int (mgI M b_21 (ix_ x5)), .int (0 : Int32), .int (10 : Int32)]) (rest := []) C (S_X0_within h) (lw_S q462 q463 q105 q464) hd_X0_within rfl rfl (Nat.le_of_ble_eq_true rfl) (Nat.le_of_ble_eq_true rfl) (Nat.le_of_ble_eq_true rfl) rfl rfl (Nat.le_of_ble_eq_true rfl) (Nat.le_of_ble_eq_true rfl) dX0_can_75 (pc' := 78) rfl (fun r_26 M_25 h m_27 => ?_)
      refine r_if_ne C dX0_can_78 (pc' := 81) rfl (tgt := 85) (by decide) (fun c_28 => ?_) (fun c_28 => ?_)
      · have h := it_f h c_28
        obtain ⟨x5_29, e_30, h⟩ := bn_ h
        refine r_iinc C (lv' := [(5, .int x5_29), (0, .ref a0), (1, .int x1), (2, .int x2), (3, .int x3), (4, .int x4)]) dX0_can_85 (pc' := 88) rfl (j := 5) rfl x5_29 (by rw [e_30]; rfl) (Nat.le_of_ble_eq_true rfl) rfl ?_
        refine r_goto C dX0_can_88 (tgt := 59) (by decide) ?_
        refine r_sub (lv' := [(0, .ref a0), (1, .int x1), (2, .int x2), (3, .int x3), (4, .int x4), (5, .int x5_29)]) [1, 2, 3, 4, 5, 0] rfl ?_
        exact ih M_25 x5_29 (mMo.kd m_27 k_a0 (by decide)) h (fun M9 hm9 h9 => hX81 M9 (mMo.tr m_27 hm9) h9) (fun M9 hm9 h9 => hX91 M9 (mMo.tr m_27 hm9) h9)
      · have h := it_t h c_28
        refine r_sub (lv' := []) [] rfl ?_
        exact hX81 M_25 m_27 h
set_option maxHeartbeats 4000000 in
theorem B_X0_can_111 {E : mE} {a0 : Nat} {x1 : Int32} {x2 : Int32} {x3 : Int32} {x4 : Int32} {x5 : Int64} {x7 : Int32} {X160 : MM → Int64 → Prop} {Post : Int64 → MM → Prop} (C : mC E yX0_can cX0_can 12 ((some .long)) { frames := 1, cells := 0, slots := 0, locals := 29 }) (hE : mEnd E { frames := 1, cells := 0, slots := 0, locals := 29 } (pL_ Post)) : ∀ (n_ : Nat) (M : MM) (x8 : Int64) (x10 : Int32), mkd M a0 = 1 → wl_X0_can_111 a0 x1 x2 x3 x4 x5 x7 X160 n_ M x8 x10 → (∀ (M' : MM) (x8' : Int64), mMo M M' → X160 M' x8' → mV E M' 0 0 160 [(0, .ref a0), (1, .int x1), (2, .int x2), (3, .int x3), (4, .int x4), (5, .long x5), (7, .int x7), (8, .long x8')] []) → mV E M 0 0 111 [(0, .ref a0), (1, .int x1), (2, .int x2), (3, .int x3), (4, .int x4), (5, .long x5), (7, .int x7), (8, .long x8), (10, .int x10)] [] := by
  intro n_
  induction n_ with
  | zero =>
    intro M x8 x10 k_a0 h hX160
    exact absurd h (by rw [wl_X0_can_111]; exact fun q => q)
  | succ n_ ih =>
    intro M x8 x10 k_a0 h hX160
    rw [wl_X0_can_111] at h
    refine r_iload C dX0_can_111 (pc' := 113) rfl (j := 8) rfl ?_
    refine r_iload_n C dX0_can_113 (pc' := 114) rfl (j := 1) rfl ?_
    refine r_icmp_ge C dX0_can_114 (pc' := 117) rfl (tgt := 160) (by decide) (fun c_37 => ?_) (fun c_37 => ?_)
    · have h := it_t h c_37
      refine r_sub (lv' := [(0, .ref a0), (1, .int x1), (2, .int x2), (3, .int x3), (4, .int x4), (5, .long x5), (7, .int x7), (8, .long x8)]) [0, 1, 2, 3, 4, 5, 6, 7] rfl ?_
      exact hX160 M x8 mMo.rf h
    · have h := it_f h c_37
      refine r_lload C dX0_can_117 (pc' := 119) rfl (j := 7) rfl ?_
      refine r_iload C dX0_can_119 (pc' := 121) rfl (j := 6) rfl ?_
      refine r_iload C dX0_can_121 (pc' := 123) rfl (j := 8) rfl ?_
      refine r_callSi (As := [.int x7, .int x10]) (rest := [.long x8]) C (S_X0_has h) (lw_S q1166 q1167 q105 q1168) hd_X0_has rfl rfl (Nat.le_of_ble_eq_true rfl) (Nat.le_of_ble_eq_true rfl) (Nat.le_of_ble_eq_true rfl) rfl rfl (Nat.le_of_ble_eq_true rfl) (Nat.le_of_ble_eq_true rfl) dX0_can_123 (pc' := 126) rfl (fun r_39 M_38 h m_40 => ?_)
      refine r_if_eq C dX0_can_126 (pc' := 129) rfl (tgt := 140) (by decide) (fun c_41 => ?_) (fun c_41 => ?_)
      · have h := it_t h c_41
        refine r_bipush C dX0_can_140 (pc' := 142) rfl (v := 10) rfl ?_
        refine r_aload_n C dX0_can_142 (pc' := 143) rfl (j := 0) rfl ?_
        refine r_getf C (Cn := RX0) (T := TX0) 4 (mMo.kd m_40 k_a0 (by decide)) (by decide) vc_X0 in_X0 (by decide) q356 dX0_can_143 (pc' := 146) rfl (v := va_rf (mgR M_38 a0 4)) rfl ?_
        obtain ⟨b_42, e_43, k_44, h⟩ := h
        refine r_ref [] e_43 ?_
        refine r_iload C dX0_can_146 (pc' := 148) rfl (j := 8) rfl ?_
        obtain ⟨c_45, h⟩ := h
        refine r_bald C (j := (ix_ x10)) k_44 c_45 rfl dX0_can_148 (pc' := 149) rfl ?_
        refine r_isub C dX0_can_149 (pc' := 150) rfl ?_
        refine r_i2l C dX0_can_150 (pc' := 151) rfl ?_
        refine r_lmul C dX0_can_151 (pc' := 152) rfl ?_
        obtain ⟨x8_46, e_47, h⟩ := bn_ h
        refine r_lstore C (lv' := [(8, .long x8_46), (0, .ref a0), (1, .int x1), (2, .int x2), (3, .int x3), (4, .int x4), (5, .long x5), (7, .int x7), (10, .int x10)]) dX0_can_152 (pc' := 154) rfl x8_46 e_47 (Nat.le_of_ble_eq_true rfl) rfl ?_
        obtain ⟨x10_48, e_49, h⟩ := bn_ h
        refine r_iinc C (lv' := [(10, .int x10_48), (8, .long x8_46), (0, .ref a0), (1, .int x1), (2, .int x2), (3, .int x3), (4, .int x4), (5, .long x5), (7, .int x7)]) dX0_can_154 (pc' := 157) rfl (j := 8) rfl x10_48 (by rw [e_49]; rfl) (Nat.le_of_ble_eq_true rfl) rfl ?_
        refine r_goto C dX0_can_157 (tgt := 111) (by decide) ?_
        refine r_sub (lv' := [(0, .ref a0), (1, .int x1), (2, .int x2), (3, .int x3), (4, .int x4), (5, .long x5), (7, .int x7), (8, .long x8_46), (10, .int x10_48)]) [2, 3, 4, 5, 6, 7, 8, 1, 0] rfl ?_
        exact ih M_38 x8_46 x10_48 (mMo.kd m_40 k_a0 (by decide)) h (fun M9 w0 hm9 h9 => hX160 M9 w0 (mMo.tr m_40 hm9) h9)
      · have h := it_f h c_41
        refine r_aload_n C dX0_can_129 (pc' := 130) rfl (j := 0) rfl ?_
        refine r_getf C (Cn := RX0) (T := TX0) 4 (mMo.kd m_40 k_a0 (by decide)) (by decide) vc_X0 in_X0 (by decide) q356 dX0_can_130 (pc' := 133) rfl (v := va_rf (mgR M_38 a0 4)) rfl ?_
        obtain ⟨b_50, e_51, k_52, h⟩ := h
        refine r_ref [] e_51 ?_
        refine r_iload C dX0_can_133 (pc' := 135) rfl (j := 8) rfl ?_
        obtain ⟨c_53, h⟩ := h
        refine r_bald C (j := (ix_ x10)) k_52 c_53 rfl dX0_can_135 (pc' := 136) rfl ?_
        refine r_i2l C dX0_can_136 (pc' := 137) rfl ?_
        refine r_goto C dX0_can_137 (tgt := 151) (by decide) ?_
        refine r_lmul C dX0_can_151 (pc' := 152) rfl ?_
        obtain ⟨x8_54, e_55, h⟩ := bn_ h
        refine r_lstore C (lv' := [(8, .long x8_54), (0, .ref a0), (1, .int x1), (2, .int x2), (3, .int x3), (4, .int x4), (5, .long x5), (7, .int x7), (10, .int x10)]) dX0_can_152 (pc' := 154) rfl x8_54 e_55 (Nat.le_of_ble_eq_true rfl) rfl ?_
        obtain ⟨x10_56, e_57, h⟩ := bn_ h
        refine r_iinc C (lv' := [(10, .int x10_56), (8, .long x8_54), (0, .ref a0), (1, .int x1), (2, .int x2), (3, .int x3), (4, .int x4), (5, .long x5), (7, .int x7)]) dX0_can_154 (pc' := 157) rfl (j := 8) rfl x10_56 (by rw [e_57]; rfl) (Nat.le_of_ble_eq_true rfl) rfl ?_
        refine r_goto C dX0_can_157 (tgt := 111) (by decide) ?_
        refine r_sub (lv' := [(0, .ref a0), (1, .int x1), (2, .int x2), (3, .int x3), (4, .int x4), (5, .long x5), (7, .int x7), (8, .long x8_54), (10, .int x10_56)]) [2, 3, 4, 5, 6, 7, 8, 1, 0] rfl ?_
        exact ih M_38 x8_54 x10_56 (mMo.kd m_40 k_a0 (by decide)) h (fun M9 w0 hm9 h9 => hX160 M9 w0 (mMo.tr m_40 hm9) h9)
set_option maxHeartbeats 4000000 in
theorem B_X0_can_191 {E : mE} {M : MM} {a0 : Nat} {x1 : Int32} {x2 : Int32} {x3 : Int32} {x4 : Int32} {x5 : Int64} {x7 : Int32} {x8 : Int64} {x10 : Int32} {xs0 : Int32} {R : MM → Int64 → Int32 → Prop} {X213 : MM → Int64 → Prop} {Post : Int64 → MM → Prop} (C : mC E yX0_can cX0_can 12 ((some .long)) { frames := 1, cells := 0, slots := 0, locals := 29 }) (hE : mEnd E { frames := 1, cells := 0, slots := 0, locals := 29 } (pL_ Post)) (k_a0 : mkd M a0 = 1) (h : wb_X0_can_191 M a0 x1 x2 x3 x4 x5 x7 x8 x10 xs0 R X213) (hR : ∀ (M' : MM) (x5' : Int64) (x7' : Int32), mMo M M' → mkd M' a0 = 1 → R M' x5' x7' → mV E M' 0 0 97 [(0, .ref a0), (1, .int x1), (2, .int x2), (3, .int x3), (4, .int x4), (5, .long x5'), (7, .int x7')] []) (hX213 : ∀ (M' : MM) (x5' : Int64), mMo M M' → X213 M' x5' → mV E M' 0 0 213 [(1, .int x1), (4, .int x4), (5, .long x5')] []) : mV E M 0 0 191 [(0, .ref a0), (1, .int x1), (2, .int x2), (3, .int x3), (4, .int x4), (5, .long x5), (7, .int x7), (8, .long x8), (10, .int x10)] [.int xs0] := by
  unfold wb_X0_can_191 at h
  refine r_istore C (lv' := [(11, .int xs0), (0, .ref a0), (1, .int x1), (2, .int x2), (3, .int x3), (4, .int x4), (5, .long x5), (7, .int x7), (8, .long x8), (10, .int x10)]) dX0_can_191 (pc' := 193) rfl xs0 rfl (Nat.le_of_ble_eq_true rfl) rfl ?_
  refine r_lload C dX0_can_193 (pc' := 195) rfl (j := 6) rfl ?_
  refine r_lload C dX0_can_195 (pc' := 197) rfl (j := 8) rfl ?_
  refine r_iload C dX0_can_197 (pc' := 199) rfl (j := 9) rfl ?_
  refine r_iload C dX0_can_199 (pc' := 201) rfl (j := 0) rfl ?_
  refine r_isub C dX0_can_201 (pc' := 202) rfl ?_
  refine r_i2l C dX0_can_202 (pc' := 203) rfl ?_
  refine r_lmul C dX0_can_203 (pc' := 204) rfl ?_
  refine r_ladd C dX0_can_204 (pc' := 205) rfl ?_
  obtain ⟨x5_68, e_69, h⟩ := bn_ h
  refine r_lstore C (lv' := [(5, .long x5_68), (11, .int xs0), (0, .ref a0), (1, .int x1), (2, .int x2), (3, .int x3), (4, .int x4), (7, .int x7), (8, .long x8), (10, .int x10)]) dX0_can_205 (pc' := 207) rfl x5_68 e_69 (Nat.le_of_ble_eq_true rfl) rfl ?_
  obtain ⟨x7_70, e_71, h⟩ := bn_ h
  refine r_iinc C (lv' := [(7, .int x7_70), (5, .long x5_68), (11, .int xs0), (0, .ref a0), (1, .int x1), (2, .int x2), (3, .int x3), (4, .int x4), (8, .long x8), (10, .int x10)]) dX0_can_207 (pc' := 210) rfl (j := 7) rfl x7_70 (by rw [e_71]; rfl) (Nat.le_of_ble_eq_true rfl) rfl ?_
  refine r_goto C dX0_can_210 (tgt := 97) (by decide) ?_
  refine r_sub (lv' := [(0, .ref a0), (1, .int x1), (2, .int x2), (3, .int x3), (4, .int x4), (5, .long x5_68), (7, .int x7_70)]) [3, 4, 5, 6, 7, 1, 0] rfl ?_
  exact hR M x5_68 x7_70 mMo.rf k_a0 h
set_option maxHeartbeats 4000000 in
theorem B_X0_can_97 {E : mE} {a0 : Nat} {x1 : Int32} {x2 : Int32} {x3 : Int32} {x4 : Int32} {X213 : MM → Int64 → Prop} {Post : Int64 → MM → Prop} (C : mC E yX0_can cX0_can 12 ((some .long)) { frames := 1, cells := 0, slots := 0, locals := 29 }) (hE : mEnd E { frames := 1, cells := 0, slots := 0, locals := 29 } (pL_ Post)) : ∀ (n_ : Nat) (M : MM) (x5 : Int64) (x7 : Int32), mkd M a0 = 1 → wl_X0_can_97 a0 x1 x2 x3 x4 X213 n_ M x5 x7 → (∀ (M' : MM) (x5' : Int64), mMo M M' → X213 M' x5' → mV E M' 0 0 213 [(1, .int x1), (4, .int x4), (5, .long x5')] []) → mV E M 0 0 97 [(0, .ref a0), (1, .int x1), (2, .int x2), (3, .int x3), (4, .int x4), (5, .long x5), (7, .int x7)] [] := by
  intro n_
  induction n_ with
  | zero =>
    intro M x5 x7 k_a0 h hX213
    exact absurd h (by rw [wl_X0_can_97]; exact fun q => q)
  | succ n_ ih =>
    intro M x5 x7 k_a0 h hX213
    rw [wl_X0_can_97] at h
    refine r_iload C dX0_can_97 (pc' := 99) rfl (j := 6) rfl ?_
    refine r_iconst C dX0_can_99 (pc' := 100) rfl (v := 1) rfl ?_
    refine r_iload_n C dX0_can_100 (pc' := 101) rfl (j := 1) rfl ?_
    refine r_ishl C dX0_can_101 (pc' := 102) rfl ?_
    refine r_icmp_ge C dX0_can_102 (pc' := 105) rfl (tgt := 213) (by decide) (fun c_36 => ?_) (fun c_36 => ?_)
    · have h := it_t h c_36
      refine r_sub (lv' := [(1, .int x1), (4, .int x4), (5, .long x5)]) [1, 4, 5] rfl ?_
      exact hX213 M x5 mMo.rf h
    · have h := it_f h c_36
      refine r_lconst C dX0_can_105 (pc' := 106) rfl (v := 1) rfl ?_
      refine r_lstore C (lv' := [(8, .long (1 : Int64)), (0, .ref a0), (1, .int x1), (2, .int x2), (3, .int x3), (4, .int x4), (5, .long x5), (7, .int x7)]) dX0_can_106 (pc' := 108) rfl (1 : Int64) rfl (Nat.le_of_ble_eq_true rfl) rfl ?_
      refine r_iconst C dX0_can_108 (pc' := 109) rfl (v := 0) rfl ?_
      refine r_istore C (lv' := [(10, .int (0 : Int32)), (8, .long (1 : Int64)), (0, .ref a0), (1, .int x1), (2, .int x2), (3, .int x3), (4, .int x4), (5, .long x5), (7, .int x7)]) dX0_can_109 (pc' := 111) rfl (0 : Int32) rfl (Nat.le_of_ble_eq_true rfl) rfl ?_
      obtain ⟨n_58, h⟩ := h
      refine r_sub (lv' := [(0, .ref a0), (1, .int x1), (2, .int x2), (3, .int x3), (4, .int x4), (5, .long x5), (7, .int x7), (8, .long (1 : Int64)), (10, .int (0 : Int32))]) [2, 3, 4, 5, 6, 7, 8, 1, 0] rfl ?_
      refine B_X0_can_111 C hE n_58 M (1 : Int64) (0 : Int32) k_a0 h (fun M_59 x8_61 m_60 h => ?_)
      refine r_iconst C dX0_can_160 (pc' := 161) rfl (v := 0) rfl ?_
      refine r_iload_n C dX0_can_161 (pc' := 162) rfl (j := 2) rfl ?_
      refine r_iload C dX0_can_162 (pc' := 164) rfl (j := 6) rfl ?_
      refine r_callSi (As := [.int x7]) (rest := [.int x2, .int (0 : Int32)]) C (S_J6_bitCount h) (lw_S q924 q925 q128 q926) hd_J6_bitCount rfl rfl (Nat.le_of_ble_eq_true rfl) (Nat.le_of_ble_eq_true rfl) (Nat.le_of_ble_eq_true rfl) rfl rfl (Nat.le_of_ble_eq_true rfl) (Nat.le_of_ble_eq_true rfl) dX0_can_164 (pc' := 167) rfl (fun r_63 M_62 h m_64 => ?_)
      refine r_imul C dX0_can_167 (pc' := 168) rfl ?_
      refine r_iload_n C dX0_can_168 (pc' := 169) rfl (j := 3) rfl ?_
      refine r_isub C dX0_can_169 (pc' := 170) rfl ?_
      refine r_mmax C q886 q490 q113 q491 (Nat.le_of_ble_eq_true rfl) (Nat.le_of_ble_eq_true rfl) (Nat.le_of_ble_eq_true rfl) (Nat.le_of_ble_eq_true rfl) dX0_can_170 (pc' := 173) rfl ?_
      obtain ⟨x10_65, e_66, h⟩ := bn_ h
      refine r_istore C (lv' := [(10, .int x10_65), (0, .ref a0), (1, .int x1), (2, .int x2), (3, .int x3), (4, .int x4), (5, .long x5), (7, .int x7), (8, .long x8_61)]) dX0_can_173 (pc' := 175) rfl x10_65 e_66 (Nat.le_of_ble_eq_true rfl) rfl ?_
      refine r_iload C dX0_can_175 (pc' := 177) rfl (j := 7) rfl ?_
      refine r_if_ne C dX0_can_177 (pc' := 180) rfl (tgt := 184) (by decide) (fun c_67 => ?_) (fun c_67 => ?_)
      · have h := it_f h c_67
        refine r_iconst C dX0_can_184 (pc' := 185) rfl (v := 0) rfl ?_
        refine r_iload_n C dX0_can_185 (pc' := 186) rfl (j := 3) rfl ?_
        refine r_iload_n C dX0_can_186 (pc' := 187) rfl (j := 4) rfl ?_
        refine r_isub C dX0_can_187 (pc' := 188) rfl ?_
        refine r_mmax C q886 q490 q113 q491 (Nat.le_of_ble_eq_true rfl) (Nat.le_of_ble_eq_true rfl) (Nat.le_of_ble_eq_true rfl) (Nat.le_of_ble_eq_true rfl) dX0_can_188 (pc' := 191) rfl ?_
        refine r_sub (lv' := [(0, .ref a0), (1, .int x1), (2, .int x2), (3, .int x3), (4, .int x4), (5, .long x5), (7, .int x7), (8, .long x8_61), (10, .int x10_65)]) [1, 2, 3, 4, 5, 6, 7, 8, 0] rfl ?_
        exact B_X0_can_191 C hE (mMo.kd m_64 (mMo.kd m_60 k_a0 (by decide)) (by decide)) h (fun M8 v0 v1 hm8 g0 h8 => ih M8 v0 v1 g0 h8 (fun M9 w0 hm9 h9 => hX213 M9 w0 (mMo.tr (mMo.tr (mMo.tr m_60 m_64) hm8) hm9) h9)) (fun M9 w0 hm9 h9 => hX213 M9 w0 (mMo.tr (mMo.tr m_60 m_64) hm9) h9)
      · have h := it_t h c_67
        refine r_iconst C dX0_can_180 (pc' := 181) rfl (v := 0) rfl ?_
        refine r_goto C dX0_can_181 (tgt := 191) (by decide) ?_
        refine r_sub (lv' := [(0, .ref a0), (1, .int x1), (2, .int x2), (3, .int x3), (4, .int x4), (5, .long x5), (7, .int x7), (8, .long x8_61), (10, .int x10_65)]) [1, 2, 3, 4, 5, 6, 7, 8, 0] rfl ?_
        exact B_X0_can_191 C hE (mMo.kd m_64 (mMo.kd m_60 k_a0 (by decide)) (by decide)) h (fun M8 v0 v1 hm8 g0 h8 => ih M8 v0 v1 g0 h8 (fun M9 w0 hm9 h9 => hX213 M9 w0 (mMo.tr (mMo.tr (mMo.tr m_60 m_64) hm8) hm9) h9)) (fun M9 w0 hm9 h9 => hX213 M9 w0 (mMo.tr (mMo.tr m_60 m_64) hm9) h9)
set_option maxHeartbeats 4000000 in
theorem S_X0_can {D : DD} {l : Launch} {M : MM} {a0 : Nat} {x1 : Int32} {x2 : Int32} {x3 : Int32} {x4 : Int32} {Post : Int64 → MM → Prop} (k_a0 : mkd M a0 = 1) (h : wp_X0_can M a0 x1 x2 x3 x4 Post) : mMet D l yX0_can cX0_can 12 ((some .long)) { frames := 1, cells := 0, slots := 0, locals := 29 } M [.ref a0, .int x1, .int x2, .int x3, .int x4] (pL_ Post) := by
  refine m_of2 [(0, .ref a0), (1, .int x1), (2, .int x2), (3, .int x3), (4, .int x4)] (by decide +kernel) (Nat.le_of_ble_eq_true rfl) rfl (fun E hED hEl C hE => ?_)
  subst hED
  subst hEl
  unfold wp_X0_can at h
  refine r_iload_n C dX0_can_0 (pc' := 1) rfl (j := 1) rfl ?_
  refine r_iconst C dX0_can_1 (pc' := 2) rfl (v := 1) rfl ?_
  refine r_bipush C dX0_can_2 (pc' := 4) rfl (v := 6) rfl ?_
  refine r_callSi (As := [.int x1, .int (1 : Int32), .int (6 : Int32)]) (rest := []) C (S_X0_within h) (lw_S q462 q463 q105 q464) hd_X0_within rfl rfl (Nat.le_of_ble_eq_true rfl) (Nat.le_of_ble_eq_true rfl) (Nat.le_of_ble_eq_true rfl) rfl rfl (Nat.le_of_ble_eq_true rfl) (Nat.le_of_ble_eq_true rfl) dX0_can_4 (pc' := 7) rfl (fun r_2 M_1 h m_3 => ?_)
  refine r_if_eq C dX0_can_7 (pc' := 10) rfl (tgt := 47) (by decide) (fun c_4 => ?_) (fun c_4 => ?_)
  · have h := it_t h c_4
    refine r_ldc2 C dX0_can_47 (pc' := 50) rfl q952 ?_
    exact r_lret C hE (Nat.le_of_ble_eq_true rfl) (Nat.le_of_ble_eq_true rfl) dX0_can_50 ⟨_, rfl, h⟩
  · have h := it_f h c_4
    refine r_iload_n C dX0_can_10 (pc' := 11) rfl (j := 2) rfl ?_
    refine r_iconst C dX0_can_11 (pc' := 12) rfl (v := 1) rfl ?_
    refine r_bipush C dX0_can_12 (pc' := 14) rfl (v := 9) rfl ?_
    refine r_callSi (As := [.int x2, .int (1 : Int32), .int (9 : Int32)]) (rest := []) C (S_X0_within h) (lw_S q462 q463 q105 q464) hd_X0_within rfl rfl (Nat.le_of_ble_eq_true rfl) (Nat.le_of_ble_eq_true rfl) (Nat.le_of_ble_eq_true rfl) rfl rfl (Nat.le_of_ble_eq_true rfl) (Nat.le_of_ble_eq_true rfl) dX0_can_14 (pc' := 17) rfl (fun r_6 M_5 h m_7 => ?_)
    refine r_if_eq C dX0_can_17 (pc' := 20) rfl (tgt := 47) (by decide) (fun c_8 => ?_) (fun c_8 => ?_)
    · have h := it_t h c_8
      refine r_ldc2 C dX0_can_47 (pc' := 50) rfl q952 ?_
      exact r_lret C hE (Nat.le_of_ble_eq_true rfl) (Nat.le_of_ble_eq_true rfl) dX0_can_50 ⟨_, rfl, h⟩
    · have h := it_f h c_8
      refine r_iload_n C dX0_can_20 (pc' := 21) rfl (j := 3) rfl ?_
      refine r_iconst C dX0_can_21 (pc' := 22) rfl (v := 0) rfl ?_
      refine r_bipush C dX0_can_22 (pc' := 24) rfl (v := 60) rfl ?_
      refine r_callSi (As := [.int x3, .int (0 : Int32), .int (60 : Int32)]) (rest := []) C (S_X0_within h) (lw_S q462 q463 q105 q464) hd_X0_within rfl rfl (Nat.le_of_ble_eq_true rfl) (Nat.le_of_ble_eq_true rfl) (Nat.le_of_ble_eq_true rfl) rfl rfl (Nat.le_of_ble_eq_true rfl) (Nat.le_of_ble_eq_true rfl) dX0_can_24 (pc' := 27) rfl (fun r_10 M_9 h m_11 => ?_)
      refine r_if_eq C dX0_can_27 (pc' := 30) rfl (tgt := 47) (by decide) (fun c_12 => ?_) (fun c_12 => ?_)
      · have h := it_t h c_12
        refine r_ldc2 C dX0_can_47 (pc' := 50) rfl q952 ?_
        exact r_lret C hE (Nat.le_of_ble_eq_true rfl) (Nat.le_of_ble_eq_true rfl) dX0_can_50 ⟨_, rfl, h⟩
      · have h := it_f h c_12
        refine r_iload C dX0_can_30 (pc' := 32) rfl (j := 4) rfl ?_
        refine r_iconst C dX0_can_32 (pc' := 33) rfl (v := 2) rfl ?_
        refine r_callSi (As := [.int x4, .int (2 : Int32)]) (rest := []) C (S_X0_in h) (lw_S q459 q460 q105 q461) hd_X0_in rfl rfl (Nat.le_of_ble_eq_true rfl) (Nat.le_of_ble_eq_true rfl) (Nat.le_of_ble_eq_true rfl) rfl rfl (Nat.le_of_ble_eq_true rfl) (Nat.le_of_ble_eq_true rfl) dX0_can_33 (pc' := 36) rfl (fun r_14 M_13 h m_15 => ?_)
        refine r_if_eq C dX0_can_36 (pc' := 39) rfl (tgt := 47) (by decide) (fun c_16 => ?_) (fun c_16 => ?_)
        · have h := it_t h c_16
          refine r_ldc2 C dX0_can_47 (pc' := 50) rfl q952 ?_
          exact r_lret C hE (Nat.le_of_ble_eq_true rfl) (Nat.le_of_ble_eq_true rfl) dX0_can_50 ⟨_, rfl, h⟩
        · have h := it_f h c_16
          refine r_iload_n C dX0_can_39 (pc' := 40) rfl (j := 1) rfl ?_
          refine r_aload_n C dX0_can_40 (pc' := 41) rfl (j := 0) rfl ?_
          refine r_getf C (Cn := RX0) (T := TX0) 7 (mMo.kd m_15 (mMo.kd m_11 (mMo.kd m_7 (mMo.kd m_3 k_a0 (by decide)) (by decide)) (by decide)) (by decide)) (by decide) vc_X0 in_X0 (by decide) q361 dX0_can_41 (pc' := 44) rfl (v := .int (mgI M_13 a0 7)) rfl ?_
          refine r_icmp_le C dX0_can_44 (pc' := 47) rfl (tgt := 51) (by decide) (fun c_17 => ?_) (fun c_17 => ?_)
          · have h := it_t h c_17
            refine r_aload_n C dX0_can_51 (pc' := 52) rfl (j := 0) rfl ?_
            refine r_iconst C dX0_can_52 (pc' := 53) rfl (v := 0) rfl ?_
            obtain ⟨M_18, e_19, h⟩ := bn_ h
            refine r_putI C (Cn := RX0) (T := TX0) tyX0 7 (mMo.kd m_15 (mMo.kd m_11 (mMo.kd m_7 (mMo.kd m_3 k_a0 (by decide)) (by decide)) (by decide)) (by decide)) (by decide) vc_X0 in_X0 tyX0_ok nmX0 (by decide) q361 rfl rfl dX0_can_53 (pc' := 56) rfl rfl rfl M_18 e_19 ?_
            refine r_iconst C dX0_can_56 (pc' := 57) rfl (v := 0) rfl ?_
            refine r_istore C (lv' := [(5, .int (0 : Int32)), (0, .ref a0), (1, .int x1), (2, .int x2), (3, .int x3), (4, .int x4)]) dX0_can_57 (pc' := 59) rfl (0 : Int32) rfl (Nat.le_of_ble_eq_true rfl) rfl ?_
            obtain ⟨n_31, h⟩ := h
            refine r_sub (lv' := [(0, .ref a0), (1, .int x1), (2, .int x2), (3, .int x3), (4, .int x4), (5, .int (0 : Int32))]) [1, 2, 3, 4, 5, 0] rfl ?_
            refine B_X0_can_59 C hE n_31 M_18 (0 : Int32) (mMo.kd (mo_I e_19) (mMo.kd m_15 (mMo.kd m_11 (mMo.kd m_7 (mMo.kd m_3 k_a0 (by decide)) (by decide)) (by decide)) (by decide)) (by decide)) h (fun M_32 m_33 h => ?_) (fun M_34 m_35 h => ?_)
            · refine r_ldc2 C dX0_can_81 (pc' := 84) rfl q1058 ?_
              exact r_lret C hE (Nat.le_of_ble_eq_true rfl) (Nat.le_of_ble_eq_true rfl) dX0_can_84 ⟨_, rfl, h⟩
            · refine r_lconst C dX0_can_91 (pc' := 92) rfl (v := 0) rfl ?_
              refine r_lstore C (lv' := [(5, .long (0 : Int64)), (0, .ref a0), (1, .int x1), (2, .int x2), (3, .int x3), (4, .int x4)]) dX0_can_92 (pc' := 94) rfl (0 : Int64) rfl (Nat.le_of_ble_eq_true rfl) rfl ?_
              refine r_iconst C dX0_can_94 (pc' := 95) rfl (v := 0) rfl ?_
              refine r_istore C (lv' := [(7, .int (0 : Int32)), (5, .long (0 : Int64)), (0, .ref a0), (1, .int x1), (2, .int x2), (3, .int x3), (4, .int x4)]) dX0_can_95 (pc' := 97) rfl (0 : Int32) rfl (Nat.le_of_ble_eq_true rfl) rfl ?_
              obtain ⟨n_72, h⟩ := h
              refine r_sub (lv' := [(0, .ref a0), (1, .int x1), (2, .int x2), (3, .int x3), (4, .int x4), (5, .long (0 : Int64)), (7, .int (0 : Int32))]) [2, 3, 4, 5, 6, 1, 0] rfl ?_
              refine B_X0_can_97 C hE n_72 M_34 (0 : Int64) (0 : Int32) (mMo.kd m_35 (mMo.kd (mo_I e_19) (mMo.kd m_15 (mMo.kd m_11 (mMo.kd m_7 (mMo.kd m_3 k_a0 (by decide)) (by decide)) (by decide)) (by decide)) (by decide)) (by decide)) h (fun M_73 x5_75 m_74 h => ?_)
              refine r_bipush C dX0_can_213 (pc' := 215) rfl (v := 10) rfl ?_
              refine r_iload_n C dX0_can_215 (pc' := 216) rfl (j := 0) rfl ?_
              refine r_callSl (As := [.int (10 : Int32), .int x1]) (rest := []) C (S_X0_powerOf h) (lw_S q962 q963 q105 q964) hd_X0_powerOf rfl rfl (Nat.le_of_ble_eq_true rfl) (Nat.le_of_ble_eq_true rfl) (Nat.le_of_ble_eq_true rfl) rfl rfl (Nat.le_of_ble_eq_true rfl) (Nat.le_of_ble_eq_true rfl) dX0_can_216 (pc' := 219) rfl (fun r_77 M_76 h m_78 => ?_)
              refine r_lstore C (lv' := [(7, .long r_77), (1, .int x1), (4, .int x4), (5, .long x5_75)]) dX0_can_219 (pc' := 221) rfl r_77 rfl (Nat.le_of_ble_eq_true rfl) rfl ?_
              refine r_lload C dX0_can_221 (pc' := 223) rfl (j := 3) rfl ?_
              refine r_lload C dX0_can_223 (pc' := 225) rfl (j := 0) rfl ?_
              refine r_callSl (As := [.long x5_75, .long r_77]) (rest := []) C (S_X0_divisor h) (lw_S q1059 q1060 q105 q1061) hd_X0_divisor rfl rfl (Nat.le_of_ble_eq_true rfl) (Nat.le_of_ble_eq_true rfl) (Nat.le_of_ble_eq_true rfl) rfl rfl (Nat.le_of_ble_eq_true rfl) (Nat.le_of_ble_eq_true rfl) dX0_can_225 (pc' := 228) rfl (fun r_80 M_79 h m_81 => ?_)
              refine r_lstore C (lv' := [(9, .long r_80), (7, .long r_77), (1, .int x1), (4, .int x4), (5, .long x5_75)]) dX0_can_228 (pc' := 230) rfl r_80 rfl (Nat.le_of_ble_eq_true rfl) rfl ?_
              refine r_iload C dX0_can_230 (pc' := 232) rfl (j := 3) rfl ?_
              refine r_if_ne C dX0_can_232 (pc' := 235) rfl (tgt := 243) (by decide) (fun c_82 => ?_) (fun c_82 => ?_)
              · have h := it_f h c_82
                refine r_lload C dX0_can_243 (pc' := 245) rfl (j := 1) rfl ?_
                refine r_lload C dX0_can_245 (pc' := 247) rfl (j := 0) rfl ?_
                obtain ⟨c_83, h⟩ := h
                refine r_ldiv C dX0_can_247 (pc' := 248) rfl c_83 ?_
                exact r_lret C hE (Nat.le_of_ble_eq_true rfl) (Nat.le_of_ble_eq_true rfl) dX0_can_248 ⟨_, rfl, h⟩
              · have h := it_t h c_82
                refine r_lload C dX0_can_235 (pc' := 237) rfl (j := 4) rfl ?_
                refine r_lload C dX0_can_237 (pc' := 239) rfl (j := 0) rfl ?_
                obtain ⟨c_84, h⟩ := h
                refine r_ldiv C dX0_can_239 (pc' := 240) rfl c_84 ?_
                refine r_goto C dX0_can_240 (tgt := 248) (by decide) ?_
                exact r_lret C hE (Nat.le_of_ble_eq_true rfl) (Nat.le_of_ble_eq_true rfl) dX0_can_248 ⟨_, rfl, h⟩
          · have h := it_f h c_17
            refine r_ldc2 C dX0_can_47 (pc' := 50) rfl q952 ?_
            exact r_lret C hE (Nat.le_of_ble_eq_true rfl) (Nat.le_of_ble_eq_true rfl) dX0_can_50 ⟨_, rfl, h⟩
set_option maxHeartbeats 4000000 in
theorem S_X0_seed {D : DD} {l : Launch} {M : MM} {a0 : Nat} {x1 : Int32} {Post : Int32 → MM → Prop} (k_a0 : mkd M a0 = 1) (h : wp_X0_seed M a0 x1 Post) : mMet D l yX0_seed cX0_seed 2 ((some .boolean)) { frames := 1, cells := 0, slots := 0, locals := 21 } M [.ref a0, .int x1] (pI_ Post) := by
  refine m_of2 [(0, .ref a0), (1, .int x1)] (by decide +kernel) (Nat.le_of_ble_eq_true rfl) rfl (fun E hED hEl C hE => ?_)
  subst hED
  subst hEl
  unfold wp_X0_seed at h
  refine r_iload_n C dX0_seed_0 (pc' := 1) rfl (j := 1) rfl ?_
  refine r_ldcw C dX0_seed_1 (pc' := 4) rfl q1189 ?_
  refine r_callSi (As := [.int x1, .int (65536 : Int32)]) (rest := []) C (S_X0_in h) (lw_S q459 q460 q105 q461) hd_X0_in rfl rfl (Nat.le_of_ble_eq_true rfl) (Nat.le_of_ble_eq_true rfl) (Nat.le_of_ble_eq_true rfl) rfl rfl (Nat.le_of_ble_eq_true rfl) (Nat.le_of_ble_eq_true rfl) dX0_seed_4 (pc' := 7) rfl (fun r_2 M_1 h m_3 => ?_)
  refine r_if_ne C dX0_seed_7 (pc' := 10) rfl (tgt := 12) (by decide) (fun c_4 => ?_) (fun c_4 => ?_)
  · have h := it_f h c_4
    refine r_aload_n C dX0_seed_12 (pc' := 13) rfl (j := 0) rfl ?_
    refine r_getf C (Cn := RX0) (T := TX0) 1 (mMo.kd m_3 k_a0 (by decide)) (by decide) vc_X0 in_X0 (by decide) q351 dX0_seed_13 (pc' := 16) rfl (v := va_rf (mgR M_1 a0 1)) rfl ?_
    obtain ⟨b_5, e_6, k_7, h⟩ := h
    refine r_ref [] e_6 ?_
    refine r_iload_n C dX0_seed_16 (pc' := 17) rfl (j := 1) rfl ?_
    obtain ⟨M_8, e_9, h⟩ := bn_ h
    refine r_putIN C (Cn := RX3) (T := TX3) tyX3 3 k_7 (by decide) vc_X3 in_X3 tyX3_ok nmX3 (by decide) (List.mem_of_getElem? (i := 24) rfl) rfl rfl dX0_seed_17 (pc' := 20) rfl rfl rfl M_8 e_9 ?_
    refine r_iconst C dX0_seed_20 (pc' := 21) rfl (v := 1) rfl ?_
    exact r_zret C hE (Or.inr rfl) (Nat.le_of_ble_eq_true rfl) (Nat.le_of_ble_eq_true rfl) dX0_seed_21 ⟨_, rfl, h⟩
  · have h := it_t h c_4
    refine r_iconst C dX0_seed_10 (pc' := 11) rfl (v := 0) rfl ?_
    exact r_zret C hE (Or.inl rfl) (Nat.le_of_ble_eq_true rfl) (Nat.le_of_ble_eq_true rfl) dX0_seed_11 ⟨_, rfl, h⟩
set_option maxHeartbeats 4000000 in
theorem B_X0_keep_33 {E : mE} {a2 : Nat} {x3 : Int32} {X71 : MM → Int32 → Prop} {Post : Int32 → MM → Prop} (C : mC E yX0_keep cX0_keep 6 ((some .int)) { frames := 2, cells := 0, slots := 0, locals := 44 }) (hE : mEnd E { frames := 2, cells := 0, slots := 0, locals := 44 } (pI_ Post)) : ∀ (n_ : Nat) (M : MM) (x1 : Int32) (x4 : Int32), mkd M a2 = 103 → wl_X0_keep_33 a2 x3 X71 n_ M x1 x4 → (∀ (M' : MM) (x1' : Int32), mMo M M' → X71 M' x1' → mV E M' 0 0 71 [(1, .int x1')] []) → mV E M 0 0 33 [(1, .int x1), (2, .ref a2), (3, .int x3), (4, .int x4)] [] := by
  intro n_
  induction n_ with
  | zero =>
    intro M x1 x4 k_a2 h hX71
    exact absurd h (by rw [wl_X0_keep_33]; exact fun q => q)
  | succ n_ ih =>
    intro M x1 x4 k_a2 h hX71
    rw [wl_X0_keep_33] at h
    refine r_iload C dX0_keep_33 (pc' := 35) rfl (j := 3) rfl ?_
    refine r_iload_n C dX0_keep_35 (pc' := 36) rfl (j := 2) rfl ?_
    refine r_icmp_ge C dX0_keep_36 (pc' := 39) rfl (tgt := 71) (by decide) (fun c_23 => ?_) (fun c_23 => ?_)
    · have h := it_t h c_23
      refine r_sub (lv' := [(1, .int x1)]) [0] rfl ?_
      exact hX71 M x1 mMo.rf h
    · have h := it_f h c_23
      refine r_aload_n C dX0_keep_39 (pc' := 40) rfl (j := 1) rfl ?_
      refine r_iload C dX0_keep_40 (pc' := 42) rfl (j := 3) rfl ?_
      obtain ⟨c_24, h⟩ := h
      refine r_aald C (t := 3) (j := (ix_ x4)) k_a2 (by decide) rfl rfl c_24 rfl dX0_keep_42 (pc' := 43) rfl ?_
      obtain ⟨b_25, e_26, k_27, h⟩ := h
      refine r_ref [] e_26 ?_
      refine r_astore C (lv' := [(5, .ref b_25), (1, .int x1), (2, .ref a2), (3, .int x3), (4, .int x4)]) dX0_keep_43 (pc' := 45) rfl b_25 rfl (Nat.le_of_ble_eq_true rfl) rfl ?_
      refine r_iload_n C dX0_keep_45 (pc' := 46) rfl (j := 1) rfl ?_
      refine r_aload C dX0_keep_46 (pc' := 48) rfl (j := 0) rfl ?_
      refine r_getfN C (Cn := RX4) (T := TX4) 8 k_27 (by decide) vc_X4 in_X4 (by decide) (List.mem_of_getElem? (i := 1) rfl) dX0_keep_48 (pc' := 51) rfl (v := .int (mgI M b_25 8)) rfl ?_
      refine r_if_eq C dX0_keep_51 (pc' := 54) rfl (tgt := 62) (by decide) (fun c_28 => ?_) (fun c_28 => ?_)
      · have h := it_t h c_28
        refine r_iconst C dX0_keep_62 (pc' := 63) rfl (v := 0) rfl ?_
        refine r_iadd C dX0_keep_63 (pc' := 64) rfl ?_
        obtain ⟨x1_29, e_30, h⟩ := bn_ h
        refine r_istore_n C (lv' := [(1, .int x1_29), (5, .ref b_25), (2, .ref a2), (3, .int x3), (4, .int x4)]) dX0_keep_64 (pc' := 65) rfl rfl x1_29 e_30 (Nat.le_of_ble_eq_true rfl) rfl ?_
        obtain ⟨x4_31, e_32, h⟩ := bn_ h
        refine r_iinc C (lv' := [(4, .int x4_31), (1, .int x1_29), (5, .ref b_25), (2, .ref a2), (3, .int x3)]) dX0_keep_65 (pc' := 68) rfl (j := 4) rfl x4_31 (by rw [e_32]; rfl) (Nat.le_of_ble_eq_true rfl) rfl ?_
        refine r_goto C dX0_keep_68 (tgt := 33) (by decide) ?_
        refine r_sub (lv' := [(1, .int x1_29), (2, .ref a2), (3, .int x3), (4, .int x4_31)]) [1, 3, 4, 0] rfl ?_
        exact ih M x1_29 x4_31 k_a2 h (fun M9 w0 hm9 h9 => hX71 M9 w0 hm9 h9)
      · have h := it_f h c_28
        refine r_aload C dX0_keep_54 (pc' := 56) rfl (j := 0) rfl ?_
        refine r_getfN C (Cn := RX4) (T := TX4) 2 k_27 (by decide) vc_X4 in_X4 (by decide) (List.mem_of_getElem? (i := 7) rfl) dX0_keep_56 (pc' := 59) rfl (v := .int (mgI M b_25 2)) rfl ?_
        refine r_goto C dX0_keep_59 (tgt := 63) (by decide) ?_
        refine r_iadd C dX0_keep_63 (pc' := 64) rfl ?_
        obtain ⟨x1_33, e_34, h⟩ := bn_ h
        refine r_istore_n C (lv' := [(1, .int x1_33), (5, .ref b_25), (2, .ref a2), (3, .int x3), (4, .int x4)]) dX0_keep_64 (pc' := 65) rfl rfl x1_33 e_34 (Nat.le_of_ble_eq_true rfl) rfl ?_
        obtain ⟨x4_35, e_36, h⟩ := bn_ h
        refine r_iinc C (lv' := [(4, .int x4_35), (1, .int x1_33), (5, .ref b_25), (2, .ref a2), (3, .int x3)]) dX0_keep_65 (pc' := 68) rfl (j := 4) rfl x4_35 (by rw [e_36]; rfl) (Nat.le_of_ble_eq_true rfl) rfl ?_
        refine r_goto C dX0_keep_68 (tgt := 33) (by decide) ?_
        refine r_sub (lv' := [(1, .int x1_33), (2, .ref a2), (3, .int x3), (4, .int x4_35)]) [1, 3, 4, 0] rfl ?_
        exact ih M x1_33 x4_35 k_a2 h (fun M9 w0 hm9 h9 => hX71 M9 w0 hm9 h9)
set_option maxHeartbeats 4000000 in
theorem S_X0_keep {D : DD} {l : Launch} {M : MM} {a0 : Nat} {Post : Int32 → MM → Prop} (k_a0 : mkd M a0 = 1) (h : wp_X0_keep M a0 Post) : mMet D l yX0_keep cX0_keep 6 ((some .int)) { frames := 2, cells := 0, slots := 0, locals := 44 } M [.ref a0] (pI_ Post) := by
  refine m_of2 [(0, .ref a0)] (by decide +kernel) (Nat.le_of_ble_eq_true rfl) rfl (fun E hED hEl C hE => ?_)
  subst hED
  subst hEl
  unfold wp_X0_keep at h
  refine r_aload_n C dX0_keep_0 (pc' := 1) rfl (j := 0) rfl ?_
  refine r_iconst C dX0_keep_1 (pc' := 2) rfl (v := 1) rfl ?_
  obtain ⟨M_1, e_2, h⟩ := bn_ h
  refine r_putI C (Cn := RX0) (T := TX0) tyX0 8 k_a0 (by decide) vc_X0 in_X0 tyX0_ok nmX0 (by decide) q362 rfl rfl dX0_keep_2 (pc' := 5) rfl rfl rfl M_1 e_2 ?_
  refine r_aload_n C dX0_keep_5 (pc' := 6) rfl (j := 0) rfl ?_
  refine r_getf C (Cn := RX0) (T := TX0) 3 (mMo.kd (mo_I e_2) k_a0 (by decide)) (by decide) vc_X0 in_X0 (by decide) q353 dX0_keep_6 (pc' := 9) rfl (v := va_rf (mgR M_1 a0 3)) rfl ?_
  obtain ⟨b_3, e_4, k_5, h⟩ := h
  refine r_ref [] e_4 ?_
  refine r_aload_n C dX0_keep_9 (pc' := 10) rfl (j := 0) rfl ?_
  refine r_getf C (Cn := RX0) (T := TX0) 1 (mMo.kd (mo_I e_2) k_a0 (by decide)) (by decide) vc_X0 in_X0 (by decide) q351 dX0_keep_10 (pc' := 13) rfl (v := va_rf (mgR M_1 a0 1)) rfl ?_
  obtain ⟨b_6, e_7, k_8, h⟩ := h
  refine r_ref [] e_7 ?_
  refine r_callVq (As := [.ref b_6]) (rest := []) (Cn := RX3) (T := TX3) C k_5 (by decide) vc_X3 (S_X3_takes k_5 k_8 h) (lw_V q908 q909 q910 q108 q911) rfl hd_X3_takes rfl rfl (Nat.le_of_ble_eq_true rfl) (Nat.le_of_ble_eq_true rfl) (Nat.le_of_ble_eq_true rfl) rfl rfl (Nat.le_of_ble_eq_true rfl) (Nat.le_of_ble_eq_true rfl) dX0_keep_13 (pc' := 16) rfl (fun r_10 M_9 h m_11 => ?_)
  obtain ⟨b_12, e_13, k_14, h⟩ := h
  refine r_ref [] e_13 ?_
  refine r_pop C dX0_keep_16 (pc' := 17) rfl rfl ?_
  refine r_iconst C dX0_keep_17 (pc' := 18) rfl (v := 0) rfl ?_
  refine r_istore_n C (lv' := [(1, .int (0 : Int32)), (0, .ref a0)]) dX0_keep_18 (pc' := 19) rfl rfl (0 : Int32) rfl (Nat.le_of_ble_eq_true rfl) rfl ?_
  refine r_aload_n C dX0_keep_19 (pc' := 20) rfl (j := 1) rfl ?_
  refine r_getf C (Cn := RX0) (T := TX0) 1 (mMo.kd m_11 (mMo.kd (mo_I e_2) k_a0 (by decide)) (by decide)) (by decide) vc_X0 in_X0 (by decide) q351 dX0_keep_20 (pc' := 23) rfl (v := va_rf (mgR M_9 a0 1)) rfl ?_
  obtain ⟨b_15, e_16, k_17, h⟩ := h
  refine r_ref [] e_16 ?_
  refine r_getfN C (Cn := RX3) (T := TX3) 0 k_17 (by decide) vc_X3 in_X3 (by decide) (List.mem_of_getElem? (i := 0) rfl) dX0_keep_23 (pc' := 26) rfl (v := va_rf (mgR M_9 b_15 0)) rfl ?_
  obtain ⟨b_18, e_19, k_20, h⟩ := h
  refine r_ref [] e_19 ?_
  refine r_astore_n C (lv' := [(2, .ref b_18), (1, .int (0 : Int32)), (0, .ref a0)]) dX0_keep_26 (pc' := 27) rfl rfl b_18 rfl (Nat.le_of_ble_eq_true rfl) rfl ?_
  refine r_aload_n C dX0_keep_27 (pc' := 28) rfl (j := 0) rfl ?_
  refine r_alen C (t := 3) k_20 (by decide) dX0_keep_28 (pc' := 29) rfl ?_
  obtain ⟨x3_21, e_22, h⟩ := bn_ h
  refine r_istore_n C (lv' := [(3, .int x3_21), (2, .ref b_18), (1, .int (0 : Int32)), (0, .ref a0)]) dX0_keep_29 (pc' := 30) rfl rfl x3_21 e_22 (Nat.le_of_ble_eq_true rfl) rfl ?_
  refine r_iconst C dX0_keep_30 (pc' := 31) rfl (v := 0) rfl ?_
  refine r_istore C (lv' := [(4, .int (0 : Int32)), (3, .int x3_21), (2, .ref b_18), (1, .int (0 : Int32)), (0, .ref a0)]) dX0_keep_31 (pc' := 33) rfl (0 : Int32) rfl (Nat.le_of_ble_eq_true rfl) rfl ?_
  obtain ⟨n_37, h⟩ := h
  refine r_sub (lv' := [(1, .int (0 : Int32)), (2, .ref b_18), (3, .int x3_21), (4, .int (0 : Int32))]) [3, 2, 1, 0] rfl ?_
  refine B_X0_keep_33 C hE n_37 M_9 (0 : Int32) (0 : Int32) k_20 h (fun M_38 x1_40 m_39 h => ?_)
  refine r_iload_n C dX0_keep_71 (pc' := 72) rfl (j := 0) rfl ?_
  exact r_iret C hE (Nat.le_of_ble_eq_true rfl) (Nat.le_of_ble_eq_true rfl) dX0_keep_72 ⟨_, rfl, h⟩
set_option maxHeartbeats 4000000 in
theorem S_X0_undo {D : DD} {l : Launch} {M : MM} {a0 : Nat} {Post : Int32 → MM → Prop} (k_a0 : mkd M a0 = 1) (h : wp_X0_undo M a0 Post) : mMet D l yX0_undo cX0_undo 1 ((some .boolean)) { frames := 2, cells := 0, slots := 0, locals := 44 } M [.ref a0] (pI_ Post) := by
  refine m_of2 [(0, .ref a0)] (by decide +kernel) (Nat.le_of_ble_eq_true rfl) rfl (fun E hED hEl C hE => ?_)
  subst hED
  subst hEl
  unfold wp_X0_undo at h
  refine r_aload_n C dX0_undo_0 (pc' := 1) rfl (j := 0) rfl ?_
  refine r_getf C (Cn := RX0) (T := TX0) 8 k_a0 (by decide) vc_X0 in_X0 (by decide) q362 dX0_undo_1 (pc' := 4) rfl (v := .int (mgI M a0 8)) rfl ?_
  refine r_if_ne C dX0_undo_4 (pc' := 7) rfl (tgt := 9) (by decide) (fun c_1 => ?_) (fun c_1 => ?_)
  · have h := it_f h c_1
    refine r_aload_n C dX0_undo_9 (pc' := 10) rfl (j := 0) rfl ?_
    refine r_getf C (Cn := RX0) (T := TX0) 1 k_a0 (by decide) vc_X0 in_X0 (by decide) q351 dX0_undo_10 (pc' := 13) rfl (v := va_rf (mgR M a0 1)) rfl ?_
    obtain ⟨b_2, e_3, k_4, h⟩ := h
    refine r_ref [] e_3 ?_
    refine r_aload_n C dX0_undo_13 (pc' := 14) rfl (j := 0) rfl ?_
    refine r_getf C (Cn := RX0) (T := TX0) 3 k_a0 (by decide) vc_X0 in_X0 (by decide) q353 dX0_undo_14 (pc' := 17) rfl (v := va_rf (mgR M a0 3)) rfl ?_
    obtain ⟨b_5, e_6, k_7, h⟩ := h
    refine r_ref [] e_6 ?_
    refine r_callVq (As := [.ref b_5]) (rest := []) (Cn := RX3) (T := TX3) C k_4 (by decide) vc_X3 (S_X3_takes k_4 k_7 h) (lw_V q908 q909 q910 q108 q911) rfl hd_X3_takes rfl rfl (Nat.le_of_ble_eq_true rfl) (Nat.le_of_ble_eq_true rfl) (Nat.le_of_ble_eq_true rfl) rfl rfl (Nat.le_of_ble_eq_true rfl) (Nat.le_of_ble_eq_true rfl) dX0_undo_17 (pc' := 20) rfl (fun r_9 M_8 h m_10 => ?_)
    obtain ⟨b_11, e_12, k_13, h⟩ := h
    refine r_ref [] e_12 ?_
    refine r_pop C dX0_undo_20 (pc' := 21) rfl rfl ?_
    refine r_iconst C dX0_undo_21 (pc' := 22) rfl (v := 1) rfl ?_
    exact r_zret C hE (Or.inr rfl) (Nat.le_of_ble_eq_true rfl) (Nat.le_of_ble_eq_true rfl) dX0_undo_22 ⟨_, rfl, h⟩
  · have h := it_t h c_1
    refine r_iconst C dX0_undo_7 (pc' := 8) rfl (v := 0) rfl ?_
    exact r_zret C hE (Or.inl rfl) (Nat.le_of_ble_eq_true rfl) (Nat.le_of_ble_eq_true rfl) dX0_undo_8 ⟨_, rfl, h⟩
set_option maxHeartbeats 4000000 in
theorem B_X0_numberAt_4 {E : mE} {a0 : Nat} {x1 : Int32} {X35 : MM → Int32 → Prop} {Post : Int32 → MM → Prop} (C : mC E yX0_numberAt cX0_numberAt 4 ((some .int)) { frames := 0, cells := 0, slots := 0, locals := 0 }) (hE : mEnd E { frames := 0, cells := 0, slots := 0, locals := 0 } (pI_ Post)) : ∀ (n_ : Nat) (M : MM) (x2 : Int32) (x3 : Int32), mkd M a0 = 1 → wl_X0_numberAt_4 a0 x1 X35 n_ M x2 x3 → (∀ (M' : MM) (x2' : Int32), mMo M M' → X35 M' x2' → mV E M' 0 0 35 [(2, .int x2')] []) → mV E M 0 0 4 [(0, .ref a0), (1, .int x1), (2, .int x2), (3, .int x3)] [] := by
  intro n_
  induction n_ with
  | zero =>
    intro M x2 x3 k_a0 h hX35
    exact absurd h (by rw [wl_X0_numberAt_4]; exact fun q => q)
  | succ n_ ih =>
    intro M x2 x3 k_a0 h hX35
    rw [wl_X0_numberAt_4] at h
    refine r_iload_n C dX0_numberAt_4 (pc' := 5) rfl (j := 3) rfl ?_
    refine r_iconst C dX0_numberAt_5 (pc' := 6) rfl (v := 4) rfl ?_
    refine r_icmp_ge C dX0_numberAt_6 (pc' := 9) rfl (tgt := 35) (by decide) (fun c_1 => ?_) (fun c_1 => ?_)
    · have h := it_t h c_1
      refine r_sub (lv' := [(2, .int x2)]) [2] rfl ?_
      exact hX35 M x2 mMo.rf h
    · have h := it_f h c_1
      refine r_iload_n C dX0_numberAt_9 (pc' := 10) rfl (j := 2) rfl ?_
      refine r_bipush C dX0_numberAt_10 (pc' := 12) rfl (v := 8) rfl ?_
      refine r_ishl C dX0_numberAt_12 (pc' := 13) rfl ?_
      refine r_aload_n C dX0_numberAt_13 (pc' := 14) rfl (j := 0) rfl ?_
      refine r_getf C (Cn := RX0) (T := TX0) 4 k_a0 (by decide) vc_X0 in_X0 (by decide) q356 dX0_numberAt_14 (pc' := 17) rfl (v := va_rf (mgR M a0 4)) rfl ?_
      obtain ⟨b_2, e_3, k_4, h⟩ := h
      refine r_ref [] e_3 ?_
      refine r_iconst C dX0_numberAt_17 (pc' := 18) rfl (v := 4) rfl ?_
      refine r_iload_n C dX0_numberAt_18 (pc' := 19) rfl (j := 1) rfl ?_
      refine r_imul C dX0_numberAt_19 (pc' := 20) rfl ?_
      refine r_iload_n C dX0_numberAt_20 (pc' := 21) rfl (j := 3) rfl ?_
      refine r_iadd C dX0_numberAt_21 (pc' := 22) rfl ?_
      obtain ⟨c_5, h⟩ := h
      refine r_bald C (j := (ix_ (((4 : Int32) * x1) + x3))) k_4 c_5 rfl dX0_numberAt_22 (pc' := 23) rfl ?_
      refine r_sipush C dX0_numberAt_23 (pc' := 26) rfl (v := 255) rfl ?_
      refine r_iand C dX0_numberAt_26 (pc' := 27) rfl ?_
      refine r_ior C dX0_numberAt_27 (pc' := 28) rfl ?_
      obtain ⟨x2_6, e_7, h⟩ := bn_ h
      refine r_istore_n C (lv' := [(2, .int x2_6), (0, .ref a0), (1, .int x1), (3, .int x3)]) dX0_numberAt_28 (pc' := 29) rfl rfl x2_6 e_7 (Nat.le_of_ble_eq_true rfl) rfl ?_
      obtain ⟨x3_8, e_9, h⟩ := bn_ h
      refine r_iinc C (lv' := [(3, .int x3_8), (2, .int x2_6), (0, .ref a0), (1, .int x1)]) dX0_numberAt_29 (pc' := 32) rfl (j := 3) rfl x3_8 (by rw [e_9]; rfl) (Nat.le_of_ble_eq_true rfl) rfl ?_
      refine r_goto C dX0_numberAt_32 (tgt := 4) (by decide) ?_
      refine r_sub (lv' := [(0, .ref a0), (1, .int x1), (2, .int x2_6), (3, .int x3_8)]) [2, 3, 1, 0] rfl ?_
      exact ih M x2_6 x3_8 k_a0 h (fun M9 w0 hm9 h9 => hX35 M9 w0 hm9 h9)
set_option maxHeartbeats 4000000 in
theorem S_X0_numberAt {D : DD} {l : Launch} {M : MM} {a0 : Nat} {x1 : Int32} {Post : Int32 → MM → Prop} (k_a0 : mkd M a0 = 1) (h : wp_X0_numberAt M a0 x1 Post) : mMet D l yX0_numberAt cX0_numberAt 4 ((some .int)) { frames := 0, cells := 0, slots := 0, locals := 0 } M [.ref a0, .int x1] (pI_ Post) := by
  refine m_of2 [(0, .ref a0), (1, .int x1)] (by decide +kernel) (Nat.le_of_ble_eq_true rfl) rfl (fun E hED hEl C hE => ?_)
  subst hED
  subst hEl
  unfold wp_X0_numberAt at h
  refine r_iconst C dX0_numberAt_0 (pc' := 1) rfl (v := 0) rfl ?_
  refine r_istore_n C (lv' := [(2, .int (0 : Int32)), (0, .ref a0), (1, .int x1)]) dX0_numberAt_1 (pc' := 2) rfl rfl (0 : Int32) rfl (Nat.le_of_ble_eq_true rfl) rfl ?_
  refine r_iconst C dX0_numberAt_2 (pc' := 3) rfl (v := 0) rfl ?_
  refine r_istore_n C (lv' := [(3, .int (0 : Int32)), (2, .int (0 : Int32)), (0, .ref a0), (1, .int x1)]) dX0_numberAt_3 (pc' := 4) rfl rfl (0 : Int32) rfl (Nat.le_of_ble_eq_true rfl) rfl ?_
  obtain ⟨n_10, h⟩ := h
  refine r_sub (lv' := [(0, .ref a0), (1, .int x1), (2, .int (0 : Int32)), (3, .int (0 : Int32))]) [2, 3, 1, 0] rfl ?_
  refine B_X0_numberAt_4 C hE n_10 M (0 : Int32) (0 : Int32) k_a0 h (fun M_11 x2_13 m_12 h => ?_)
  refine r_iload_n C dX0_numberAt_35 (pc' := 36) rfl (j := 0) rfl ?_
  exact r_iret C hE (Nat.le_of_ble_eq_true rfl) (Nat.le_of_ble_eq_true rfl) dX0_numberAt_36 ⟨_, rfl, h⟩
set_option maxHeartbeats 4000000 in
theorem B_X0_check_38 {E : mE} {a0 : Nat} {x1 : Int32} {x2 : Int32} {X67 : MM → Int32 → Prop} {X75 : MM → Prop} {Post : Int32 → MM → Prop} (C : mC E yX0_check cX0_check 4 ((some .int)) { frames := 2, cells := 0, slots := 0, locals := 42 }) (hE : mEnd E { frames := 2, cells := 0, slots := 0, locals := 42 } (pI_ Post)) : ∀ (n_ : Nat) (M : MM) (x3 : Int32), mkd M a0 = 1 → wl_X0_check_38 a0 x1 x2 X67 X75 n_ M x3 → (∀ (M' : MM) (x3' : Int32), mMo M M' → X67 M' x3' → mV E M' 0 0 67 [(3, .int x3')] []) → (∀ (M' : MM), mMo M M' → X75 M' → mV E M' 0 0 75 [] []) → mV E M 0 0 38 [(0, .ref a0), (1, .int x1), (2, .int x2), (3, .int x3)] [] := by
  intro n_
  induction n_ with
  | zero =>
    intro M x3 k_a0 h hX67 hX75
    exact absurd h (by rw [wl_X0_check_38]; exact fun q => q)
  | succ n_ ih =>
    intro M x3 k_a0 h hX67 hX75
    rw [wl_X0_check_38] at h
    refine r_iload_n C dX0_check_38 (pc' := 39) rfl (j := 3) rfl ?_
    refine r_iload_n C dX0_check_39 (pc' := 40) rfl (j := 2) rfl ?_
    refine r_icmp_ge C dX0_check_40 (pc' := 43) rfl (tgt := 75) (by decide) (fun c_12 => ?_) (fun c_12 => ?_)
    · have h := it_t h c_12
      refine r_sub (lv' := []) [] rfl ?_
      exact hX75 M mMo.rf h
    · have h := it_f h c_12
      refine r_aload_n C dX0_check_43 (pc' := 44) rfl (j := 0) rfl ?_
      refine r_iload_n C dX0_check_44 (pc' := 45) rfl (j := 3) rfl ?_
      refine r_callVi (As := [.int x3]) (rest := []) (Cn := RX0) (T := TX0) C k_a0 (by decide) vc_X0 (S_X0_numberAt k_a0 h) (lw_V q1202 q1204 qs48 q105 q1205) rfl hd_X0_numberAt rfl rfl (Nat.le_of_ble_eq_true rfl) (Nat.le_of_ble_eq_true rfl) (Nat.le_of_ble_eq_true rfl) rfl rfl (Nat.le_of_ble_eq_true rfl) (Nat.le_of_ble_eq_true rfl) dX0_check_45 (pc' := 48) rfl (fun r_14 M_13 h m_15 => ?_)
      refine r_aload_n C dX0_check_48 (pc' := 49) rfl (j := 0) rfl ?_
      refine r_getf C (Cn := RX0) (T := TX0) 1 (mMo.kd m_15 k_a0 (by decide)) (by decide) vc_X0 in_X0 (by decide) q351 dX0_check_49 (pc' := 52) rfl (v := va_rf (mgR M_13 a0 1)) rfl ?_
      obtain ⟨b_16, e_17, k_18, h⟩ := h
      refine r_ref [] e_17 ?_
      refine r_getfN C (Cn := RX3) (T := TX3) 0 k_18 (by decide) vc_X3 in_X3 (by decide) (List.mem_of_getElem? (i := 0) rfl) dX0_check_52 (pc' := 55) rfl (v := va_rf (mgR M_13 b_16 0)) rfl ?_
      obtain ⟨b_19, e_20, k_21, h⟩ := h
      refine r_ref [] e_20 ?_
      refine r_iload_n C dX0_check_55 (pc' := 56) rfl (j := 1) rfl ?_
      obtain ⟨c_22, h⟩ := h
      refine r_aald C (t := 3) (j := (ix_ x1)) k_21 (by decide) rfl rfl c_22 rfl dX0_check_56 (pc' := 57) rfl ?_
      obtain ⟨b_23, e_24, k_25, h⟩ := h
      refine r_ref [] e_24 ?_
      refine r_bipush C dX0_check_57 (pc' := 59) rfl (v := 6) rfl ?_
      refine r_iload_n C dX0_check_59 (pc' := 60) rfl (j := 3) rfl ?_
      refine r_isub C dX0_check_60 (pc' := 61) rfl ?_
      refine r_callVi (As := [.int ((6 : Int32) - x3)]) (rest := [.int r_14]) (Cn := RX4) (T := TX4) C k_25 (by decide) vc_X4 (S_X4_looked k_25 h) (lw_V q934 q819 q820 q109 q821) rfl hd_X4_looked rfl rfl (Nat.le_of_ble_eq_true rfl) (Nat.le_of_ble_eq_true rfl) (Nat.le_of_ble_eq_true rfl) rfl rfl (Nat.le_of_ble_eq_true rfl) (Nat.le_of_ble_eq_true rfl) dX0_check_61 (pc' := 64) rfl (fun r_27 M_26 h m_28 => ?_)
      refine r_icmp_eq C dX0_check_64 (pc' := 67) rfl (tgt := 69) (by decide) (fun c_29 => ?_) (fun c_29 => ?_)
      · have h := it_t h c_29
        obtain ⟨x3_30, e_31, h⟩ := bn_ h
        refine r_iinc C (lv' := [(3, .int x3_30), (0, .ref a0), (1, .int x1), (2, .int x2)]) dX0_check_69 (pc' := 72) rfl (j := 3) rfl x3_30 (by rw [e_31]; rfl) (Nat.le_of_ble_eq_true rfl) rfl ?_
        refine r_goto C dX0_check_72 (tgt := 38) (by decide) ?_
        refine r_sub (lv' := [(0, .ref a0), (1, .int x1), (2, .int x2), (3, .int x3_30)]) [1, 2, 3, 0] rfl ?_
        exact ih M_26 x3_30 (mMo.kd m_28 (mMo.kd m_15 k_a0 (by decide)) (by decide)) h (fun M9 w0 hm9 h9 => hX67 M9 w0 (mMo.tr (mMo.tr m_15 m_28) hm9) h9) (fun M9 hm9 h9 => hX75 M9 (mMo.tr (mMo.tr m_15 m_28) hm9) h9)
      · have h := it_f h c_29
        refine r_sub (lv' := [(3, .int x3)]) [3] rfl ?_
        exact hX67 M_26 x3 (mMo.tr m_15 m_28) h
set_option maxHeartbeats 4000000 in
theorem S_X0_check {D : DD} {l : Launch} {M : MM} {a0 : Nat} {x1 : Int32} {x2 : Int32} {Post : Int32 → MM → Prop} (k_a0 : mkd M a0 = 1) (h : wp_X0_check M a0 x1 x2 Post) : mMet D l yX0_check cX0_check 4 ((some .int)) { frames := 2, cells := 0, slots := 0, locals := 42 } M [.ref a0, .int x1, .int x2] (pI_ Post) := by
  refine m_of2 [(0, .ref a0), (1, .int x1), (2, .int x2)] (by decide +kernel) (Nat.le_of_ble_eq_true rfl) rfl (fun E hED hEl C hE => ?_)
  subst hED
  subst hEl
  unfold wp_X0_check at h
  refine r_aload_n C dX0_check_0 (pc' := 1) rfl (j := 0) rfl ?_
  refine r_iload_n C dX0_check_1 (pc' := 2) rfl (j := 1) rfl ?_
  refine r_callVi (As := [.int x1]) (rest := []) (Cn := RX0) (T := TX0) C k_a0 (by decide) vc_X0 (S_X0_isPlant k_a0 h) (lw_V q473 q475 qs0 q105 q476) rfl hd_X0_isPlant rfl rfl (Nat.le_of_ble_eq_true rfl) (Nat.le_of_ble_eq_true rfl) (Nat.le_of_ble_eq_true rfl) rfl rfl (Nat.le_of_ble_eq_true rfl) (Nat.le_of_ble_eq_true rfl) dX0_check_2 (pc' := 5) rfl (fun r_2 M_1 h m_3 => ?_)
  refine r_if_eq C dX0_check_5 (pc' := 8) rfl (tgt := 28) (by decide) (fun c_4 => ?_) (fun c_4 => ?_)
  · have h := it_t h c_4
    refine r_bipush C dX0_check_28 (pc' := 30) rfl (v := -2) rfl ?_
    exact r_iret C hE (Nat.le_of_ble_eq_true rfl) (Nat.le_of_ble_eq_true rfl) dX0_check_30 ⟨_, rfl, h⟩
  · have h := it_f h c_4
    refine r_iload_n C dX0_check_8 (pc' := 9) rfl (j := 2) rfl ?_
    refine r_iconst C dX0_check_9 (pc' := 10) rfl (v := 0) rfl ?_
    refine r_bipush C dX0_check_10 (pc' := 12) rfl (v := 7) rfl ?_
    refine r_callSi (As := [.int x2, .int (0 : Int32), .int (7 : Int32)]) (rest := []) C (S_X0_within h) (lw_S q462 q463 q105 q464) hd_X0_within rfl rfl (Nat.le_of_ble_eq_true rfl) (Nat.le_of_ble_eq_true rfl) (Nat.le_of_ble_eq_true rfl) rfl rfl (Nat.le_of_ble_eq_true rfl) (Nat.le_of_ble_eq_true rfl) dX0_check_12 (pc' := 15) rfl (fun r_6 M_5 h m_7 => ?_)
    refine r_if_eq C dX0_check_15 (pc' := 18) rfl (tgt := 28) (by decide) (fun c_8 => ?_) (fun c_8 => ?_)
    · have h := it_t h c_8
      refine r_bipush C dX0_check_28 (pc' := 30) rfl (v := -2) rfl ?_
      exact r_iret C hE (Nat.le_of_ble_eq_true rfl) (Nat.le_of_ble_eq_true rfl) dX0_check_30 ⟨_, rfl, h⟩
    · have h := it_f h c_8
      refine r_iload_n C dX0_check_18 (pc' := 19) rfl (j := 2) rfl ?_
      refine r_aload_n C dX0_check_19 (pc' := 20) rfl (j := 0) rfl ?_
      refine r_getf C (Cn := RX0) (T := TX0) 7 (mMo.kd m_7 (mMo.kd m_3 k_a0 (by decide)) (by decide)) (by decide) vc_X0 in_X0 (by decide) q361 dX0_check_20 (pc' := 23) rfl (v := .int (mgI M_5 a0 7)) rfl ?_
      refine r_iconst C dX0_check_23 (pc' := 24) rfl (v := 4) rfl ?_
      refine r_idiv C dX0_check_24 (pc' := 25) rfl (by decide) ?_
      refine r_icmp_le C dX0_check_25 (pc' := 28) rfl (tgt := 31) (by decide) (fun c_9 => ?_) (fun c_9 => ?_)
      · have h := it_t h c_9
        refine r_aload_n C dX0_check_31 (pc' := 32) rfl (j := 0) rfl ?_
        refine r_iconst C dX0_check_32 (pc' := 33) rfl (v := 0) rfl ?_
        obtain ⟨M_10, e_11, h⟩ := bn_ h
        refine r_putI C (Cn := RX0) (T := TX0) tyX0 7 (mMo.kd m_7 (mMo.kd m_3 k_a0 (by decide)) (by decide)) (by decide) vc_X0 in_X0 tyX0_ok nmX0 (by decide) q361 rfl rfl dX0_check_33 (pc' := 36) rfl rfl rfl M_10 e_11 ?_
        refine r_iconst C dX0_check_36 (pc' := 37) rfl (v := 0) rfl ?_
        refine r_istore_n C (lv' := [(3, .int (0 : Int32)), (0, .ref a0), (1, .int x1), (2, .int x2)]) dX0_check_37 (pc' := 38) rfl rfl (0 : Int32) rfl (Nat.le_of_ble_eq_true rfl) rfl ?_
        obtain ⟨n_32, h⟩ := h
        refine r_sub (lv' := [(0, .ref a0), (1, .int x1), (2, .int x2), (3, .int (0 : Int32))]) [1, 2, 3, 0] rfl ?_
        refine B_X0_check_38 C hE n_32 M_10 (0 : Int32) (mMo.kd (mo_I e_11) (mMo.kd m_7 (mMo.kd m_3 k_a0 (by decide)) (by decide)) (by decide)) h (fun M_33 x3_35 m_34 h => ?_) (fun M_36 m_37 h => ?_)
        · refine r_iload_n C dX0_check_67 (pc' := 68) rfl (j := 0) rfl ?_
          exact r_iret C hE (Nat.le_of_ble_eq_true rfl) (Nat.le_of_ble_eq_true rfl) dX0_check_68 ⟨_, rfl, h⟩
        · refine r_iconst C dX0_check_75 (pc' := 76) rfl (v := -1) rfl ?_
          exact r_iret C hE (Nat.le_of_ble_eq_true rfl) (Nat.le_of_ble_eq_true rfl) dX0_check_76 ⟨_, rfl, h⟩
      · have h := it_f h c_9
        refine r_bipush C dX0_check_28 (pc' := 30) rfl (v := -2) rfl ?_
        exact r_iret C hE (Nat.le_of_ble_eq_true rfl) (Nat.le_of_ble_eq_true rfl) dX0_check_30 ⟨_, rfl, h⟩
set_option maxHeartbeats 4000000 in
theorem B_X0_toldPeople_4 {E : mE} {a0 : Nat} {X34 : MM → Int32 → Prop} {Post : Int32 → MM → Prop} (C : mC E yX0_toldPeople cX0_toldPeople 3 ((some .int)) { frames := 2, cells := 0, slots := 0, locals := 42 }) (hE : mEnd E { frames := 2, cells := 0, slots := 0, locals := 42 } (pI_ Post)) : ∀ (n_ : Nat) (M : MM) (x1 : Int32) (x2 : Int32), mkd M a0 = 1 → wl_X0_toldPeople_4 a0 X34 n_ M x1 x2 → (∀ (M' : MM) (x1' : Int32), mMo M M' → X34 M' x1' → mV E M' 0 0 34 [(1, .int x1')] []) → mV E M 0 0 4 [(0, .ref a0), (1, .int x1), (2, .int x2)] [] := by
  intro n_
  induction n_ with
  | zero =>
    intro M x1 x2 k_a0 h hX34
    exact absurd h (by rw [wl_X0_toldPeople_4]; exact fun q => q)
  | succ n_ ih =>
    intro M x1 x2 k_a0 h hX34
    rw [wl_X0_toldPeople_4] at h
    refine r_iload_n C dX0_toldPeople_4 (pc' := 5) rfl (j := 2) rfl ?_
    refine r_bipush C dX0_toldPeople_5 (pc' := 7) rfl (v := 8) rfl ?_
    refine r_icmp_ge C dX0_toldPeople_7 (pc' := 10) rfl (tgt := 34) (by decide) (fun c_1 => ?_) (fun c_1 => ?_)
    · have h := it_t h c_1
      refine r_sub (lv' := [(1, .int x1)]) [1] rfl ?_
      exact hX34 M x1 mMo.rf h
    · have h := it_f h c_1
      refine r_iload_n C dX0_toldPeople_10 (pc' := 11) rfl (j := 1) rfl ?_
      refine r_aload_n C dX0_toldPeople_11 (pc' := 12) rfl (j := 0) rfl ?_
      refine r_iload_n C dX0_toldPeople_12 (pc' := 13) rfl (j := 2) rfl ?_
      refine r_callVi (As := [.int x2]) (rest := [.int x1]) (Cn := RX0) (T := TX0) C k_a0 (by decide) vc_X0 (S_X0_isPerson k_a0 h) (lw_V q904 q906 qs19 q105 q907) rfl hd_X0_isPerson rfl rfl (Nat.le_of_ble_eq_true rfl) (Nat.le_of_ble_eq_true rfl) (Nat.le_of_ble_eq_true rfl) rfl rfl (Nat.le_of_ble_eq_true rfl) (Nat.le_of_ble_eq_true rfl) dX0_toldPeople_13 (pc' := 16) rfl (fun r_3 M_2 h m_4 => ?_)
      refine r_if_eq C dX0_toldPeople_16 (pc' := 19) rfl (tgt := 25) (by decide) (fun c_5 => ?_) (fun c_5 => ?_)
      · have h := it_t h c_5
        refine r_iconst C dX0_toldPeople_25 (pc' := 26) rfl (v := 0) rfl ?_
        refine r_ior C dX0_toldPeople_26 (pc' := 27) rfl ?_
        obtain ⟨x1_6, e_7, h⟩ := bn_ h
        refine r_istore_n C (lv' := [(1, .int x1_6), (0, .ref a0), (2, .int x2)]) dX0_toldPeople_27 (pc' := 28) rfl rfl x1_6 e_7 (Nat.le_of_ble_eq_true rfl) rfl ?_
        obtain ⟨x2_8, e_9, h⟩ := bn_ h
        refine r_iinc C (lv' := [(2, .int x2_8), (1, .int x1_6), (0, .ref a0)]) dX0_toldPeople_28 (pc' := 31) rfl (j := 2) rfl x2_8 (by rw [e_9]; rfl) (Nat.le_of_ble_eq_true rfl) rfl ?_
        refine r_goto C dX0_toldPeople_31 (tgt := 4) (by decide) ?_
        refine r_sub (lv' := [(0, .ref a0), (1, .int x1_6), (2, .int x2_8)]) [2, 1, 0] rfl ?_
        exact ih M_2 x1_6 x2_8 (mMo.kd m_4 k_a0 (by decide)) h (fun M9 w0 hm9 h9 => hX34 M9 w0 (mMo.tr m_4 hm9) h9)
      · have h := it_f h c_5
        refine r_iconst C dX0_toldPeople_19 (pc' := 20) rfl (v := 1) rfl ?_
        refine r_iload_n C dX0_toldPeople_20 (pc' := 21) rfl (j := 2) rfl ?_
        refine r_ishl C dX0_toldPeople_21 (pc' := 22) rfl ?_
        refine r_goto C dX0_toldPeople_22 (tgt := 26) (by decide) ?_
        refine r_ior C dX0_toldPeople_26 (pc' := 27) rfl ?_
        obtain ⟨x1_10, e_11, h⟩ := bn_ h
        refine r_istore_n C (lv' := [(1, .int x1_10), (0, .ref a0), (2, .int x2)]) dX0_toldPeople_27 (pc' := 28) rfl rfl x1_10 e_11 (Nat.le_of_ble_eq_true rfl) rfl ?_
        obtain ⟨x2_12, e_13, h⟩ := bn_ h
        refine r_iinc C (lv' := [(2, .int x2_12), (1, .int x1_10), (0, .ref a0)]) dX0_toldPeople_28 (pc' := 31) rfl (j := 2) rfl x2_12 (by rw [e_13]; rfl) (Nat.le_of_ble_eq_true rfl) rfl ?_
        refine r_goto C dX0_toldPeople_31 (tgt := 4) (by decide) ?_
        refine r_sub (lv' := [(0, .ref a0), (1, .int x1_10), (2, .int x2_12)]) [2, 1, 0] rfl ?_
        exact ih M_2 x1_10 x2_12 (mMo.kd m_4 k_a0 (by decide)) h (fun M9 w0 hm9 h9 => hX34 M9 w0 (mMo.tr m_4 hm9) h9)
set_option maxHeartbeats 4000000 in
theorem S_X0_toldPeople {D : DD} {l : Launch} {M : MM} {a0 : Nat} {Post : Int32 → MM → Prop} (k_a0 : mkd M a0 = 1) (h : wp_X0_toldPeople M a0 Post) : mMet D l yX0_toldPeople cX0_toldPeople 3 ((some .int)) { frames := 2, cells := 0, slots := 0, locals := 42 } M [.ref a0] (pI_ Post) := by
  refine m_of2 [(0, .ref a0)] (by decide +kernel) (Nat.le_of_ble_eq_true rfl) rfl (fun E hED hEl C hE => ?_)
  subst hED
  subst hEl
  unfold wp_X0_toldPeople at h
  refine r_iconst C dX0_toldPeople_0 (pc' := 1) rfl (v := 0) rfl ?_
  refine r_istore_n C (lv' := [(1, .int (0 : Int32)), (0, .ref a0)]) dX0_toldPeople_1 (pc' := 2) rfl rfl (0 : Int32) rfl (Nat.le_of_ble_eq_true rfl) rfl ?_
  refine r_iconst C dX0_toldPeople_2 (pc' := 3) rfl (v := 0) rfl ?_
  refine r_istore_n C (lv' := [(2, .int (0 : Int32)), (1, .int (0 : Int32)), (0, .ref a0)]) dX0_toldPeople_3 (pc' := 4) rfl rfl (0 : Int32) rfl (Nat.le_of_ble_eq_true rfl) rfl ?_
  obtain ⟨n_14, h⟩ := h
  refine r_sub (lv' := [(0, .ref a0), (1, .int (0 : Int32)), (2, .int (0 : Int32))]) [2, 1, 0] rfl ?_
  refine B_X0_toldPeople_4 C hE n_14 M (0 : Int32) (0 : Int32) k_a0 h (fun M_15 x1_17 m_16 h => ?_)
  refine r_iload_n C dX0_toldPeople_34 (pc' := 35) rfl (j := 0) rfl ?_
  exact r_iret C hE (Nat.le_of_ble_eq_true rfl) (Nat.le_of_ble_eq_true rfl) dX0_toldPeople_35 ⟨_, rfl, h⟩
set_option maxHeartbeats 4000000 in
theorem B_X0_toldPlants_4 {E : mE} {a0 : Nat} {X33 : MM → Int32 → Prop} {Post : Int32 → MM → Prop} (C : mC E yX0_toldPlants cX0_toldPlants 3 ((some .int)) { frames := 2, cells := 0, slots := 0, locals := 42 }) (hE : mEnd E { frames := 2, cells := 0, slots := 0, locals := 42 } (pI_ Post)) : ∀ (n_ : Nat) (M : MM) (x1 : Int32) (x2 : Int32), mkd M a0 = 1 → wl_X0_toldPlants_4 a0 X33 n_ M x1 x2 → (∀ (M' : MM) (x1' : Int32), mMo M M' → X33 M' x1' → mV E M' 0 0 33 [(1, .int x1')] []) → mV E M 0 0 4 [(0, .ref a0), (1, .int x1), (2, .int x2)] [] := by
  intro n_
  induction n_ with
  | zero =>
    intro M x1 x2 k_a0 h hX33
    exact absurd h (by rw [wl_X0_toldPlants_4]; exact fun q => q)
  | succ n_ ih =>
    intro M x1 x2 k_a0 h hX33
    rw [wl_X0_toldPlants_4] at h
    refine r_iload_n C dX0_toldPlants_4 (pc' := 5) rfl (j := 2) rfl ?_
    refine r_iconst C dX0_toldPlants_5 (pc' := 6) rfl (v := 4) rfl ?_
    refine r_icmp_ge C dX0_toldPlants_6 (pc' := 9) rfl (tgt := 33) (by decide) (fun c_1 => ?_) (fun c_1 => ?_)
    · have h := it_t h c_1
      refine r_sub (lv' := [(1, .int x1)]) [1] rfl ?_
      exact hX33 M x1 mMo.rf h
    · have h := it_f h c_1
      refine r_iload_n C dX0_toldPlants_9 (pc' := 10) rfl (j := 1) rfl ?_
      refine r_aload_n C dX0_toldPlants_10 (pc' := 11) rfl (j := 0) rfl ?_
      refine r_iload_n C dX0_toldPlants_11 (pc' := 12) rfl (j := 2) rfl ?_
      refine r_callVi (As := [.int x2]) (rest := [.int x1]) (Cn := RX0) (T := TX0) C k_a0 (by decide) vc_X0 (S_X0_isPlant k_a0 h) (lw_V q473 q475 qs0 q105 q476) rfl hd_X0_isPlant rfl rfl (Nat.le_of_ble_eq_true rfl) (Nat.le_of_ble_eq_true rfl) (Nat.le_of_ble_eq_true rfl) rfl rfl (Nat.le_of_ble_eq_true rfl) (Nat.le_of_ble_eq_true rfl) dX0_toldPlants_12 (pc' := 15) rfl (fun r_3 M_2 h m_4 => ?_)
      refine r_if_eq C dX0_toldPlants_15 (pc' := 18) rfl (tgt := 24) (by decide) (fun c_5 => ?_) (fun c_5 => ?_)
      · have h := it_t h c_5
        refine r_iconst C dX0_toldPlants_24 (pc' := 25) rfl (v := 0) rfl ?_
        refine r_ior C dX0_toldPlants_25 (pc' := 26) rfl ?_
        obtain ⟨x1_6, e_7, h⟩ := bn_ h
        refine r_istore_n C (lv' := [(1, .int x1_6), (0, .ref a0), (2, .int x2)]) dX0_toldPlants_26 (pc' := 27) rfl rfl x1_6 e_7 (Nat.le_of_ble_eq_true rfl) rfl ?_
        obtain ⟨x2_8, e_9, h⟩ := bn_ h
        refine r_iinc C (lv' := [(2, .int x2_8), (1, .int x1_6), (0, .ref a0)]) dX0_toldPlants_27 (pc' := 30) rfl (j := 2) rfl x2_8 (by rw [e_9]; rfl) (Nat.le_of_ble_eq_true rfl) rfl ?_
        refine r_goto C dX0_toldPlants_30 (tgt := 4) (by decide) ?_
        refine r_sub (lv' := [(0, .ref a0), (1, .int x1_6), (2, .int x2_8)]) [2, 1, 0] rfl ?_
        exact ih M_2 x1_6 x2_8 (mMo.kd m_4 k_a0 (by decide)) h (fun M9 w0 hm9 h9 => hX33 M9 w0 (mMo.tr m_4 hm9) h9)
      · have h := it_f h c_5
        refine r_iconst C dX0_toldPlants_18 (pc' := 19) rfl (v := 1) rfl ?_
        refine r_iload_n C dX0_toldPlants_19 (pc' := 20) rfl (j := 2) rfl ?_
        refine r_ishl C dX0_toldPlants_20 (pc' := 21) rfl ?_
        refine r_goto C dX0_toldPlants_21 (tgt := 25) (by decide) ?_
        refine r_ior C dX0_toldPlants_25 (pc' := 26) rfl ?_
        obtain ⟨x1_10, e_11, h⟩ := bn_ h
        refine r_istore_n C (lv' := [(1, .int x1_10), (0, .ref a0), (2, .int x2)]) dX0_toldPlants_26 (pc' := 27) rfl rfl x1_10 e_11 (Nat.le_of_ble_eq_true rfl) rfl ?_
        obtain ⟨x2_12, e_13, h⟩ := bn_ h
        refine r_iinc C (lv' := [(2, .int x2_12), (1, .int x1_10), (0, .ref a0)]) dX0_toldPlants_27 (pc' := 30) rfl (j := 2) rfl x2_12 (by rw [e_13]; rfl) (Nat.le_of_ble_eq_true rfl) rfl ?_
        refine r_goto C dX0_toldPlants_30 (tgt := 4) (by decide) ?_
        refine r_sub (lv' := [(0, .ref a0), (1, .int x1_10), (2, .int x2_12)]) [2, 1, 0] rfl ?_
        exact ih M_2 x1_10 x2_12 (mMo.kd m_4 k_a0 (by decide)) h (fun M9 w0 hm9 h9 => hX33 M9 w0 (mMo.tr m_4 hm9) h9)
set_option maxHeartbeats 4000000 in
theorem S_X0_toldPlants {D : DD} {l : Launch} {M : MM} {a0 : Nat} {Post : Int32 → MM → Prop} (k_a0 : mkd M a0 = 1) (h : wp_X0_toldPlants M a0 Post) : mMet D l yX0_toldPlants cX0_toldPlants 3 ((some .int)) { frames := 2, cells := 0, slots := 0, locals := 42 } M [.ref a0] (pI_ Post) := by
  refine m_of2 [(0, .ref a0)] (by decide +kernel) (Nat.le_of_ble_eq_true rfl) rfl (fun E hED hEl C hE => ?_)
  subst hED
  subst hEl
  unfold wp_X0_toldPlants at h
  refine r_iconst C dX0_toldPlants_0 (pc' := 1) rfl (v := 0) rfl ?_
  refine r_istore_n C (lv' := [(1, .int (0 : Int32)), (0, .ref a0)]) dX0_toldPlants_1 (pc' := 2) rfl rfl (0 : Int32) rfl (Nat.le_of_ble_eq_true rfl) rfl ?_
  refine r_iconst C dX0_toldPlants_2 (pc' := 3) rfl (v := 0) rfl ?_
  refine r_istore_n C (lv' := [(2, .int (0 : Int32)), (1, .int (0 : Int32)), (0, .ref a0)]) dX0_toldPlants_3 (pc' := 4) rfl rfl (0 : Int32) rfl (Nat.le_of_ble_eq_true rfl) rfl ?_
  obtain ⟨n_14, h⟩ := h
  refine r_sub (lv' := [(0, .ref a0), (1, .int (0 : Int32)), (2, .int (0 : Int32))]) [2, 1, 0] rfl ?_
  refine B_X0_toldPlants_4 C hE n_14 M (0 : Int32) (0 : Int32) k_a0 h (fun M_15 x1_17 m_16 h => ?_)
  refine r_iload_n C dX0_toldPlants_33 (pc' := 34) rfl (j := 0) rfl ?_
  exact r_iret C hE (Nat.le_of_ble_eq_true rfl) (Nat.le_of_ble_eq_true rfl) dX0_toldPlants_34 ⟨_, rfl, h⟩
set_option maxHeartbeats 4000000 in
theorem S_X0_count {D : DD} {l : Launch} {M : MM} {a0 : Nat} {x1 : Int32} {Post : Int32 → MM → Prop} (k_a0 : mkd M a0 = 1) (h : wp_X0_count M a0 x1 Post) : mMet D l yX0_count cX0_count 2 ((some .int)) { frames := 3, cells := 0, slots := 0, locals := 64 } M [.ref a0, .int x1] (pI_ Post) := by
  refine m_of2 [(0, .ref a0), (1, .int x1)] (by decide +kernel) (Nat.le_of_ble_eq_true rfl) rfl (fun E hED hEl C hE => ?_)
  subst hED
  subst hEl
  unfold wp_X0_count at h
  refine r_iload_n C dX0_count_0 (pc' := 1) rfl (j := 1) rfl ?_
  refine r_bipush C dX0_count_1 (pc' := 3) rfl (v := 10) rfl ?_
  refine r_isub C dX0_count_3 (pc' := 4) rfl ?_
  refine r_iconst C dX0_count_4 (pc' := 5) rfl (v := 4) rfl ?_
  refine r_callSi (As := [.int (x1 - (10 : Int32)), .int (4 : Int32)]) (rest := []) C (S_X0_in h) (lw_S q459 q460 q105 q461) hd_X0_in rfl rfl (Nat.le_of_ble_eq_true rfl) (Nat.le_of_ble_eq_true rfl) (Nat.le_of_ble_eq_true rfl) rfl rfl (Nat.le_of_ble_eq_true rfl) (Nat.le_of_ble_eq_true rfl) dX0_count_5 (pc' := 8) rfl (fun r_2 M_1 h m_3 => ?_)
  refine r_if_eq C dX0_count_8 (pc' := 11) rfl (tgt := 40) (by decide) (fun c_4 => ?_) (fun c_4 => ?_)
  · have h := it_t h c_4
    refine r_aload_n C dX0_count_40 (pc' := 41) rfl (j := 0) rfl ?_
    refine r_iload_n C dX0_count_41 (pc' := 42) rfl (j := 1) rfl ?_
    refine r_bipush C dX0_count_42 (pc' := 44) rfl (v := 20) rfl ?_
    refine r_isub C dX0_count_44 (pc' := 45) rfl ?_
    refine r_callVi (As := [.int (x1 - (20 : Int32))]) (rest := []) (Cn := RX0) (T := TX0) C (mMo.kd m_3 k_a0 (by decide)) (by decide) vc_X0 (S_X0_isPerson (mMo.kd m_3 k_a0 (by decide)) h) (lw_V q904 q906 qs19 q105 q907) rfl hd_X0_isPerson rfl rfl (Nat.le_of_ble_eq_true rfl) (Nat.le_of_ble_eq_true rfl) (Nat.le_of_ble_eq_true rfl) rfl rfl (Nat.le_of_ble_eq_true rfl) (Nat.le_of_ble_eq_true rfl) dX0_count_45 (pc' := 48) rfl (fun r_6 M_5 h m_7 => ?_)
    refine r_if_eq C dX0_count_48 (pc' := 51) rfl (tgt := 67) (by decide) (fun c_8 => ?_) (fun c_8 => ?_)
    · have h := it_t h c_8
      refine r_aload_n C dX0_count_67 (pc' := 68) rfl (j := 0) rfl ?_
      refine r_iload_n C dX0_count_68 (pc' := 69) rfl (j := 1) rfl ?_
      refine r_bipush C dX0_count_69 (pc' := 71) rfl (v := 30) rfl ?_
      refine r_isub C dX0_count_71 (pc' := 72) rfl ?_
      refine r_callVi (As := [.int (x1 - (30 : Int32))]) (rest := []) (Cn := RX0) (T := TX0) C (mMo.kd m_7 (mMo.kd m_3 k_a0 (by decide)) (by decide)) (by decide) vc_X0 (S_X0_isPerson (mMo.kd m_7 (mMo.kd m_3 k_a0 (by decide)) (by decide)) h) (lw_V q904 q906 qs19 q105 q907) rfl hd_X0_isPerson rfl rfl (Nat.le_of_ble_eq_true rfl) (Nat.le_of_ble_eq_true rfl) (Nat.le_of_ble_eq_true rfl) rfl rfl (Nat.le_of_ble_eq_true rfl) (Nat.le_of_ble_eq_true rfl) dX0_count_72 (pc' := 75) rfl (fun r_10 M_9 h m_11 => ?_)
      refine r_if_eq C dX0_count_75 (pc' := 78) rfl (tgt := 94) (by decide) (fun c_12 => ?_) (fun c_12 => ?_)
      · have h := it_t h c_12
        refine r_aload_n C dX0_count_94 (pc' := 95) rfl (j := 0) rfl ?_
        refine r_iload_n C dX0_count_95 (pc' := 96) rfl (j := 1) rfl ?_
        refine r_bipush C dX0_count_96 (pc' := 98) rfl (v := 40) rfl ?_
        refine r_isub C dX0_count_98 (pc' := 99) rfl ?_
        refine r_callVi (As := [.int (x1 - (40 : Int32))]) (rest := []) (Cn := RX0) (T := TX0) C (mMo.kd m_11 (mMo.kd m_7 (mMo.kd m_3 k_a0 (by decide)) (by decide)) (by decide)) (by decide) vc_X0 (S_X0_isPerson (mMo.kd m_11 (mMo.kd m_7 (mMo.kd m_3 k_a0 (by decide)) (by decide)) (by decide)) h) (lw_V q904 q906 qs19 q105 q907) rfl hd_X0_isPerson rfl rfl (Nat.le_of_ble_eq_true rfl) (Nat.le_of_ble_eq_true rfl) (Nat.le_of_ble_eq_true rfl) rfl rfl (Nat.le_of_ble_eq_true rfl) (Nat.le_of_ble_eq_true rfl) dX0_count_99 (pc' := 102) rfl (fun r_14 M_13 h m_15 => ?_)
        refine r_if_eq C dX0_count_102 (pc' := 105) rfl (tgt := 121) (by decide) (fun c_16 => ?_) (fun c_16 => ?_)
        · have h := it_t h c_16
          refine r_iload_n C dX0_count_121 (pc' := 122) rfl (j := 1) rfl ?_
          by_cases c_17 : x1 = 0
          · have h := it_t h c_17
            refine r_tsIn C dX0_count_122 (off := 42) (tgt := 164) (by rw [c_17]; decide) (by rw [c_17]; decide) (by rw [c_17]; decide) (by decide) ?_
            refine r_aload_n C dX0_count_164 (pc' := 165) rfl (j := 0) rfl ?_
            refine r_getf C (Cn := RX0) (T := TX0) 1 (mMo.kd m_15 (mMo.kd m_11 (mMo.kd m_7 (mMo.kd m_3 k_a0 (by decide)) (by decide)) (by decide)) (by decide)) (by decide) vc_X0 in_X0 (by decide) q351 dX0_count_165 (pc' := 168) rfl (v := va_rf (mgR M_13 a0 1)) rfl ?_
            obtain ⟨b_18, e_19, k_20, h⟩ := h
            refine r_ref [] e_19 ?_
            refine r_getfN C (Cn := RX3) (T := TX3) 2 k_20 (by decide) vc_X3 in_X3 (by decide) (List.mem_of_getElem? (i := 20) rfl) dX0_count_168 (pc' := 171) rfl (v := .int (mgI M_13 b_18 2)) rfl ?_
            exact r_iret C hE (Nat.le_of_ble_eq_true rfl) (Nat.le_of_ble_eq_true rfl) dX0_count_171 ⟨_, rfl, h⟩
          have h := it_f h c_17
          by_cases c_21 : x1 = 1
          · have h := it_t h c_21
            refine r_tsIn C dX0_count_122 (off := 50) (tgt := 172) (by rw [c_21]; decide) (by rw [c_21]; decide) (by rw [c_21]; decide) (by decide) ?_
            refine r_aload_n C dX0_count_172 (pc' := 173) rfl (j := 0) rfl ?_
            refine r_callVi (As := []) (rest := []) (Cn := RX0) (T := TX0) C (mMo.kd m_15 (mMo.kd m_11 (mMo.kd m_7 (mMo.kd m_3 k_a0 (by decide)) (by decide)) (by decide)) (by decide)) (by decide) vc_X0 (S_X0_toldPlants (mMo.kd m_15 (mMo.kd m_11 (mMo.kd m_7 (mMo.kd m_3 k_a0 (by decide)) (by decide)) (by decide)) (by decide)) h) (lw_V q1210 q1212 qs49 q105 q1213) rfl hd_X0_toldPlants rfl rfl (Nat.le_of_ble_eq_true rfl) (Nat.le_of_ble_eq_true rfl) (Nat.le_of_ble_eq_true rfl) rfl rfl (Nat.le_of_ble_eq_true rfl) (Nat.le_of_ble_eq_true rfl) dX0_count_173 (pc' := 176) rfl (fun r_23 M_22 h m_24 => ?_)
            exact r_iret C hE (Nat.le_of_ble_eq_true rfl) (Nat.le_of_ble_eq_true rfl) dX0_count_176 ⟨_, rfl, h⟩
          have h := it_f h c_21
          by_cases c_25 : x1 = 2
          · have h := it_t h c_25
            refine r_tsIn C dX0_count_122 (off := 55) (tgt := 177) (by rw [c_25]; decide) (by rw [c_25]; decide) (by rw [c_25]; decide) (by decide) ?_
            refine r_aload_n C dX0_count_177 (pc' := 178) rfl (j := 0) rfl ?_
            refine r_getf C (Cn := RX0) (T := TX0) 1 (mMo.kd m_15 (mMo.kd m_11 (mMo.kd m_7 (mMo.kd m_3 k_a0 (by decide)) (by decide)) (by decide)) (by decide)) (by decide) vc_X0 in_X0 (by decide) q351 dX0_count_178 (pc' := 181) rfl (v := va_rf (mgR M_13 a0 1)) rfl ?_
            obtain ⟨b_26, e_27, k_28, h⟩ := h
            refine r_ref [] e_27 ?_
            refine r_callVi (As := []) (rest := []) (Cn := RX3) (T := TX3) C k_28 (by decide) vc_X3 (S_X3_dead k_28 h) (lw_V q920 q921 q922 q108 q923) rfl hd_X3_dead rfl rfl (Nat.le_of_ble_eq_true rfl) (Nat.le_of_ble_eq_true rfl) (Nat.le_of_ble_eq_true rfl) rfl rfl (Nat.le_of_ble_eq_true rfl) (Nat.le_of_ble_eq_true rfl) dX0_count_181 (pc' := 184) rfl (fun r_30 M_29 h m_31 => ?_)
            exact r_iret C hE (Nat.le_of_ble_eq_true rfl) (Nat.le_of_ble_eq_true rfl) dX0_count_184 ⟨_, rfl, h⟩
          have h := it_f h c_25
          by_cases c_32 : x1 = 3
          · have h := it_t h c_32
            refine r_tsIn C dX0_count_122 (off := 63) (tgt := 185) (by rw [c_32]; decide) (by rw [c_32]; decide) (by rw [c_32]; decide) (by decide) ?_
            refine r_aload_n C dX0_count_185 (pc' := 186) rfl (j := 0) rfl ?_
            refine r_callVi (As := []) (rest := []) (Cn := RX0) (T := TX0) C (mMo.kd m_15 (mMo.kd m_11 (mMo.kd m_7 (mMo.kd m_3 k_a0 (by decide)) (by decide)) (by decide)) (by decide)) (by decide) vc_X0 (S_X0_toldPeople (mMo.kd m_15 (mMo.kd m_11 (mMo.kd m_7 (mMo.kd m_3 k_a0 (by decide)) (by decide)) (by decide)) (by decide)) h) (lw_V q1214 q1216 qs50 q105 q1217) rfl hd_X0_toldPeople rfl rfl (Nat.le_of_ble_eq_true rfl) (Nat.le_of_ble_eq_true rfl) (Nat.le_of_ble_eq_true rfl) rfl rfl (Nat.le_of_ble_eq_true rfl) (Nat.le_of_ble_eq_true rfl) dX0_count_186 (pc' := 189) rfl (fun r_34 M_33 h m_35 => ?_)
            exact r_iret C hE (Nat.le_of_ble_eq_true rfl) (Nat.le_of_ble_eq_true rfl) dX0_count_189 ⟨_, rfl, h⟩
          have h := it_f h c_32
          by_cases c_36 : x1 = 4
          · have h := it_t h c_36
            refine r_tsIn C dX0_count_122 (off := 68) (tgt := 190) (by rw [c_36]; decide) (by rw [c_36]; decide) (by rw [c_36]; decide) (by decide) ?_
            refine r_aload_n C dX0_count_190 (pc' := 191) rfl (j := 0) rfl ?_
            refine r_getf C (Cn := RX0) (T := TX0) 6 (mMo.kd m_15 (mMo.kd m_11 (mMo.kd m_7 (mMo.kd m_3 k_a0 (by decide)) (by decide)) (by decide)) (by decide)) (by decide) vc_X0 in_X0 (by decide) q360 dX0_count_191 (pc' := 194) rfl (v := va_rf (mgR M_13 a0 6)) rfl ?_
            obtain ⟨b_37, e_38, k_39, h⟩ := h
            refine r_ref [] e_38 ?_
            refine r_getfN C (Cn := RX6) (T := TX6) 3 k_39 (by decide) vc_X6 in_X6 (by decide) (List.mem_of_getElem? (i := 23) rfl) dX0_count_194 (pc' := 197) rfl (v := .int (mgI M_13 b_37 3)) rfl ?_
            exact r_iret C hE (Nat.le_of_ble_eq_true rfl) (Nat.le_of_ble_eq_true rfl) dX0_count_197 ⟨_, rfl, h⟩
          have h := it_f h c_36
          by_cases c_40 : x1 = 5
          · have h := it_t h c_40
            refine r_tsIn C dX0_count_122 (off := 76) (tgt := 198) (by rw [c_40]; decide) (by rw [c_40]; decide) (by rw [c_40]; decide) (by decide) ?_
            refine r_aload_n C dX0_count_198 (pc' := 199) rfl (j := 0) rfl ?_
            refine r_getf C (Cn := RX0) (T := TX0) 7 (mMo.kd m_15 (mMo.kd m_11 (mMo.kd m_7 (mMo.kd m_3 k_a0 (by decide)) (by decide)) (by decide)) (by decide)) (by decide) vc_X0 in_X0 (by decide) q361 dX0_count_199 (pc' := 202) rfl (v := .int (mgI M_13 a0 7)) rfl ?_
            exact r_iret C hE (Nat.le_of_ble_eq_true rfl) (Nat.le_of_ble_eq_true rfl) dX0_count_202 ⟨_, rfl, h⟩
          have h := it_f h c_40
          by_cases c_41 : x1 = 6
          · have h := it_t h c_41
            refine r_tsIn C dX0_count_122 (off := 81) (tgt := 203) (by rw [c_41]; decide) (by rw [c_41]; decide) (by rw [c_41]; decide) (by decide) ?_
            refine r_aload_n C dX0_count_203 (pc' := 204) rfl (j := 0) rfl ?_
            refine r_getf C (Cn := RX0) (T := TX0) 1 (mMo.kd m_15 (mMo.kd m_11 (mMo.kd m_7 (mMo.kd m_3 k_a0 (by decide)) (by decide)) (by decide)) (by decide)) (by decide) vc_X0 in_X0 (by decide) q351 dX0_count_204 (pc' := 207) rfl (v := va_rf (mgR M_13 a0 1)) rfl ?_
            obtain ⟨b_42, e_43, k_44, h⟩ := h
            refine r_ref [] e_43 ?_
            refine r_getfN C (Cn := RX3) (T := TX3) 3 k_44 (by decide) vc_X3 in_X3 (by decide) (List.mem_of_getElem? (i := 24) rfl) dX0_count_207 (pc' := 210) rfl (v := .int (mgI M_13 b_42 3)) rfl ?_
            exact r_iret C hE (Nat.le_of_ble_eq_true rfl) (Nat.le_of_ble_eq_true rfl) dX0_count_210 ⟨_, rfl, h⟩
          have h := it_f h c_41
          have c_17 := lv_neT c_17 (show ((0 : Int32)).toInt = 0 from by decide)
          have c_21 := lv_neT c_21 (show ((1 : Int32)).toInt = 1 from by decide)
          have c_25 := lv_neT c_25 (show ((2 : Int32)).toInt = 2 from by decide)
          have c_32 := lv_neT c_32 (show ((3 : Int32)).toInt = 3 from by decide)
          have c_36 := lv_neT c_36 (show ((4 : Int32)).toInt = 4 from by decide)
          have c_40 := lv_neT c_40 (show ((5 : Int32)).toInt = 5 from by decide)
          have c_41 := lv_neT c_41 (show ((6 : Int32)).toInt = 6 from by decide)
          refine r_tsOut C dX0_count_122 (tgt := 211) (by omega) (by decide) ?_
          refine r_iconst C dX0_count_211 (pc' := 212) rfl (v := -1) rfl ?_
          exact r_iret C hE (Nat.le_of_ble_eq_true rfl) (Nat.le_of_ble_eq_true rfl) dX0_count_212 ⟨_, rfl, h⟩
        · have h := it_f h c_16
          refine r_aload_n C dX0_count_105 (pc' := 106) rfl (j := 0) rfl ?_
          refine r_getf C (Cn := RX0) (T := TX0) 1 (mMo.kd m_15 (mMo.kd m_11 (mMo.kd m_7 (mMo.kd m_3 k_a0 (by decide)) (by decide)) (by decide)) (by decide)) (by decide) vc_X0 in_X0 (by decide) q351 dX0_count_106 (pc' := 109) rfl (v := va_rf (mgR M_13 a0 1)) rfl ?_
          obtain ⟨b_45, e_46, k_47, h⟩ := h
          refine r_ref [] e_46 ?_
          refine r_getfN C (Cn := RX3) (T := TX3) 1 k_47 (by decide) vc_X3 in_X3 (by decide) (List.mem_of_getElem? (i := 2) rfl) dX0_count_109 (pc' := 112) rfl (v := va_rf (mgR M_13 b_45 1)) rfl ?_
          obtain ⟨b_48, e_49, k_50, h⟩ := h
          refine r_ref [] e_49 ?_
          refine r_iload_n C dX0_count_112 (pc' := 113) rfl (j := 1) rfl ?_
          refine r_bipush C dX0_count_113 (pc' := 115) rfl (v := 40) rfl ?_
          refine r_isub C dX0_count_115 (pc' := 116) rfl ?_
          obtain ⟨c_51, h⟩ := h
          refine r_aald C (t := 4) (j := (ix_ (x1 - (40 : Int32)))) k_50 (by decide) rfl rfl c_51 rfl dX0_count_116 (pc' := 117) rfl ?_
          obtain ⟨b_52, e_53, k_54, h⟩ := h
          refine r_ref [] e_53 ?_
          refine r_getfN C (Cn := RX5) (T := TX5) 2 k_54 (by decide) vc_X5 in_X5 (by decide) (List.mem_of_getElem? (i := 15) rfl) dX0_count_117 (pc' := 120) rfl (v := .int (mgI M_13 b_52 2)) rfl ?_
          exact r_iret C hE (Nat.le_of_ble_eq_true rfl) (Nat.le_of_ble_eq_true rfl) dX0_count_120 ⟨_, rfl, h⟩
      · have h := it_f h c_12
        refine r_aload_n C dX0_count_78 (pc' := 79) rfl (j := 0) rfl ?_
        refine r_getf C (Cn := RX0) (T := TX0) 1 (mMo.kd m_11 (mMo.kd m_7 (mMo.kd m_3 k_a0 (by decide)) (by decide)) (by decide)) (by decide) vc_X0 in_X0 (by decide) q351 dX0_count_79 (pc' := 82) rfl (v := va_rf (mgR M_9 a0 1)) rfl ?_
        obtain ⟨b_55, e_56, k_57, h⟩ := h
        refine r_ref [] e_56 ?_
        refine r_getfN C (Cn := RX3) (T := TX3) 1 k_57 (by decide) vc_X3 in_X3 (by decide) (List.mem_of_getElem? (i := 2) rfl) dX0_count_82 (pc' := 85) rfl (v := va_rf (mgR M_9 b_55 1)) rfl ?_
        obtain ⟨b_58, e_59, k_60, h⟩ := h
        refine r_ref [] e_59 ?_
        refine r_iload_n C dX0_count_85 (pc' := 86) rfl (j := 1) rfl ?_
        refine r_bipush C dX0_count_86 (pc' := 88) rfl (v := 30) rfl ?_
        refine r_isub C dX0_count_88 (pc' := 89) rfl ?_
        obtain ⟨c_61, h⟩ := h
        refine r_aald C (t := 4) (j := (ix_ (x1 - (30 : Int32)))) k_60 (by decide) rfl rfl c_61 rfl dX0_count_89 (pc' := 90) rfl ?_
        obtain ⟨b_62, e_63, k_64, h⟩ := h
        refine r_ref [] e_63 ?_
        refine r_getfN C (Cn := RX5) (T := TX5) 1 k_64 (by decide) vc_X5 in_X5 (by decide) (List.mem_of_getElem? (i := 14) rfl) dX0_count_90 (pc' := 93) rfl (v := .int (mgI M_9 b_62 1)) rfl ?_
        exact r_iret C hE (Nat.le_of_ble_eq_true rfl) (Nat.le_of_ble_eq_true rfl) dX0_count_93 ⟨_, rfl, h⟩
    · have h := it_f h c_8
      refine r_aload_n C dX0_count_51 (pc' := 52) rfl (j := 0) rfl ?_
      refine r_getf C (Cn := RX0) (T := TX0) 1 (mMo.kd m_7 (mMo.kd m_3 k_a0 (by decide)) (by decide)) (by decide) vc_X0 in_X0 (by decide) q351 dX0_count_52 (pc' := 55) rfl (v := va_rf (mgR M_5 a0 1)) rfl ?_
      obtain ⟨b_65, e_66, k_67, h⟩ := h
      refine r_ref [] e_66 ?_
      refine r_getfN C (Cn := RX3) (T := TX3) 1 k_67 (by decide) vc_X3 in_X3 (by decide) (List.mem_of_getElem? (i := 2) rfl) dX0_count_55 (pc' := 58) rfl (v := va_rf (mgR M_5 b_65 1)) rfl ?_
      obtain ⟨b_68, e_69, k_70, h⟩ := h
      refine r_ref [] e_69 ?_
      refine r_iload_n C dX0_count_58 (pc' := 59) rfl (j := 1) rfl ?_
      refine r_bipush C dX0_count_59 (pc' := 61) rfl (v := 20) rfl ?_
      refine r_isub C dX0_count_61 (pc' := 62) rfl ?_
      obtain ⟨c_71, h⟩ := h
      refine r_aald C (t := 4) (j := (ix_ (x1 - (20 : Int32)))) k_70 (by decide) rfl rfl c_71 rfl dX0_count_62 (pc' := 63) rfl ?_
      obtain ⟨b_72, e_73, k_74, h⟩ := h
      refine r_ref [] e_73 ?_
      refine r_getfN C (Cn := RX5) (T := TX5) 0 k_74 (by decide) vc_X5 in_X5 (by decide) (List.mem_of_getElem? (i := 13) rfl) dX0_count_63 (pc' := 66) rfl (v := .int (mgI M_5 b_72 0)) rfl ?_
      exact r_iret C hE (Nat.le_of_ble_eq_true rfl) (Nat.le_of_ble_eq_true rfl) dX0_count_66 ⟨_, rfl, h⟩
  · have h := it_f h c_4
    refine r_aload_n C dX0_count_11 (pc' := 12) rfl (j := 0) rfl ?_
    refine r_getf C (Cn := RX0) (T := TX0) 5 (mMo.kd m_3 k_a0 (by decide)) (by decide) vc_X0 in_X0 (by decide) q358 dX0_count_12 (pc' := 15) rfl (v := va_rf (mgR M_1 a0 5)) rfl ?_
    obtain ⟨b_75, e_76, k_77, h⟩ := h
    refine r_ref [] e_76 ?_
    refine r_iload_n C dX0_count_15 (pc' := 16) rfl (j := 1) rfl ?_
    refine r_bipush C dX0_count_16 (pc' := 18) rfl (v := 10) rfl ?_
    refine r_isub C dX0_count_18 (pc' := 19) rfl ?_
    obtain ⟨c_78, h⟩ := h
    refine r_aald C (t := 5) (j := (ix_ (x1 - (10 : Int32)))) k_77 (by decide) rfl rfl c_78 rfl dX0_count_19 (pc' := 20) rfl ?_
    refine r_ifnonnull C dX0_count_20 (pc' := 23) rfl (tgt := 27) (by decide) (fun c_79 => ?_) (fun c_79 => ?_)
    · have h := it_f h c_79
      refine r_aload_n C dX0_count_27 (pc' := 28) rfl (j := 0) rfl ?_
      refine r_getf C (Cn := RX0) (T := TX0) 5 (mMo.kd m_3 k_a0 (by decide)) (by decide) vc_X0 in_X0 (by decide) q358 dX0_count_28 (pc' := 31) rfl (v := va_rf (mgR M_1 a0 5)) rfl ?_
      obtain ⟨b_80, e_81, k_82, h⟩ := h
      refine r_ref [] e_81 ?_
      refine r_iload_n C dX0_count_31 (pc' := 32) rfl (j := 1) rfl ?_
      refine r_bipush C dX0_count_32 (pc' := 34) rfl (v := 10) rfl ?_
      refine r_isub C dX0_count_34 (pc' := 35) rfl ?_
      obtain ⟨c_83, h⟩ := h
      refine r_aald C (t := 5) (j := (ix_ (x1 - (10 : Int32)))) k_82 (by decide) rfl rfl c_83 rfl dX0_count_35 (pc' := 36) rfl ?_
      obtain ⟨b_84, e_85, k_86, h⟩ := h
      refine r_ref [] e_85 ?_
      refine r_getfN C (Cn := RX6) (T := TX6) 3 k_86 (by decide) vc_X6 in_X6 (by decide) (List.mem_of_getElem? (i := 23) rfl) dX0_count_36 (pc' := 39) rfl (v := .int (mgI M_1 b_84 3)) rfl ?_
      exact r_iret C hE (Nat.le_of_ble_eq_true rfl) (Nat.le_of_ble_eq_true rfl) dX0_count_39 ⟨_, rfl, h⟩
    · have h := it_t h c_79
      refine r_iconst C dX0_count_23 (pc' := 24) rfl (v := 0) rfl ?_
      refine r_goto C dX0_count_24 (tgt := 39) (by decide) ?_
      exact r_iret C hE (Nat.le_of_ble_eq_true rfl) (Nat.le_of_ble_eq_true rfl) dX0_count_39 ⟨_, rfl, h⟩
