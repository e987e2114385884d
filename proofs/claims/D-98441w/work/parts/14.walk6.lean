set_option maxRecDepth 100000
def wp_X7_init (M : MM) (a0 : Nat) (Post : MM → Prop) : Prop :=
  ∀ b_3, b_3 = msz M → ∀ M_5, M_5 = mnw M 100 81 → ∀ M_7, M_7 = msR M_5 a0 0 (some b_3) → ∀ b_11, b_11 = msz M_7 → ∀ M_13, M_13 = mnw M_7 100 81 → ∀ M_15, M_15 = msR M_13 a0 1 (some b_11) → ∀ b_19, b_19 = msz M_15 → ∀ M_21, M_21 = mnw M_15 100 81 → ∀ M_23, M_23 = msR M_21 a0 2 (some b_19) → ∀ b_27, b_27 = msz M_23 → ∀ M_29, M_29 = mnw M_23 102 220 → ∀ M_31, M_31 = msR M_29 a0 3 (some b_27) → ∀ b_35, b_35 = msz M_31 → ∀ M_37, M_37 = mnw M_31 100 220 → ∀ M_39, M_39 = msR M_37 a0 13 (some b_35) → ∀ b_43, b_43 = msz M_39 → ∀ M_45, M_45 = mnw M_39 100 220 → ∀ M_47, M_47 = msR M_45 a0 14 (some b_43) → ∀ b_51, b_51 = msz M_47 → ∀ M_53, M_53 = mnw M_47 100 14 → ∀ M_55, M_55 = msR M_53 a0 15 (some b_51) → ∀ b_59, b_59 = msz M_55 → ∀ M_61, M_61 = mnw M_55 100 14 → ∀ M_63, M_63 = msR M_61 a0 16 (some b_59) → ∀ b_67, b_67 = msz M_63 → ∀ M_69, M_69 = mnw M_63 100 14 → ∀ M_71, M_71 = msR M_69 a0 17 (some b_67) → ∀ b_75, b_75 = msz M_71 → ∀ M_77, M_77 = mnw M_71 100 14 → ∀ M_79, M_79 = msR M_77 a0 18 (some b_75) → ∀ b_83, b_83 = msz M_79 → ∀ M_85, M_85 = mnw M_79 100 1100 → ∀ M_87, M_87 = msR M_85 a0 19 (some b_83) → ∀ b_91, b_91 = msz M_87 → ∀ M_93, M_93 = mnw M_87 100 5 → ∀ M_95, M_95 = msR M_93 a0 20 (some b_91) → ∀ b_99, b_99 = msz M_95 → ∀ M_101, M_101 = mnw M_95 100 70 → ∀ M_103, M_103 = msR M_101 a0 21 (some b_99) → ∀ b_107, b_107 = msz M_103 → ∀ M_109, M_109 = mnw M_103 100 70 → ∀ M_111, M_111 = msR M_109 a0 22 (some b_107) → ∀ b_115, b_115 = msz M_111 → ∀ M_117, M_117 = mnw M_111 100 70 → ∀ M_119, M_119 = msR M_117 a0 23 (some b_115) → ∀ b_123, b_123 = msz M_119 → ∀ M_125, M_125 = mnw M_119 100 70 → ∀ M_127, M_127 = msR M_125 a0 24 (some b_123) → ∀ b_131, b_131 = msz M_127 → ∀ M_133, M_133 = mnw M_127 100 220 → ∀ M_135, M_135 = msR M_133 a0 25 (some b_131) → ∀ b_139, b_139 = msz M_135 → ∀ M_141, M_141 = mnw M_135 100 13 → ∀ M_143, M_143 = msR M_141 a0 26 (some b_139) → ∀ b_147, b_147 = msz M_143 → ∀ M_149, M_149 = mnw M_143 100 8 → ∀ M_151, M_151 = msR M_149 a0 30 (some b_147) → ∀ b_155, b_155 = msz M_151 → ∀ M_157, M_157 = mnw M_151 100 8 → ∀ M_159, M_159 = msR M_157 a0 35 (some b_155) → ∀ b_163, b_163 = msz M_159 → ∀ M_165, M_165 = mnw M_159 100 8 → ∀ M_167, M_167 = msR M_165 a0 36 (some b_163) → ∀ b_171, b_171 = msz M_167 → ∀ M_173, M_173 = mnw M_167 101 500 → ∀ M_175, M_175 = msR M_173 a0 37 (some b_171) → ∀ b_179, b_179 = msz M_175 → ∀ M_181, M_181 = mnw M_175 101 500 → ∀ M_183, M_183 = msR M_181 a0 38 (some b_179) → ∀ b_187, b_187 = msz M_183 → ∀ M_189, M_189 = mnw M_183 101 25 → ∀ M_191, M_191 = msR M_189 a0 40 (some b_187) → ∀ b_195, b_195 = msz M_191 → ∀ M_197, M_197 = mnw M_191 101 25 → ∀ M_199, M_199 = msR M_197 a0 41 (some b_195) → ∀ b_203, b_203 = msz M_199 → ∀ M_205, M_205 = mnw M_199 100 100 → ∀ M_207, M_207 = msR M_205 a0 42 (some b_203) → ∀ b_211, b_211 = msz M_207 → ∀ M_213, M_213 = mnw M_207 100 4 → ∀ M_215, M_215 = msR M_213 a0 43 (some b_211) → ∀ b_219, b_219 = msz M_215 → ∀ M_221, M_221 = mnw M_215 100 4 → ∀ M_223, M_223 = msR M_221 a0 44 (some b_219) → ∀ b_227, b_227 = msz M_223 → ∀ M_229, M_229 = mnw M_223 101 13 → ∀ M_231, M_231 = msR M_229 a0 45 (some b_227) → ∀ b_235, b_235 = msz M_231 → ∀ M_237, M_237 = mnw M_231 100 84 → ∀ M_239, M_239 = msR M_237 a0 48 (some b_235) → ∀ b_243, b_243 = msz M_239 → ∀ M_245, M_245 = mnw M_239 100 6 → ∀ M_247, M_247 = msR M_245 a0 51 (some b_243) → ∀ b_251, b_251 = msz M_247 → ∀ M_253, M_253 = mnw M_247 100 6 → ∀ M_255, M_255 = msR M_253 a0 52 (some b_251) → ∃ b_257, mgR M_255 a0 0 = some b_257 ∧ mkd M_255 b_257 = 100 ∧ 80 < mln M_255 b_257 ∧ ∀ M_261, M_261 = msI M_255 b_257 80 (1 : Int32) → ∀ M_263, M_263 = msI M_261 a0 31 (-1 : Int32) → Post M_263
def wp_X7_in (M : MM) (x0 : Int32) (x1 : Int32) (x2 : Int32) (Post : Int32 → MM → Prop) : Prop :=
  if x0 < x1 then (Post (0 : Int32) M)
  else (if x2 < x0 then (Post (0 : Int32) M)
  else (Post (1 : Int32) M))
def wl_X7_plant_142 (a0 : Nat) (x1 : Int32) (x3 : Int32) (X171 : MM → Prop) : Nat → MM → Int32 → Prop
  | 0, _, _ => False
  | n_ + 1, M, x5 =>
  if (7 : Int32) ≤ x5 then (X171 M)
  else (∃ b_74, mgR M a0 0 = some b_74 ∧ mkd M b_74 = 100 ∧ vp_in (((24 : Int32) + ((7 : Int32) * x1)) + x5) (mln M b_74) ∧ ∀ M_78, M_78 = msI M b_74 (ix_ (((24 : Int32) + ((7 : Int32) * x1)) + x5)) x3 → ∀ x5_80, x5_80 = x5 + 1 → wl_X7_plant_142 a0 x1 x3 X171 n_ M_78 x5_80)
def wp_X7_plant (M : MM) (a0 : Nat) (x1 : Int32) (x2 : Int32) (x3 : Int32) (x4 : Int32) (Post : Int32 → MM → Prop) : Prop :=
  wp_X7_in M x1 (0 : Int32) (3 : Int32) (fun r_2 M_1 => if r_2 = 0 then (Post (0 : Int32) M_1)
  else (wp_X7_in M_1 x2 (4 : Int32) (24 : Int32) (fun r_6 M_5 => if r_6 = 0 then (Post (0 : Int32) M_5)
  else (wp_X7_in M_5 x3 (0 : Int32) x2 (fun r_10 M_9 => if r_10 = 0 then (Post (0 : Int32) M_9)
  else (wp_X7_in M_9 x4 (1 : Int32) (9 : Int32) (fun r_14 M_13 => if r_14 = 0 then (Post (0 : Int32) M_13)
  else (∃ b_17, mgR M_13 a0 0 = some b_17 ∧ mkd M_13 b_17 = 100 ∧ ∃ b_20, mgR M_13 a0 0 = some b_20 ∧ mkd M_13 b_20 = 100 ∧ 76 < mln M_13 b_20 ∧ 76 < mln M_13 b_17 ∧ ∀ M_25, M_25 = msI M_13 b_17 76 ((mgI M_13 b_20 76) ||| ((1 : Int32) <<< (x1 &&& 31))) → ∃ b_27, mgR M_25 a0 0 = some b_27 ∧ mkd M_25 b_27 = 100 ∧ ∃ b_30, mgR M_25 a0 0 = some b_30 ∧ mkd M_25 b_30 = 100 ∧ 77 < mln M_25 b_30 ∧ 77 < mln M_25 b_27 ∧ ∀ M_35, M_35 = msI M_25 b_27 77 ((mgI M_25 b_30 77) &&& (((1 : Int32) <<< (x1 &&& 31)) ^^^ (-1 : Int32))) → ∃ b_37, mgR M_35 a0 0 = some b_37 ∧ mkd M_35 b_37 = 100 ∧ vp_in ((0 : Int32) + x1) (mln M_35 b_37) ∧ ∀ M_41, M_41 = msI M_35 b_37 (ix_ ((0 : Int32) + x1)) x2 → ∃ b_43, mgR M_41 a0 0 = some b_43 ∧ mkd M_41 b_43 = 100 ∧ vp_in ((4 : Int32) + x1) (mln M_41 b_43) ∧ ∀ M_47, M_47 = msI M_41 b_43 (ix_ ((4 : Int32) + x1)) x3 → ∃ b_49, mgR M_47 a0 0 = some b_49 ∧ mkd M_47 b_49 = 100 ∧ vp_in ((8 : Int32) + x1) (mln M_47 b_49) ∧ ∀ M_53, M_53 = msI M_47 b_49 (ix_ ((8 : Int32) + x1)) x4 → ∃ b_55, mgR M_53 a0 0 = some b_55 ∧ mkd M_53 b_55 = 100 ∧ vp_in ((12 : Int32) + x1) (mln M_53 b_55) ∧ ∀ M_59, M_59 = msI M_53 b_55 (ix_ ((12 : Int32) + x1)) (0 : Int32) → ∃ b_61, mgR M_59 a0 0 = some b_61 ∧ mkd M_59 b_61 = 100 ∧ vp_in ((16 : Int32) + x1) (mln M_59 b_61) ∧ ∀ M_65, M_65 = msI M_59 b_61 (ix_ ((16 : Int32) + x1)) (0 : Int32) → ∃ b_67, mgR M_65 a0 0 = some b_67 ∧ mkd M_65 b_67 = 100 ∧ vp_in ((20 : Int32) + x1) (mln M_65 b_67) ∧ ∀ M_71, M_71 = msI M_65 b_67 (ix_ ((20 : Int32) + x1)) (-2 : Int32) → ∃ n_82, wl_X7_plant_142 a0 x1 x3
    (fun (M_83 : MM) => Post (1 : Int32) M_83) n_82 M_71 (0 : Int32)))))))))
def wp_X7_person (M : MM) (a0 : Nat) (x1 : Int32) (x2 : Int32) (x3 : Int32) (Post : Int32 → MM → Prop) : Prop :=
  wp_X7_in M x1 (0 : Int32) (7 : Int32) (fun r_2 M_1 => if r_2 = 0 then (Post (0 : Int32) M_1)
  else (wp_X7_in M_1 x2 (0 : Int32) (10 : Int32) (fun r_6 M_5 => if r_6 = 0 then (Post (0 : Int32) M_5)
  else (wp_X7_in M_5 x3 (0 : Int32) (3 : Int32) (fun r_10 M_9 => if r_10 = 0 then (Post (0 : Int32) M_9)
  else (∃ b_13, mgR M_9 a0 0 = some b_13 ∧ mkd M_9 b_13 = 100 ∧ ∃ b_16, mgR M_9 a0 0 = some b_16 ∧ mkd M_9 b_16 = 100 ∧ 78 < mln M_9 b_16 ∧ 78 < mln M_9 b_13 ∧ ∀ M_21, M_21 = msI M_9 b_13 78 ((mgI M_9 b_16 78) ||| ((1 : Int32) <<< (x1 &&& 31))) → ∃ b_23, mgR M_21 a0 0 = some b_23 ∧ mkd M_21 b_23 = 100 ∧ vp_in ((52 : Int32) + x1) (mln M_21 b_23) ∧ ∀ M_27, M_27 = msI M_21 b_23 (ix_ ((52 : Int32) + x1)) x2 → ∃ b_29, mgR M_27 a0 0 = some b_29 ∧ mkd M_27 b_29 = 100 ∧ vp_in ((60 : Int32) + x1) (mln M_27 b_29) ∧ ∀ M_33, M_33 = msI M_27 b_29 (ix_ ((60 : Int32) + x1)) x3 → ∃ b_35, mgR M_33 a0 0 = some b_35 ∧ mkd M_33 b_35 = 100 ∧ vp_in ((68 : Int32) + x1) (mln M_33 b_35) ∧ ∀ M_39, M_39 = msI M_33 b_35 (ix_ ((68 : Int32) + x1)) (0 : Int32) → Post (1 : Int32) M_39))))))
def wp_X7_has (M : MM) (x0 : Int32) (x1 : Int32) (Post : Int32 → MM → Prop) : Prop :=
  if ((x0 >>> (x1 &&& 31)) &&& (1 : Int32)) = (1 : Int32) then (Post (1 : Int32) M)
  else (Post (0 : Int32) M)
def wp_X7_isPlant (M : MM) (a0 : Nat) (x1 : Int32) (Post : Int32 → MM → Prop) : Prop :=
  if x1 < 0 then (Post (0 : Int32) M)
  else (if (4 : Int32) ≤ x1 then (Post (0 : Int32) M)
  else (∃ b_3, mgR M a0 0 = some b_3 ∧ mkd M b_3 = 100 ∧ 76 < mln M b_3 ∧ wp_X7_has M (mgI M b_3 76) x1 (fun r_8 M_7 => if r_8 = 0 then (Post (0 : Int32) M_7)
  else (Post (1 : Int32) M_7))))
def wb_X7_card_52 (M : MM) (as0 : Nat) (xs1 : Int32) (xs2 : Int32) (Post : Int32 → MM → Prop) : Prop :=
  vp_in xs1 (mln M as0) ∧ ∀ M_16, M_16 = msI M as0 (ix_ xs1) xs2 → Post (1 : Int32) M_16
def wb_X7_card_27 (M : MM) (a0 : Nat) (x1 : Int32) (x2 : Int32) (xs0 : Int32) (Post : Int32 → MM → Prop) : Prop :=
  if xs0 = x2 then (∃ b_11, mgR M a0 0 = some b_11 ∧ mkd M b_11 = 100 ∧ if x2 = 0 then (wb_X7_card_52 M b_11 ((20 : Int32) + x1) (-2 : Int32) Post)
  else (wb_X7_card_52 M b_11 ((20 : Int32) + x1) (-3 : Int32) Post))
  else (Post (0 : Int32) M)
def wp_X7_card (M : MM) (a0 : Nat) (x1 : Int32) (x2 : Int32) (Post : Int32 → MM → Prop) : Prop :=
  wp_X7_isPlant M a0 x1 (fun r_2 M_1 => if r_2 = 0 then (Post (0 : Int32) M_1)
  else (∃ b_5, mgR M_1 a0 0 = some b_5 ∧ mkd M_1 b_5 = 100 ∧ vp_in ((20 : Int32) + x1) (mln M_1 b_5) ∧ if (mgI M_1 b_5 (ix_ ((20 : Int32) + x1))) = (-2 : Int32) then (wb_X7_card_27 M_1 a0 x1 x2 (1 : Int32) Post)
  else (wb_X7_card_27 M_1 a0 x1 x2 (0 : Int32) Post)))
def wp_X7_lives (M : MM) (a0 : Nat) (x1 : Int32) (Post : Int32 → MM → Prop) : Prop :=
  wp_X7_isPlant M a0 x1 (fun r_2 M_1 => if r_2 = 0 then (Post (0 : Int32) M_1)
  else (∃ b_5, mgR M_1 a0 0 = some b_5 ∧ mkd M_1 b_5 = 100 ∧ 77 < mln M_1 b_5 ∧ wp_X7_has M_1 (mgI M_1 b_5 77) x1 (fun r_10 M_9 => if r_10 = 0 then (Post (1 : Int32) M_9)
  else (Post (0 : Int32) M_9))))
def wp_X7_min (M : MM) (x0 : Int32) (x1 : Int32) (Post : Int32 → MM → Prop) : Prop :=
  if x1 ≤ x0 then (Post x1 M)
  else (Post x0 M)
def wp_X7_pour (M : MM) (a0 : Nat) (x1 : Int32) (x2 : Int32) (Post : Int32 → MM → Prop) : Prop :=
  wp_X7_lives M a0 x1 (fun r_2 M_1 => if r_2 = 0 then (Post (-1 : Int32) M_1)
  else (wp_X7_in M_1 x2 (0 : Int32) (24 : Int32) (fun r_6 M_5 => if r_6 = 0 then (Post (-1 : Int32) M_5)
  else (∃ b_9, mgR M_5 a0 0 = some b_9 ∧ mkd M_5 b_9 = 100 ∧ ∃ b_12, mgR M_5 a0 0 = some b_12 ∧ mkd M_5 b_12 = 100 ∧ vp_in ((0 : Int32) + x1) (mln M_5 b_12) ∧ ∃ b_16, mgR M_5 a0 0 = some b_16 ∧ mkd M_5 b_16 = 100 ∧ vp_in ((4 : Int32) + x1) (mln M_5 b_16) ∧ wp_X7_min M_5 (mgI M_5 b_12 (ix_ ((0 : Int32) + x1))) ((mgI M_5 b_16 (ix_ ((4 : Int32) + x1))) + x2) (fun r_21 M_20 => vp_in ((4 : Int32) + x1) (mln M_20 b_9) ∧ ∀ M_24, M_24 = msI M_20 b_9 (ix_ ((4 : Int32) + x1)) r_21 → ∃ b_26, mgR M_24 a0 0 = some b_26 ∧ mkd M_24 b_26 = 100 ∧ vp_in ((4 : Int32) + x1) (mln M_24 b_26) ∧ Post (mgI M_24 b_26 (ix_ ((4 : Int32) + x1))) M_24)))))
def wl_X7_types_2 (a0 : Nat) (x1 : Int32) (X38 : MM → Prop) : Nat → MM → Int32 → Prop
  | 0, _, _ => False
  | n_ + 1, M, x2 =>
  if x2 < 0 then (X38 M)
  else (∃ b_2, mgR M a0 3 = some b_2 ∧ mkd M b_2 = 102 ∧ vp_in (mgI M a0 4) (mln M b_2) ∧ ∀ M_6, M_6 = msI M b_2 (ix_ (mgI M a0 4)) (((x1 >>> (((8 : Int32) * x2) &&& 31)).toInt8.toInt32).toInt8.toInt32) → ∀ M_8, M_8 = msI M_6 a0 4 ((mgI M_6 a0 4) + (1 : Int32)) → ∀ x2_10, x2_10 = x2 + (-1) → wl_X7_types_2 a0 x1 X38 n_ M_8 x2_10)
def wp_X7_types (M : MM) (a0 : Nat) (x1 : Int32) (Post : MM → Prop) : Prop :=
  ∃ n_12, wl_X7_types_2 a0 x1
    (fun (M_13 : MM) => Post M_13) n_12 M (3 : Int32)
def wp_X7_feed (M : MM) (a0 : Nat) (x1 : Int32) (x2 : Int32) (x3 : Int32) (x4 : Int32) (x5 : Int32) (Post : Int32 → MM → Prop) : Prop :=
  if ((mgI M a0 4) + (20 : Int32)) ≤ (220 : Int32) then (wp_X7_types M a0 x1 (fun M_2 => wp_X7_types M_2 a0 x2 (fun M_5 => wp_X7_types M_5 a0 x3 (fun M_8 => wp_X7_types M_8 a0 x4 (fun M_11 => wp_X7_types M_11 a0 x5 (fun M_14 => Post (mgI M_14 a0 4) M_14))))))
  else (Post (-1 : Int32) M)
def wp_X7_here (M : MM) (a0 : Nat) (Post : Int32 → MM → Prop) : Prop :=
  if (mgI M a0 6) ≤ (mgI M a0 5) then (Post (-1 : Int32) M)
  else (∃ b_2, mgR M a0 3 = some b_2 ∧ mkd M b_2 = 102 ∧ vp_in (mgI M a0 5) (mln M b_2) ∧ Post ((mgI M b_2 (ix_ (mgI M a0 5))) &&& (255 : Int32)) M)
def wp_X7_isClause (M : MM) (x0 : Int32) (x1 : Int32) (Post : Int32 → MM → Prop) : Prop :=
  if x1 ≤ 0 then (if x0 = (101 : Int32) then (Post (1 : Int32) M)
  else (if x0 = (104 : Int32) then (Post (1 : Int32) M)
  else (if x0 = (99 : Int32) then (Post (1 : Int32) M)
  else (if x0 = (98 : Int32) then (Post (1 : Int32) M)
  else (Post (0 : Int32) M)))))
  else (if x0 = (103 : Int32) then (Post (1 : Int32) M)
  else (Post (0 : Int32) M))
def wp_X7_notes (M : MM) (a0 : Nat) (x1 : Int32) (x2 : Int32) (Post : MM → Prop) : Prop :=
  ∃ b_1, mgR M a0 13 = some b_1 ∧ mkd M b_1 = 100 ∧ vp_in (mgI M a0 10) (mln M b_1) ∧ ∀ M_5, M_5 = msI M b_1 (ix_ (mgI M a0 10)) (((1048576 : Int32) * x1) + x2) → ∀ M_7, M_7 = msI M_5 a0 10 ((mgI M_5 a0 10) + (1 : Int32)) → Post M_7
def wp_X7_waitTop (M : MM) (a0 : Nat) (Post : Int32 → MM → Prop) : Prop :=
  if (mgI M a0 11) = 0 then (Post (-1 : Int32) M)
  else (∃ b_2, mgR M a0 14 = some b_2 ∧ mkd M b_2 = 100 ∧ vp_in ((mgI M a0 11) - (1 : Int32)) (mln M b_2) ∧ Post ((mgI M b_2 (ix_ ((mgI M a0 11) - (1 : Int32)))) / (1048576 : Int32)) M)
def wl_X7_endsPiece_0 (a0 : Nat) (X39 : MM → Prop) : Nat → MM → Prop
  | 0, _ => False
  | n_ + 1, M =>
  wp_X7_waitTop M a0 (fun r_2 M_1 => if r_2 = (10 : Int32) then (wp_X7_notes M_1 a0 (10 : Int32) (0 : Int32) (fun M_5 => ∀ M_8, M_8 = msI M_5 a0 11 ((mgI M_5 a0 11) - (1 : Int32)) → ∀ M_10, M_10 = msI M_8 a0 9 ((mgI M_8 a0 9) - (1 : Int32)) → wl_X7_endsPiece_0 a0 X39 n_ M_10))
  else (X39 M_1))
def wp_X7_endsPiece (M : MM) (a0 : Nat) (Post : MM → Prop) : Prop :=
  ∃ n_12, wl_X7_endsPiece_0 a0
    (fun (M_13 : MM) => Post M_13) n_12 M
def wp_X7_jumps (M : MM) (a0 : Nat) (x1 : Int32) (Post : MM → Prop) : Prop :=
  ∃ b_1, mgR M a0 14 = some b_1 ∧ mkd M b_1 = 100 ∧ vp_in (mgI M a0 11) (mln M b_1) ∧ ∀ M_5, M_5 = msI M b_1 (ix_ (mgI M a0 11)) (((1048576 : Int32) * x1) + (mgI M a0 10)) → ∀ M_7, M_7 = msI M_5 a0 11 ((mgI M_5 a0 11) + (1 : Int32)) → wp_X7_notes M_7 a0 x1 (0 : Int32) (fun M_9 => ∀ M_12, M_12 = msI M_9 a0 5 ((mgI M_9 a0 5) + (1 : Int32)) → Post M_12)
def wb_X7_lands_22 (M : MM) (a0 : Nat) (x1 : Int32) (R : MM → Prop) (X73 : MM → Prop) : Prop :=
  ∃ b_5, mgR M a0 14 = some b_5 ∧ mkd M b_5 = 100 ∧ vp_in ((mgI M a0 11) - (1 : Int32)) (mln M b_5) ∧ ∀ x2_9, x2_9 = rm_ (mgI M b_5 (ix_ ((mgI M a0 11) - (1 : Int32)))) (1048576 : Int32) → ∃ b_11, mgR M a0 13 = some b_11 ∧ mkd M b_11 = 100 ∧ ∃ b_14, mgR M a0 13 = some b_14 ∧ mkd M b_14 = 100 ∧ vp_in x2_9 (mln M b_14) ∧ vp_in x2_9 (mln M b_11) ∧ ∀ M_19, M_19 = msI M b_11 (ix_ x2_9) (((1048576 : Int32) * ((mgI M b_14 (ix_ x2_9)) / (1048576 : Int32))) + (mgI M a0 10)) → ∀ M_21, M_21 = msI M_19 a0 11 ((mgI M_19 a0 11) - (1 : Int32)) → R M_21
def wl_X7_lands_0 (a0 : Nat) (x1 : Int32) (X73 : MM → Prop) : Nat → MM → Prop
  | 0, _ => False
  | n_ + 1, M =>
  wp_X7_waitTop M a0 (fun r_2 M_1 => if r_2 = (11 : Int32) then (wb_X7_lands_22 M_1 a0 x1 (wl_X7_lands_0 a0 x1 X73 n_) X73)
  else (if x1 = 0 then (X73 M_1)
  else (wp_X7_waitTop M_1 a0 (fun r_25 M_24 => if r_25 = (12 : Int32) then (wb_X7_lands_22 M_24 a0 x1 (wl_X7_lands_0 a0 x1 X73 n_) X73)
  else (X73 M_24)))))
def wp_X7_lands (M : MM) (a0 : Nat) (x1 : Int32) (Post : MM → Prop) : Prop :=
  ∃ n_28, wl_X7_lands_0 a0 x1
    (fun (M_29 : MM) => Post M_29) n_28 M
def wp_X7_wrongAt (M : MM) (a0 : Nat) (x1 : Int32) (x2 : Int32) (Post : Int32 → MM → Prop) : Prop :=
  ∀ M_1, M_1 = msI M a0 7 (((-1000 : Int32) * x1) - x2) → Post (0 : Int32) M_1
def wp_X7_opens (M : MM) (a0 : Nat) (x1 : Int32) (Post : Int32 → MM → Prop) : Prop :=
  if (mgI M a0 9) = (6 : Int32) then (wp_X7_wrongAt M a0 (5 : Int32) (mgI M a0 5) (fun r_15 M_14 => isB_ r_15 ∧ Post r_15 M_14))
  else (∀ M_2, M_2 = msI M a0 9 ((mgI M a0 9) + (1 : Int32)) → ∃ b_4, mgR M_2 a0 14 = some b_4 ∧ mkd M_2 b_4 = 100 ∧ vp_in (mgI M_2 a0 11) (mln M_2 b_4) ∧ ∀ M_8, M_8 = msI M_2 b_4 (ix_ (mgI M_2 a0 11)) ((1048576 : Int32) * x1) → ∀ M_10, M_10 = msI M_8 a0 11 ((mgI M_8 a0 11) + (1 : Int32)) → ∀ M_12, M_12 = msI M_10 a0 5 ((mgI M_10 a0 5) + (1 : Int32)) → Post (1 : Int32) M_12)
def wb_X7_closesSums_37 (M : MM) (a0 : Nat) (x1 : Int32) (R : MM → Prop) (X59 : MM → Prop) : Prop :=
  wp_X7_waitTop M a0 (fun r_11 M_10 => wp_X7_notes M_10 a0 r_11 (0 : Int32) (fun M_13 => ∀ M_16, M_16 = msI M_13 a0 11 ((mgI M_13 a0 11) - (1 : Int32)) → R M_16))
def wb_X7_closesSums_17 (M : MM) (a0 : Nat) (x1 : Int32) (R : MM → Prop) (X59 : MM → Prop) : Prop :=
  if x1 = 0 then (X59 M)
  else (wp_X7_waitTop M a0 (fun r_7 M_6 => if r_7 = (2 : Int32) then (wb_X7_closesSums_37 M_6 a0 x1 R X59)
  else (wp_X7_waitTop M_6 a0 (fun r_19 M_18 => if r_19 = (3 : Int32) then (wb_X7_closesSums_37 M_18 a0 x1 R X59)
  else (X59 M_18)))))
def wl_X7_closesSums_0 (a0 : Nat) (x1 : Int32) (X59 : MM → Prop) : Nat → MM → Prop
  | 0, _ => False
  | n_ + 1, M =>
  wp_X7_waitTop M a0 (fun r_2 M_1 => if r_2 < (4 : Int32) then (wb_X7_closesSums_17 M_1 a0 x1 (wl_X7_closesSums_0 a0 x1 X59 n_) X59)
  else (wp_X7_waitTop M_1 a0 (fun r_23 M_22 => if r_23 ≤ (6 : Int32) then (wb_X7_closesSums_37 M_22 a0 x1 (wl_X7_closesSums_0 a0 x1 X59 n_) X59)
  else (wb_X7_closesSums_17 M_22 a0 x1 (wl_X7_closesSums_0 a0 x1 X59 n_) X59))))
def wp_X7_closesSums (M : MM) (a0 : Nat) (x1 : Int32) (Post : MM → Prop) : Prop :=
  ∃ n_26, wl_X7_closesSums_0 a0 x1
    (fun (M_27 : MM) => Post M_27) n_26 M
def wl_X7_hasOpenSum_2 (a0 : Nat) (X24 : MM → Prop) (X32 : MM → Prop) : Nat → MM → Int32 → Prop
  | 0, _, _ => False
  | n_ + 1, M, x2 =>
  if (mgI M a0 11) ≤ x2 then (X32 M)
  else (∃ b_2, mgR M a0 14 = some b_2 ∧ mkd M b_2 = 100 ∧ vp_in x2 (mln M b_2) ∧ if ((mgI M b_2 (ix_ x2)) / (1048576 : Int32)) = (14 : Int32) then (X24 M)
  else (∀ x2_7, x2_7 = x2 + 1 → wl_X7_hasOpenSum_2 a0 X24 X32 n_ M x2_7))
def wp_X7_hasOpenSum (M : MM) (a0 : Nat) (x1 : Int32) (Post : Int32 → MM → Prop) : Prop :=
  ∃ n_9, wl_X7_hasOpenSum_2 a0
    (fun (M_10 : MM) => Post (1 : Int32) M_10)
    (fun (M_12 : MM) => Post (0 : Int32) M_12) n_9 M x1
def wp_X7_factOf (M : MM) (x0 : Int32) (Post : Int32 → MM → Prop) : Prop :=
  if x0 = 97 then (Post (11 : Int32) M)
  else (if x0 = 98 then (Post (-1 : Int32) M)
  else (if x0 = 99 then (Post (-1 : Int32) M)
  else (if x0 = 100 then (Post (0 : Int32) M)
  else (if x0 = 101 then (Post (-1 : Int32) M)
  else (if x0 = 102 then (Post (4 : Int32) M)
  else (if x0 = 103 then (Post (-1 : Int32) M)
  else (if x0 = 104 then (Post (-1 : Int32) M)
  else (if x0 = 105 then (Post (-1 : Int32) M)
  else (if x0 = 106 then (Post (-1 : Int32) M)
  else (if x0 = 107 then (Post (-1 : Int32) M)
  else (if x0 = 108 then (Post (2 : Int32) M)
  else (if x0 = 109 then (Post (-1 : Int32) M)
  else (if x0 = 110 then (Post (10 : Int32) M)
  else (if x0 = 111 then (Post (3 : Int32) M)
  else (if x0 = 112 then (Post (8 : Int32) M)
  else (if x0 = 113 then (Post (12 : Int32) M)
  else (if x0 = 114 then (Post (-1 : Int32) M)
  else (if x0 = 115 then (Post (5 : Int32) M)
  else (if x0 = 116 then (Post (9 : Int32) M)
  else (if x0 = 117 then (Post (-1 : Int32) M)
  else (if x0 = 118 then (Post (-1 : Int32) M)
  else (if x0 = 119 then (Post (1 : Int32) M)
  else (if x0 = 120 then (Post (-1 : Int32) M)
  else (if x0 = 121 then (Post (6 : Int32) M)
  else (if x0 = 122 then (Post (7 : Int32) M)
  else (Post (-1 : Int32) M))))))))))))))))))))))))))
def wp_X7_isDigit (M : MM) (a0 : Nat) (Post : Int32 → MM → Prop) : Prop :=
  wp_X7_here M a0 (fun r_2 M_1 => if r_2 < (48 : Int32) then (Post (0 : Int32) M_1)
  else (wp_X7_here M_1 a0 (fun r_6 M_5 => if (57 : Int32) < r_6 then (Post (0 : Int32) M_5)
  else (Post (1 : Int32) M_5))))
def wl_X7_readsNumber_10 (a0 : Nat) (x1 : Int32) (X27 : MM → Prop) (X69 : MM → Prop) : Nat → MM → Prop
  | 0, _ => False
  | n_ + 1, M =>
  wp_X7_isDigit M a0 (fun r_6 M_5 => if r_6 = 0 then (X69 M_5)
  else (if (mgI M_5 a0 5) = (x1 + (5 : Int32)) then (X27 M_5)
  else (wp_X7_here M_5 a0 (fun r_11 M_10 => ∀ M_13, M_13 = msI M_10 a0 8 ((((10 : Int32) * (mgI M_5 a0 8)) + r_11) - (48 : Int32)) → ∀ M_15, M_15 = msI M_13 a0 5 ((mgI M_13 a0 5) + (1 : Int32)) → wl_X7_readsNumber_10 a0 x1 X27 X69 n_ M_15))))
def wp_X7_readsNumber (M : MM) (a0 : Nat) (Post : Int32 → MM → Prop) : Prop :=
  ∀ x1_1, x1_1 = mgI M a0 5 → ∀ M_3, M_3 = msI M a0 8 (0 : Int32) → ∃ n_17, wl_X7_readsNumber_10 a0 x1_1
    (fun (M_18 : MM) => wp_X7_wrongAt M_18 a0 (2 : Int32) (mgI M_18 a0 5) (fun r_21 M_20 => isB_ r_21 ∧ Post r_21 M_20))
    (fun (M_24 : MM) => Post (1 : Int32) M_24) n_17 M_3
def wl_X7_readsFactor_0 (a0 : Nat) (X18 : MM → Prop) (X20 : MM → Prop) : Nat → MM → Prop
  | 0, _ => False
  | n_ + 1, M =>
  wp_X7_here M a0 (fun r_2 M_1 => if r_2 = (91 : Int32) then (wp_X7_opens M_1 a0 (14 : Int32) (fun r_6 M_5 => if r_6 = 0 then (X18 M_5)
  else (wl_X7_readsFactor_0 a0 X18 X20 n_ M_5)))
  else (X20 M_1))
def wp_X7_readsFactor (M : MM) (a0 : Nat) (Post : Int32 → MM → Prop) : Prop :=
  ∃ n_9, wl_X7_readsFactor_0 a0
    (fun (M_10 : MM) => Post (0 : Int32) M_10)
    (fun (M_12 : MM) => wp_X7_isDigit M_12 a0 (fun r_15 M_14 => if r_15 = 0 then (wp_X7_here M_14 a0 (fun r_19 M_18 => wp_X7_factOf M_18 r_19 (fun r_22 M_21 => if r_22 = (-1 : Int32) then (wp_X7_wrongAt M_21 a0 (1 : Int32) (mgI M_21 a0 5) (fun r_31 M_30 => isB_ r_31 ∧ Post r_31 M_30))
  else (wp_X7_notes M_21 a0 (1 : Int32) r_22 (fun M_25 => ∀ M_28, M_28 = msI M_25 a0 5 ((mgI M_25 a0 5) + (1 : Int32)) → Post (1 : Int32) M_28)))))
  else (wp_X7_readsNumber M_14 a0 (fun r_35 M_34 => if r_35 = 0 then (Post (0 : Int32) M_34)
  else (wp_X7_notes M_34 a0 (0 : Int32) (mgI M_34 a0 8) (fun M_38 => Post (1 : Int32) M_38)))))) n_9 M
def wp_X7_sumSign (M : MM) (x0 : Int32) (Post : Int32 → MM → Prop) : Prop :=
  if x0 = (43 : Int32) then (Post (2 : Int32) M)
  else (if x0 = (45 : Int32) then (Post (3 : Int32) M)
  else (if x0 = (42 : Int32) then (Post (4 : Int32) M)
  else (if x0 = (47 : Int32) then (Post (5 : Int32) M)
  else (if x0 = (37 : Int32) then (Post (6 : Int32) M)
  else (Post (-1 : Int32) M)))))
def wb_X7_readsSum_38 (M : MM) (a0 : Nat) (x1 : Int32) (x2 : Int32) (as0 : Nat) (xs1 : Int32) (R : MM → Prop) (X81 : MM → Prop) (X138 : MM → Prop) : Prop :=
  wp_X7_closesSums M as0 xs1 (fun M_32 => ∃ b_35, mgR M_32 a0 14 = some b_35 ∧ mkd M_32 b_35 = 100 ∧ vp_in (mgI M_32 a0 11) (mln M_32 b_35) ∧ ∀ M_39, M_39 = msI M_32 b_35 (ix_ (mgI M_32 a0 11)) ((1048576 : Int32) * x2) → ∀ M_41, M_41 = msI M_39 a0 11 ((mgI M_39 a0 11) + (1 : Int32)) → ∀ M_43, M_43 = msI M_41 a0 5 ((mgI M_41 a0 5) + (1 : Int32)) → wp_X7_readsFactor M_43 a0 (fun r_46 M_45 => if r_46 = 0 then (X81 M_45)
  else (R M_45)))
def wl_X7_readsSum_14 (a0 : Nat) (x1 : Int32) (X81 : MM → Prop) (X138 : MM → Prop) : Nat → MM → Prop
  | 0, _ => False
  | n_ + 1, M =>
  wp_X7_here M a0 (fun r_8 M_7 => wp_X7_sumSign M_7 r_8 (fun r_11 M_10 => if r_11 = (-1 : Int32) then (wp_X7_here M_10 a0 (fun r_15 M_14 => if r_15 = (93 : Int32) then (wp_X7_hasOpenSum M_14 a0 x1 (fun r_19 M_18 => if r_19 = 0 then (X138 M_18)
  else (wp_X7_closesSums M_18 a0 (1 : Int32) (fun M_22 => ∀ M_25, M_25 = msI M_22 a0 11 ((mgI M_22 a0 11) - (1 : Int32)) → ∀ M_27, M_27 = msI M_25 a0 9 ((mgI M_25 a0 9) - (1 : Int32)) → ∀ M_29, M_29 = msI M_27 a0 5 ((mgI M_27 a0 5) + (1 : Int32)) → wl_X7_readsSum_14 a0 x1 X81 X138 n_ M_29))))
  else (X138 M_14)))
  else (if (4 : Int32) ≤ r_11 then (wb_X7_readsSum_38 M_10 a0 x1 r_11 a0 (0 : Int32) (wl_X7_readsSum_14 a0 x1 X81 X138 n_) X81 X138)
  else (wb_X7_readsSum_38 M_10 a0 x1 r_11 a0 (1 : Int32) (wl_X7_readsSum_14 a0 x1 X81 X138 n_) X81 X138))))
def wb_X7_readsSum_138 (M : MM) (a0 : Nat) (x1 : Int32) (Post : Int32 → MM → Prop) : Prop :=
  wp_X7_hasOpenSum M a0 x1 (fun r_55 M_54 => if r_55 = 0 then (wp_X7_closesSums M_54 a0 (1 : Int32) (fun M_58 => Post (1 : Int32) M_58))
  else (wp_X7_wrongAt M_54 a0 (1 : Int32) (mgI M_54 a0 5) (fun r_62 M_61 => isB_ r_62 ∧ Post r_62 M_61)))
def wp_X7_readsSum (M : MM) (a0 : Nat) (Post : Int32 → MM → Prop) : Prop :=
  ∀ x1_1, x1_1 = mgI M a0 11 → wp_X7_readsFactor M a0 (fun r_4 M_3 => if r_4 = 0 then (Post (0 : Int32) M_3)
  else (∃ n_49, wl_X7_readsSum_14 a0 x1_1
    (fun (M_50 : MM) => Post (0 : Int32) M_50)
    (fun (M_52 : MM) => wb_X7_readsSum_138 M_52 a0 x1_1 Post) n_49 M_3))
def wb_X7_readsCompared_52 (M : MM) (a0 : Nat) (xs0 : Int32) (Post : Int32 → MM → Prop) : Prop :=
  if xs0 = (-1 : Int32) then (wp_X7_wrongAt M a0 (1 : Int32) (mgI M a0 5) (fun r_31 M_30 => isB_ r_31 ∧ Post r_31 M_30))
  else (∀ M_18, M_18 = msI M a0 5 ((mgI M a0 5) + (1 : Int32)) → wp_X7_readsSum M_18 a0 (fun r_21 M_20 => if r_21 = 0 then (Post (0 : Int32) M_20)
  else (wp_X7_notes M_20 a0 xs0 (0 : Int32) (fun M_24 => wp_X7_endsPiece M_24 a0 (fun M_27 => Post (1 : Int32) M_27)))))
def wp_X7_readsCompared (M : MM) (a0 : Nat) (Post : Int32 → MM → Prop) : Prop :=
  wp_X7_readsSum M a0 (fun r_2 M_1 => if r_2 = 0 then (Post (0 : Int32) M_1)
  else (wp_X7_here M_1 a0 (fun r_6 M_5 => if r_6 = (60 : Int32) then (wb_X7_readsCompared_52 M_5 a0 (7 : Int32) Post)
  else (wp_X7_here M_5 a0 (fun r_10 M_9 => if r_10 = (62 : Int32) then (wb_X7_readsCompared_52 M_9 a0 (8 : Int32) Post)
  else (wp_X7_here M_9 a0 (fun r_14 M_13 => if r_14 = (61 : Int32) then (wb_X7_readsCompared_52 M_13 a0 (9 : Int32) Post)
  else (wb_X7_readsCompared_52 M_13 a0 (-1 : Int32) Post))))))))
def wb_X7_readsCondition_75 (M : MM) (a0 : Nat) (as0 : Nat) (xs1 : Int32) (R : MM → Prop) (X81 : MM → Prop) (X90 : MM → Prop) (X143 : MM → Prop) (X170 : MM → Prop) : Prop :=
  wp_X7_opens M as0 xs1 (fun r_22 M_21 => if r_22 = 0 then (X81 M_21)
  else (R M_21))
def wb_X7_readsCondition_58 (M : MM) (a0 : Nat) (R : MM → Prop) (X81 : MM → Prop) (X90 : MM → Prop) (X143 : MM → Prop) (X170 : MM → Prop) : Prop :=
  wp_X7_here M a0 (fun r_18 M_17 => if r_18 = (33 : Int32) then (wb_X7_readsCondition_75 M_17 a0 a0 (10 : Int32) R X81 X90 X143 X170)
  else (wb_X7_readsCondition_75 M_17 a0 a0 (13 : Int32) R X81 X90 X143 X170))
def wl_X7_readsCondition_92 (a0 : Nat) (X143 : MM → Prop) (X152 : MM → Prop) : Nat → MM → Prop
  | 0, _ => False
  | n_ + 1, M =>
  wp_X7_here M a0 (fun r_34 M_33 => if r_34 = (41 : Int32) then (wp_X7_lands M_33 a0 (1 : Int32) (fun M_37 => ∀ M_40, M_40 = msI M_37 a0 11 ((mgI M_37 a0 11) - (1 : Int32)) → ∀ M_42, M_42 = msI M_40 a0 9 ((mgI M_40 a0 9) - (1 : Int32)) → ∀ M_44, M_44 = msI M_42 a0 5 ((mgI M_42 a0 5) + (1 : Int32)) → if (mgI M_44 a0 11) = 0 then (X143 M_44)
  else (wp_X7_endsPiece M_44 a0 (fun M_47 => wl_X7_readsCondition_92 a0 X143 X152 n_ M_47))))
  else (X152 M_33))
def wb_X7_readsCondition_215 (M : MM) (a0 : Nat) (as0 : Nat) (xs1 : Int32) (R : MM → Prop) (X81 : MM → Prop) (X90 : MM → Prop) (X143 : MM → Prop) (X170 : MM → Prop) : Prop :=
  wp_X7_jumps M as0 xs1 (fun M_70 => R M_70)
def wb_X7_readsCondition_195 (M : MM) (a0 : Nat) (as0 : Nat) (xs1 : Int32) (R : MM → Prop) (X81 : MM → Prop) (X90 : MM → Prop) (X143 : MM → Prop) (X170 : MM → Prop) : Prop :=
  wp_X7_lands M as0 xs1 (fun M_63 => wp_X7_here M_63 a0 (fun r_67 M_66 => if r_67 = (38 : Int32) then (wb_X7_readsCondition_215 M_66 a0 a0 (11 : Int32) R X81 X90 X143 X170)
  else (wb_X7_readsCondition_215 M_66 a0 a0 (12 : Int32) R X81 X90 X143 X170)))
def wb_X7_readsCondition_180 (M : MM) (a0 : Nat) (R : MM → Prop) (X81 : MM → Prop) (X90 : MM → Prop) (X143 : MM → Prop) (X170 : MM → Prop) : Prop :=
  wp_X7_here M a0 (fun r_60 M_59 => if r_60 = (124 : Int32) then (wb_X7_readsCondition_195 M_59 a0 a0 (1 : Int32) R X81 X90 X143 X170)
  else (wb_X7_readsCondition_195 M_59 a0 a0 (0 : Int32) R X81 X90 X143 X170))
def wl_X7_readsCondition_40 (a0 : Nat) (X81 : MM → Prop) (X90 : MM → Prop) (X143 : MM → Prop) (X170 : MM → Prop) : Nat → MM → Prop
  | 0, _ => False
  | n_ + 1, M =>
  wp_X7_here M a0 (fun r_14 M_13 => if r_14 = (33 : Int32) then (wb_X7_readsCondition_58 M_13 a0 (wl_X7_readsCondition_40 a0 X81 X90 X143 X170 n_) X81 X90 X143 X170)
  else (wp_X7_here M_13 a0 (fun r_26 M_25 => if r_26 = (40 : Int32) then (wb_X7_readsCondition_58 M_25 a0 (wl_X7_readsCondition_40 a0 X81 X90 X143 X170 n_) X81 X90 X143 X170)
  else (wp_X7_readsCompared M_25 a0 (fun r_30 M_29 => if r_30 = 0 then (X90 M_29)
  else (∃ n_50, wl_X7_readsCondition_92 a0
    (fun (M_51 : MM) => X143 M_51)
    (fun (M_53 : MM) => wp_X7_here M_53 a0 (fun r_56 M_55 => if r_56 = (38 : Int32) then (wb_X7_readsCondition_180 M_55 a0 (wl_X7_readsCondition_40 a0 X81 X90 X143 X170 n_) X81 X90 X143 X170)
  else (wp_X7_here M_55 a0 (fun r_74 M_73 => if r_74 = (124 : Int32) then (wb_X7_readsCondition_180 M_73 a0 (wl_X7_readsCondition_40 a0 X81 X90 X143 X170 n_) X81 X90 X143 X170)
  else (X170 M_73))))) n_50 M_29))))))
def wp_X7_readsCondition (M : MM) (a0 : Nat) (Post : Int32 → MM → Prop) : Prop :=
  wp_X7_here M a0 (fun r_2 M_1 => if r_2 = (40 : Int32) then (∀ M_5, M_5 = msI M_1 a0 9 (0 : Int32) → ∀ M_7, M_7 = msI M_5 a0 11 (0 : Int32) → wp_X7_opens M_7 a0 (13 : Int32) (fun r_10 M_9 => if r_10 = 0 then (Post (0 : Int32) M_9)
  else (∃ n_77, wl_X7_readsCondition_40 a0
    (fun (M_78 : MM) => Post (0 : Int32) M_78)
    (fun (M_80 : MM) => Post (0 : Int32) M_80)
    (fun (M_82 : MM) => Post (1 : Int32) M_82)
    (fun (M_84 : MM) => wp_X7_wrongAt M_84 a0 (1 : Int32) (mgI M_84 a0 5) (fun r_87 M_86 => isB_ r_87 ∧ Post r_87 M_86)) n_77 M_9)))
  else (wp_X7_wrongAt M_1 a0 (1 : Int32) (mgI M_1 a0 5) (fun r_91 M_90 => isB_ r_91 ∧ Post r_91 M_90)))
def wp_X7_readsClause (M : MM) (a0 : Nat) (x1 : Int32) (Post : Int32 → MM → Prop) : Prop :=
  wp_X7_here M a0 (fun r_2 M_1 => wp_X7_isClause M_1 r_2 x1 (fun r_5 M_4 => if r_5 = 0 then (wp_X7_wrongAt M_4 a0 (1 : Int32) (mgI M_4 a0 5) (fun r_54 M_53 => isB_ r_54 ∧ Post r_54 M_53))
  else (if (mgI M_4 a0 12) = (14 : Int32) then (wp_X7_wrongAt M_4 a0 (4 : Int32) (mgI M_4 a0 5) (fun r_50 M_49 => isB_ r_50 ∧ Post r_50 M_49))
  else (∃ b_9, mgR M_4 a0 15 = some b_9 ∧ mkd M_4 b_9 = 100 ∧ vp_in (mgI M_4 a0 12) (mln M_4 b_9) ∧ ∀ M_13, M_13 = msI M_4 b_9 (ix_ (mgI M_4 a0 12)) r_2 → ∀ M_15, M_15 = msI M_13 a0 5 ((mgI M_13 a0 5) + (1 : Int32)) → ∃ b_17, mgR M_15 a0 16 = some b_17 ∧ mkd M_15 b_17 = 100 ∧ vp_in (mgI M_15 a0 12) (mln M_15 b_17) ∧ ∀ M_21, M_21 = msI M_15 b_17 (ix_ (mgI M_15 a0 12)) (mgI M_15 a0 10) → ∀ M_23, M_23 = msI M_21 a0 9 (0 : Int32) → ∀ M_25, M_25 = msI M_23 a0 11 (0 : Int32) → wp_X7_readsSum M_25 a0 (fun r_28 M_27 => if r_28 = 0 then (Post (0 : Int32) M_27)
  else (∃ b_31, mgR M_27 a0 17 = some b_31 ∧ mkd M_27 b_31 = 100 ∧ vp_in (mgI M_27 a0 12) (mln M_27 b_31) ∧ ∀ M_35, M_35 = msI M_27 b_31 (ix_ (mgI M_27 a0 12)) (mgI M_27 a0 10) → wp_X7_readsCondition M_35 a0 (fun r_38 M_37 => if r_38 = 0 then (Post (0 : Int32) M_37)
  else (∃ b_41, mgR M_37 a0 18 = some b_41 ∧ mkd M_37 b_41 = 100 ∧ vp_in (mgI M_37 a0 12) (mln M_37 b_41) ∧ ∀ M_45, M_45 = msI M_37 b_41 (ix_ (mgI M_37 a0 12)) (mgI M_37 a0 10) → ∀ M_47, M_47 = msI M_45 a0 12 ((mgI M_45 a0 12) + (1 : Int32)) → Post (1 : Int32) M_47))))))))
def wp_X7_takes (M : MM) (a0 : Nat) (x1 : Int32) (Post : Int32 → MM → Prop) : Prop :=
  wp_X7_here M a0 (fun r_2 M_1 => if r_2 = x1 then (∀ M_5, M_5 = msI M_1 a0 5 ((mgI M_1 a0 5) + (1 : Int32)) → Post (1 : Int32) M_5)
  else (wp_X7_wrongAt M_1 a0 (1 : Int32) (mgI M_1 a0 5) (fun r_8 M_7 => isB_ r_8 ∧ Post r_8 M_7)))
def wl_X7_reads_47 (a0 : Nat) (x1 : Int32) (X88 : MM → Int32 → Prop) : Nat → MM → Int32 → Prop
  | 0, _, _ => False
  | n_ + 1, M, x3 =>
  if x3 = 0 then (X88 M x3)
  else (if (mgI M a0 6) ≤ (mgI M a0 5) then (X88 M x3)
  else (wp_X7_takes M a0 (59 : Int32) (fun r_20 M_19 => if r_20 = 0 then (wl_X7_reads_47 a0 x1 X88 n_ M_19 (0 : Int32))
  else (wp_X7_readsClause M_19 a0 x1 (fun r_24 M_23 => if r_24 = 0 then (wl_X7_reads_47 a0 x1 X88 n_ M_23 (0 : Int32))
  else (wl_X7_reads_47 a0 x1 X88 n_ M_23 (1 : Int32)))))))
def wl_X7_reads_122 (a0 : Nat) (x1 : Int32) (x4 : Int32) (X154 : MM → Prop) : Nat → MM → Int32 → Prop
  | 0, _, _ => False
  | n_ + 1, M, x5 =>
  if (mgI M a0 10) ≤ x5 then (X154 M)
  else (∃ b_43, mgR M a0 19 = some b_43 ∧ mkd M b_43 = 100 ∧ ∃ b_46, mgR M a0 13 = some b_46 ∧ mkd M b_46 = 100 ∧ vp_in x5 (mln M b_46) ∧ vp_in (x4 + x5) (mln M b_43) ∧ ∀ M_51, M_51 = msI M b_43 (ix_ (x4 + x5)) (mgI M b_46 (ix_ x5)) → ∀ x5_53, x5_53 = x5 + 1 → wl_X7_reads_122 a0 x1 x4 X154 n_ M_51 x5_53)
def wl_X7_reads_157 (a0 : Nat) (x1 : Int32) (x4 : Int32) (X257 : MM → Prop) : Nat → MM → Int32 → Prop
  | 0, _, _ => False
  | n_ + 1, M, x5 =>
  if (mgI M a0 12) ≤ x5 then (X257 M)
  else (∃ b_59, mgR M a0 21 = some b_59 ∧ mkd M b_59 = 100 ∧ ∃ b_62, mgR M a0 15 = some b_62 ∧ mkd M b_62 = 100 ∧ vp_in x5 (mln M b_62) ∧ vp_in (((14 : Int32) * x1) + x5) (mln M b_59) ∧ ∀ M_67, M_67 = msI M b_59 (ix_ (((14 : Int32) * x1) + x5)) (mgI M b_62 (ix_ x5)) → ∃ b_69, mgR M_67 a0 22 = some b_69 ∧ mkd M_67 b_69 = 100 ∧ ∃ b_72, mgR M_67 a0 16 = some b_72 ∧ mkd M_67 b_72 = 100 ∧ vp_in x5 (mln M_67 b_72) ∧ vp_in (((14 : Int32) * x1) + x5) (mln M_67 b_69) ∧ ∀ M_77, M_77 = msI M_67 b_69 (ix_ (((14 : Int32) * x1) + x5)) (x4 + (mgI M_67 b_72 (ix_ x5))) → ∃ b_79, mgR M_77 a0 23 = some b_79 ∧ mkd M_77 b_79 = 100 ∧ ∃ b_82, mgR M_77 a0 17 = some b_82 ∧ mkd M_77 b_82 = 100 ∧ vp_in x5 (mln M_77 b_82) ∧ vp_in (((14 : Int32) * x1) + x5) (mln M_77 b_79) ∧ ∀ M_87, M_87 = msI M_77 b_79 (ix_ (((14 : Int32) * x1) + x5)) (x4 + (mgI M_77 b_82 (ix_ x5))) → ∃ b_89, mgR M_87 a0 24 = some b_89 ∧ mkd M_87 b_89 = 100 ∧ ∃ b_92, mgR M_87 a0 18 = some b_92 ∧ mkd M_87 b_92 = 100 ∧ vp_in x5 (mln M_87 b_92) ∧ vp_in (((14 : Int32) * x1) + x5) (mln M_87 b_89) ∧ ∀ M_97, M_97 = msI M_87 b_89 (ix_ (((14 : Int32) * x1) + x5)) (x4 + (mgI M_87 b_92 (ix_ x5))) → ∀ x5_99, x5_99 = x5 + 1 → wl_X7_reads_157 a0 x1 x4 X257 n_ M_97 x5_99)
def wb_X7_reads_88 (M : MM) (a0 : Nat) (x1 : Int32) (x3 : Int32) (Post : Int32 → MM → Prop) : Prop :=
  ∀ M_31, M_31 = msI M a0 4 (0 : Int32) → if x3 = 0 then (Post (mgI M_31 a0 7) M_31)
  else (∃ b_34, mgR M_31 a0 20 = some b_34 ∧ mkd M_31 b_34 = 100 ∧ vp_in x1 (mln M_31 b_34) ∧ ∀ M_38, M_38 = msI M_31 b_34 (ix_ x1) (mgI M_31 a0 12) → ∀ x4_40, x4_40 = (220 : Int32) * x1 → ∃ n_55, wl_X7_reads_122 a0 x1 x4_40
    (fun (M_56 : MM) => ∃ n_101, wl_X7_reads_157 a0 x1 x4_40
    (fun (M_102 : MM) => Post (mgI M_102 a0 12) M_102) n_101 M_56 (0 : Int32)) n_55 M_38 (0 : Int32))
def wp_X7_reads (M : MM) (a0 : Nat) (x1 : Int32) (x2 : Int32) (Post : Int32 → MM → Prop) : Prop :=
  wp_X7_in M x2 (1 : Int32) (200 : Int32) (fun r_2 M_1 => if r_2 = 0 then (Post (-1 : Int32) M_1)
  else (if x2 ≤ (mgI M_1 a0 4) then (∀ M_6, M_6 = msI M_1 a0 5 (0 : Int32) → ∀ M_8, M_8 = msI M_6 a0 6 x2 → ∀ M_10, M_10 = msI M_8 a0 10 (0 : Int32) → ∀ M_12, M_12 = msI M_10 a0 12 (0 : Int32) → wp_X7_readsClause M_12 a0 x1 (fun r_15 M_14 => ∃ n_27, wl_X7_reads_47 a0 x1
    (fun (M_28 : MM) (x3_30 : Int32) => wb_X7_reads_88 M_28 a0 x1 x3_30 Post) n_27 M_14 r_15))
  else (Post (-1 : Int32) M_1)))
def wp_X7_law (M : MM) (a0 : Nat) (x1 : Int32) (Post : Int32 → MM → Prop) : Prop :=
  wp_X7_reads M a0 (0 : Int32) x1 (fun r_2 M_1 => Post r_2 M_1)
def wp_X7_rule (M : MM) (a0 : Nat) (x1 : Int32) (x2 : Int32) (Post : Int32 → MM → Prop) : Prop :=
  wp_X7_in M x1 (0 : Int32) (3 : Int32) (fun r_2 M_1 => if r_2 = 0 then (Post (-1 : Int32) M_1)
  else (wp_X7_reads M_1 a0 (x1 + (1 : Int32)) x2 (fun r_6 M_5 => Post r_6 M_5)))
def wp_X7_reckon (M : MM) (x0 : Int32) (x1 : Int32) (x2 : Int32) (Post : Int32 → MM → Prop) : Prop :=
  if x0 = 2 then (Post (x1 + x2) M)
  else (if x0 = 3 then (Post (x1 - x2) M)
  else (if x0 = 4 then (Post (x1 * x2) M)
  else (if x0 = 5 then (¬ x2 = 0 ∧ Post (x1 / x2) M)
  else (if x0 = 6 then (¬ x2 = 0 ∧ Post (rm_ x1 x2) M)
  else (if x0 = 7 then (if x2 ≤ x1 then (Post (0 : Int32) M)
  else (Post (1 : Int32) M))
  else (if x0 = 8 then (if x1 ≤ x2 then (Post (0 : Int32) M)
  else (Post (1 : Int32) M))
  else (if x1 = x2 then (Post (1 : Int32) M)
  else (Post (0 : Int32) M))))))))
def wb_X7_comesTo_85 (M : MM) (a0 : Nat) (x2 : Int32) (x3 : Int32) (x4 : Int32) (x5 : Int32) (as0 : Nat) (xs1 : Int32) (xs2 : Int32) (R : MM → Int32 → Int32 → Prop) (X201 : MM → Prop) (X233 : MM → Prop) : Prop :=
  vp_in xs1 (mln M as0) ∧ ∀ M_28, M_28 = msI M as0 (ix_ xs1) xs2 → ∀ x3_30, x3_30 = x3 + (1 : Int32) → R M_28 x3_30 x5
def wb_X7_comesTo_63 (M : MM) (a0 : Nat) (x2 : Int32) (x3 : Int32) (x4 : Int32) (x5 : Int32) (x6 : Int32) (x7 : Int32) (R : MM → Int32 → Int32 → Prop) (X201 : MM → Prop) (X233 : MM → Prop) : Prop :=
  ∃ b_19, mgR M a0 25 = some b_19 ∧ mkd M b_19 = 100 ∧ if x6 = 0 then (wb_X7_comesTo_85 M a0 x2 x3 x4 x5 b_19 x3 x7 R X201 X233)
  else (∃ b_23, mgR M a0 26 = some b_23 ∧ mkd M b_23 = 100 ∧ vp_in x7 (mln M b_23) ∧ wb_X7_comesTo_85 M a0 x2 x3 x4 x5 b_19 x3 (mgI M b_23 (ix_ x7)) R X201 X233)
def wb_X7_comesTo_155 (M : MM) (a0 : Nat) (x2 : Int32) (x3 : Int32) (x4 : Int32) (x5 : Int32) (x7 : Int32) (xs0 : Int32) (xs1 : Int32) (R : MM → Int32 → Int32 → Prop) (X201 : MM → Prop) (X233 : MM → Prop) : Prop :=
  if xs0 = xs1 then (∀ x5_43, x5_43 = x4 + x7 → R M x3 x5_43)
  else (∀ x3_41, x3_41 = x3 - (1 : Int32) → R M x3_41 x5)
def wb_X7_comesTo_135 (M : MM) (a0 : Nat) (x2 : Int32) (x3 : Int32) (x4 : Int32) (x5 : Int32) (x6 : Int32) (x7 : Int32) (R : MM → Int32 → Int32 → Prop) (X201 : MM → Prop) (X233 : MM → Prop) : Prop :=
  ∃ b_35, mgR M a0 25 = some b_35 ∧ mkd M b_35 = 100 ∧ vp_in (x3 - (1 : Int32)) (mln M b_35) ∧ if x6 = (12 : Int32) then (wb_X7_comesTo_155 M a0 x2 x3 x4 x5 x7 (mgI M b_35 (ix_ (x3 - (1 : Int32)))) (1 : Int32) R X201 X233)
  else (wb_X7_comesTo_155 M a0 x2 x3 x4 x5 x7 (mgI M b_35 (ix_ (x3 - (1 : Int32)))) (0 : Int32) R X201 X233)
def wb_X7_comesTo_203 (M : MM) (a0 : Nat) (x2 : Int32) (x3 : Int32) (x4 : Int32) (x5 : Int32) (x6 : Int32) (R : MM → Int32 → Int32 → Prop) (X201 : MM → Prop) (X233 : MM → Prop) : Prop :=
  ∃ b_54, mgR M a0 25 = some b_54 ∧ mkd M b_54 = 100 ∧ ∃ b_57, mgR M a0 25 = some b_57 ∧ mkd M b_57 = 100 ∧ vp_in (x3 - (1 : Int32)) (mln M b_57) ∧ ∃ b_61, mgR M a0 25 = some b_61 ∧ mkd M b_61 = 100 ∧ vp_in x3 (mln M b_61) ∧ wp_X7_reckon M x6 (mgI M b_57 (ix_ (x3 - (1 : Int32)))) (mgI M b_61 (ix_ x3)) (fun r_66 M_65 => vp_in (x3 - (1 : Int32)) (mln M_65 b_54) ∧ ∀ M_69, M_69 = msI M_65 b_54 (ix_ (x3 - (1 : Int32))) r_66 → R M_69 x3 x5)
def wb_X7_comesTo_192 (M : MM) (a0 : Nat) (x2 : Int32) (x3 : Int32) (x4 : Int32) (x5 : Int32) (x6 : Int32) (R : MM → Int32 → Int32 → Prop) (X201 : MM → Prop) (X233 : MM → Prop) : Prop :=
  ∃ b_49, mgR M a0 25 = some b_49 ∧ mkd M b_49 = 100 ∧ vp_in x3 (mln M b_49) ∧ if (mgI M b_49 (ix_ x3)) = 0 then (X201 M)
  else (wb_X7_comesTo_203 M a0 x2 x3 x4 x5 x6 R X201 X233)
def wl_X7_comesTo_16 (a0 : Nat) (x2 : Int32) (x4 : Int32) (X201 : MM → Prop) (X233 : MM → Prop) : Nat → MM → Int32 → Int32 → Prop
  | 0, _, _, _ => False
  | n_ + 1, M, x3, x5 =>
  if x2 ≤ x5 then (X233 M)
  else (∃ b_4, mgR M a0 19 = some b_4 ∧ mkd M b_4 = 100 ∧ vp_in x5 (mln M b_4) ∧ ∀ x6_8, x6_8 = (mgI M b_4 (ix_ x5)) / (1048576 : Int32) → ∃ b_10, mgR M a0 19 = some b_10 ∧ mkd M b_10 = 100 ∧ vp_in x5 (mln M b_10) ∧ ∀ x7_14, x7_14 = rm_ (mgI M b_10 (ix_ x5)) (1048576 : Int32) → ∀ x5_16, x5_16 = x5 + (1 : Int32) → if x6_8 = 0 then (wb_X7_comesTo_63 M a0 x2 x3 x4 x5_16 x6_8 x7_14 (wl_X7_comesTo_16 a0 x2 x4 X201 X233 n_) X201 X233)
  else (if x6_8 = (1 : Int32) then (wb_X7_comesTo_63 M a0 x2 x3 x4 x5_16 x6_8 x7_14 (wl_X7_comesTo_16 a0 x2 x4 X201 X233 n_) X201 X233)
  else (if x6_8 = (10 : Int32) then (∃ b_72, mgR M a0 25 = some b_72 ∧ mkd M b_72 = 100 ∧ ∃ b_75, mgR M a0 25 = some b_75 ∧ mkd M b_75 = 100 ∧ vp_in (x3 - (1 : Int32)) (mln M b_75) ∧ vp_in (x3 - (1 : Int32)) (mln M b_72) ∧ ∀ M_80, M_80 = msI M b_72 (ix_ (x3 - (1 : Int32))) ((1 : Int32) - (mgI M b_75 (ix_ (x3 - (1 : Int32))))) → wl_X7_comesTo_16 a0 x2 x4 X201 X233 n_ M_80 x3 x5_16)
  else (if x6_8 = (11 : Int32) then (wb_X7_comesTo_135 M a0 x2 x3 x4 x5_16 x6_8 x7_14 (wl_X7_comesTo_16 a0 x2 x4 X201 X233 n_) X201 X233)
  else (if x6_8 = (12 : Int32) then (wb_X7_comesTo_135 M a0 x2 x3 x4 x5_16 x6_8 x7_14 (wl_X7_comesTo_16 a0 x2 x4 X201 X233 n_) X201 X233)
  else (∀ x3_46, x3_46 = x3 - (1 : Int32) → if x6_8 = (5 : Int32) then (wb_X7_comesTo_192 M a0 x2 x3_46 x4 x5_16 x6_8 (wl_X7_comesTo_16 a0 x2 x4 X201 X233 n_) X201 X233)
  else (if x6_8 = (6 : Int32) then (wb_X7_comesTo_192 M a0 x2 x3_46 x4 x5_16 x6_8 (wl_X7_comesTo_16 a0 x2 x4 X201 X233 n_) X201 X233)
  else (wb_X7_comesTo_203 M a0 x2 x3_46 x4 x5_16 x6_8 (wl_X7_comesTo_16 a0 x2 x4 X201 X233 n_) X201 X233))))))))
def wp_X7_comesTo (M : MM) (a0 : Nat) (x1 : Int32) (x2 : Int32) (Post : Int32 → MM → Prop) : Prop :=
  ∀ x4_1, x4_1 = (220 : Int32) * (x1 / (220 : Int32)) → ∃ n_82, wl_X7_comesTo_16 a0 x2 x4_1
    (fun (M_83 : MM) => Post (0 : Int32) M_83)
    (fun (M_85 : MM) => ∃ b_87, mgR M_85 a0 25 = some b_87 ∧ mkd M_85 b_87 = 100 ∧ 0 < mln M_85 b_87 ∧ Post (mgI M_85 b_87 0) M_85) n_82 M (0 : Int32) x1
def wl_X7_byText_6 (a0 : Nat) (x1 : Int32) (x2 : Int32) (x3 : Int32) (X58 : MM → Int32 → Prop) (X106 : MM → Prop) : Nat → MM → Int32 → Prop
  | 0, _, _ => False
  | n_ + 1, M, x4 =>
  ∃ b_3, mgR M a0 20 = some b_3 ∧ mkd M b_3 = 100 ∧ vp_in x1 (mln M b_3) ∧ if (((14 : Int32) * x1) + (mgI M b_3 (ix_ x1))) ≤ x4 then (X106 M)
  else (∃ b_8, mgR M a0 21 = some b_8 ∧ mkd M b_8 = 100 ∧ vp_in x4 (mln M b_8) ∧ if (mgI M b_8 (ix_ x4)) = x2 then (∃ b_15, mgR M a0 23 = some b_15 ∧ mkd M b_15 = 100 ∧ vp_in x4 (mln M b_15) ∧ ∃ b_19, mgR M a0 24 = some b_19 ∧ mkd M b_19 = 100 ∧ vp_in x4 (mln M b_19) ∧ wp_X7_comesTo M a0 (mgI M b_15 (ix_ x4)) (mgI M b_19 (ix_ x4)) (fun r_24 M_23 => if r_24 = (1 : Int32) then (X58 M_23 x4)
  else (∀ x4_27, x4_27 = x4 + 1 → wl_X7_byText_6 a0 x1 x2 x3 X58 X106 n_ M_23 x4_27)))
  else (∀ x4_13, x4_13 = x4 + 1 → wl_X7_byText_6 a0 x1 x2 x3 X58 X106 n_ M x4_13))
def wp_X7_byText (M : MM) (a0 : Nat) (x1 : Int32) (x2 : Int32) (x3 : Int32) (Post : Int32 → MM → Prop) : Prop :=
  ∀ x4_1, x4_1 = (14 : Int32) * x1 → ∃ n_29, wl_X7_byText_6 a0 x1 x2 x3
    (fun (M_30 : MM) (x4_32 : Int32) => ∃ b_33, mgR M_30 a0 22 = some b_33 ∧ mkd M_30 b_33 = 100 ∧ vp_in x4_32 (mln M_30 b_33) ∧ ∃ b_37, mgR M_30 a0 23 = some b_37 ∧ mkd M_30 b_37 = 100 ∧ vp_in x4_32 (mln M_30 b_37) ∧ wp_X7_comesTo M_30 a0 (mgI M_30 b_33 (ix_ x4_32)) (mgI M_30 b_37 (ix_ x4_32)) (fun r_42 M_41 => if 0 ≤ r_42 then (if r_42 ≤ x3 then (Post r_42 M_41)
  else (Post x3 M_41))
  else (Post (0 : Int32) M_41)))
    (fun (M_46 : MM) => Post (0 : Int32) M_46) n_29 M x4_1
def wl_X7_bits_4 (x0 : Int32) (X24 : MM → Int32 → Prop) : Nat → MM → Int32 → Int32 → Prop
  | 0, _, _, _ => False
  | n_ + 1, M, x1, x2 =>
  if (8 : Int32) ≤ x2 then (X24 M x1)
  else (∀ x1_2, x1_2 = x1 + ((x0 >>> (x2 &&& 31)) &&& (1 : Int32)) → ∀ x2_4, x2_4 = x2 + 1 → wl_X7_bits_4 x0 X24 n_ M x1_2 x2_4)
def wp_X7_bits (M : MM) (x0 : Int32) (Post : Int32 → MM → Prop) : Prop :=
  ∃ n_6, wl_X7_bits_4 x0
    (fun (M_7 : MM) (x1_9 : Int32) => Post x1_9 M_7) n_6 M (0 : Int32) (0 : Int32)
def wl_X7_feels_2 (a0 : Nat) (X21 : MM → Prop) : Nat → MM → Int32 → Prop
  | 0, _, _ => False
  | n_ + 1, M, x1 =>
  if (13 : Int32) ≤ x1 then (X21 M)
  else (∃ b_2, mgR M a0 26 = some b_2 ∧ mkd M b_2 = 100 ∧ vp_in x1 (mln M b_2) ∧ ∀ M_6, M_6 = msI M b_2 (ix_ x1) (0 : Int32) → ∀ x1_8, x1_8 = x1 + 1 → wl_X7_feels_2 a0 X21 n_ M_6 x1_8)
def wp_X7_feels (M : MM) (a0 : Nat) (Post : MM → Prop) : Prop :=
  ∃ n_10, wl_X7_feels_2 a0
    (fun (M_11 : MM) => ∃ b_13, mgR M_11 a0 26 = some b_13 ∧ mkd M_11 b_13 = 100 ∧ ∃ b_16, mgR M_11 a0 0 = some b_16 ∧ mkd M_11 b_16 = 100 ∧ 79 < mln M_11 b_16 ∧ 0 < mln M_11 b_13 ∧ ∀ M_21, M_21 = msI M_11 b_13 0 (mgI M_11 b_16 79) → ∃ b_23, mgR M_21 a0 26 = some b_23 ∧ mkd M_21 b_23 = 100 ∧ ∃ b_26, mgR M_21 a0 0 = some b_26 ∧ mkd M_21 b_26 = 100 ∧ 79 < mln M_21 b_26 ∧ 1 < mln M_21 b_23 ∧ ∀ M_31, M_31 = msI M_21 b_23 1 (rm_ (mgI M_21 b_26 79) (7 : Int32)) → ∃ b_33, mgR M_31 a0 26 = some b_33 ∧ mkd M_31 b_33 = 100 ∧ ∃ b_36, mgR M_31 a0 0 = some b_36 ∧ mkd M_31 b_36 = 100 ∧ 78 < mln M_31 b_36 ∧ wp_X7_bits M_31 (mgI M_31 b_36 78) (fun r_41 M_40 => 10 < mln M_40 b_33 ∧ ∀ M_44, M_44 = msI M_40 b_33 10 r_41 → Post M_44)) n_10 M (0 : Int32)
def wb_X7_feelsPlant_132 (M : MM) (as0 : Nat) (xs1 : Int32) (xs2 : Int32) (Post : MM → Prop) : Prop :=
  vp_in xs1 (mln M as0) ∧ ∀ M_77, M_77 = msI M as0 (ix_ xs1) xs2 → Post M_77
def wp_X7_feelsPlant (M : MM) (a0 : Nat) (x1 : Int32) (Post : MM → Prop) : Prop :=
  wp_X7_feels M a0 (fun M_1 => ∃ b_4, mgR M_1 a0 26 = some b_4 ∧ mkd M_1 b_4 = 100 ∧ 2 < mln M_1 b_4 ∧ ∀ M_8, M_8 = msI M_1 b_4 2 x1 → ∃ b_10, mgR M_8 a0 26 = some b_10 ∧ mkd M_8 b_10 = 100 ∧ ∃ b_13, mgR M_8 a0 0 = some b_13 ∧ mkd M_8 b_13 = 100 ∧ vp_in ((0 : Int32) + x1) (mln M_8 b_13) ∧ 3 < mln M_8 b_10 ∧ ∀ M_18, M_18 = msI M_8 b_10 3 (mgI M_8 b_13 (ix_ ((0 : Int32) + x1))) → ∃ b_20, mgR M_18 a0 26 = some b_20 ∧ mkd M_18 b_20 = 100 ∧ ∃ b_23, mgR M_18 a0 0 = some b_23 ∧ mkd M_18 b_23 = 100 ∧ vp_in ((4 : Int32) + x1) (mln M_18 b_23) ∧ 4 < mln M_18 b_20 ∧ ∀ M_28, M_28 = msI M_18 b_20 4 (mgI M_18 b_23 (ix_ ((4 : Int32) + x1))) → ∃ b_30, mgR M_28 a0 26 = some b_30 ∧ mkd M_28 b_30 = 100 ∧ ∃ b_33, mgR M_28 a0 0 = some b_33 ∧ mkd M_28 b_33 = 100 ∧ vp_in (((24 : Int32) + ((7 : Int32) * x1)) + (6 : Int32)) (mln M_28 b_33) ∧ 5 < mln M_28 b_30 ∧ ∀ M_38, M_38 = msI M_28 b_30 5 (mgI M_28 b_33 (ix_ (((24 : Int32) + ((7 : Int32) * x1)) + (6 : Int32)))) → ∃ b_40, mgR M_38 a0 26 = some b_40 ∧ mkd M_38 b_40 = 100 ∧ ∃ b_43, mgR M_38 a0 0 = some b_43 ∧ mkd M_38 b_43 = 100 ∧ vp_in ((12 : Int32) + x1) (mln M_38 b_43) ∧ 6 < mln M_38 b_40 ∧ ∀ M_48, M_48 = msI M_38 b_40 6 (mgI M_38 b_43 (ix_ ((12 : Int32) + x1))) → ∃ b_50, mgR M_48 a0 26 = some b_50 ∧ mkd M_48 b_50 = 100 ∧ ∃ b_53, mgR M_48 a0 0 = some b_53 ∧ mkd M_48 b_53 = 100 ∧ vp_in ((16 : Int32) + x1) (mln M_48 b_53) ∧ 7 < mln M_48 b_50 ∧ ∀ M_58, M_58 = msI M_48 b_50 7 (mgI M_48 b_53 (ix_ ((16 : Int32) + x1))) → ∃ b_60, mgR M_58 a0 26 = some b_60 ∧ mkd M_58 b_60 = 100 ∧ ∃ b_63, mgR M_58 a0 0 = some b_63 ∧ mkd M_58 b_63 = 100 ∧ vp_in ((20 : Int32) + x1) (mln M_58 b_63) ∧ if 0 ≤ (mgI M_58 b_63 (ix_ ((20 : Int32) + x1))) then (∃ b_68, mgR M_58 a0 0 = some b_68 ∧ mkd M_58 b_68 = 100 ∧ 79 < mln M_58 b_68 ∧ ∃ b_72, mgR M_58 a0 0 = some b_72 ∧ mkd M_58 b_72 = 100 ∧ vp_in ((20 : Int32) + x1) (mln M_58 b_72) ∧ wb_X7_feelsPlant_132 M_58 b_60 (11 : Int32) ((mgI M_58 b_68 79) - (mgI M_58 b_72 (ix_ ((20 : Int32) + x1)))) Post)
  else (wb_X7_feelsPlant_132 M_58 b_60 (11 : Int32) (99 : Int32) Post))
def wp_X7_cupsOf (M : MM) (a0 : Nat) (x1 : Int32) (x2 : Int32) (Post : Int32 → MM → Prop) : Prop :=
  wp_X7_feelsPlant M a0 x2 (fun M_1 => ∃ b_4, mgR M_1 a0 26 = some b_4 ∧ mkd M_1 b_4 = 100 ∧ 8 < mln M_1 b_4 ∧ ∀ M_8, M_8 = msI M_1 b_4 8 x1 → ∃ b_10, mgR M_8 a0 26 = some b_10 ∧ mkd M_8 b_10 = 100 ∧ ∃ b_13, mgR M_8 a0 0 = some b_13 ∧ mkd M_8 b_13 = 100 ∧ vp_in ((52 : Int32) + x1) (mln M_8 b_13) ∧ 9 < mln M_8 b_10 ∧ ∀ M_18, M_18 = msI M_8 b_10 9 (mgI M_8 b_13 (ix_ ((52 : Int32) + x1))) → ∃ b_20, mgR M_18 a0 26 = some b_20 ∧ mkd M_18 b_20 = 100 ∧ ∃ b_23, mgR M_18 a0 0 = some b_23 ∧ mkd M_18 b_23 = 100 ∧ vp_in ((68 : Int32) + x1) (mln M_18 b_23) ∧ 12 < mln M_18 b_20 ∧ ∀ M_28, M_28 = msI M_18 b_20 12 (mgI M_18 b_23 (ix_ ((68 : Int32) + x1))) → ∃ b_30, mgR M_28 a0 0 = some b_30 ∧ mkd M_28 b_30 = 100 ∧ vp_in ((60 : Int32) + x1) (mln M_28 b_30) ∧ wp_X7_byText M_28 a0 ((mgI M_28 b_30 (ix_ ((60 : Int32) + x1))) + (1 : Int32)) (103 : Int32) (9 : Int32) (fun r_35 M_34 => Post r_35 M_34))
def wp_X7_isPerson (M : MM) (a0 : Nat) (x1 : Int32) (Post : Int32 → MM → Prop) : Prop :=
  if x1 < 0 then (Post (0 : Int32) M)
  else (if (8 : Int32) ≤ x1 then (Post (0 : Int32) M)
  else (∃ b_3, mgR M a0 0 = some b_3 ∧ mkd M b_3 = 100 ∧ 78 < mln M b_3 ∧ wp_X7_has M (mgI M b_3 78) x1 (fun r_8 M_7 => if r_8 = 0 then (Post (0 : Int32) M_7)
  else (Post (1 : Int32) M_7))))
def wp_X7_gives (M : MM) (a0 : Nat) (x1 : Int32) (x2 : Int32) (Post : Int32 → MM → Prop) : Prop :=
  wp_X7_isPerson M a0 x1 (fun r_2 M_1 => if r_2 = 0 then (Post (-1 : Int32) M_1)
  else (wp_X7_isPlant M_1 a0 x2 (fun r_6 M_5 => if r_6 = 0 then (Post (-1 : Int32) M_5)
  else (wp_X7_lives M_5 a0 x2 (fun r_10 M_9 => if r_10 = 0 then (Post (0 : Int32) M_9)
  else (wp_X7_cupsOf M_9 a0 x1 x2 (fun r_14 M_13 => Post r_14 M_13)))))))
def wp_X7_draws (M : MM) (a0 : Nat) (Post : Int32 → MM → Prop) : Prop :=
  ∃ b_1, mgR M a0 0 = some b_1 ∧ mkd M b_1 = 100 ∧ ∃ b_4, mgR M a0 0 = some b_4 ∧ mkd M b_4 = 100 ∧ 80 < mln M b_4 ∧ 80 < mln M b_1 ∧ ∀ M_9, M_9 = msI M b_1 80 (rm_ (((25173 : Int32) * (mgI M b_4 80)) + (13849 : Int32)) (65536 : Int32)) → ∃ b_11, mgR M_9 a0 0 = some b_11 ∧ mkd M_9 b_11 = 100 ∧ 80 < mln M_9 b_11 ∧ Post (rm_ (mgI M_9 b_11 80) (10 : Int32)) M_9
def wp_X7_max (M : MM) (x0 : Int32) (x1 : Int32) (Post : Int32 → MM → Prop) : Prop :=
  if x0 ≤ x1 then (Post x1 M)
  else (Post x0 M)
def wl_X7_dries_187 (a0 : Nat) (x1 : Int32) (x4 : Int32) (X230 : MM → Prop) : Nat → MM → Int32 → Prop
  | 0, _, _ => False
  | n_ + 1, M, x5 =>
  if x5 ≤ 0 then (X230 M)
  else (∃ b_59, mgR M a0 0 = some b_59 ∧ mkd M b_59 = 100 ∧ ∃ b_62, mgR M a0 0 = some b_62 ∧ mkd M b_62 = 100 ∧ vp_in ((((24 : Int32) + ((7 : Int32) * x1)) + x5) - (1 : Int32)) (mln M b_62) ∧ vp_in (((24 : Int32) + ((7 : Int32) * x1)) + x5) (mln M b_59) ∧ ∀ M_67, M_67 = msI M b_59 (ix_ (((24 : Int32) + ((7 : Int32) * x1)) + x5)) (mgI M b_62 (ix_ ((((24 : Int32) + ((7 : Int32) * x1)) + x5) - (1 : Int32)))) → ∀ x5_69, x5_69 = x5 + (-1) → wl_X7_dries_187 a0 x1 x4 X230 n_ M_67 x5_69)
def wb_X7_dries_165 (M : MM) (a0 : Nat) (x1 : Int32) (x4 : Int32) (Post : MM → Prop) : Prop :=
  ∃ b_48, mgR M a0 0 = some b_48 ∧ mkd M b_48 = 100 ∧ ∃ b_51, mgR M a0 0 = some b_51 ∧ mkd M b_51 = 100 ∧ 77 < mln M b_51 ∧ 77 < mln M b_48 ∧ ∀ M_56, M_56 = msI M b_48 77 ((mgI M b_51 77) ||| ((1 : Int32) <<< (x1 &&& 31))) → ∃ n_71, wl_X7_dries_187 a0 x1 x4
    (fun (M_72 : MM) => ∃ b_74, mgR M_72 a0 0 = some b_74 ∧ mkd M_72 b_74 = 100 ∧ vp_in ((24 : Int32) + ((7 : Int32) * x1)) (mln M_72 b_74) ∧ ∀ M_78, M_78 = msI M_72 b_74 (ix_ ((24 : Int32) + ((7 : Int32) * x1))) x4 → Post M_78) n_71 M_56 (6 : Int32)
def wb_X7_dries_122 (M : MM) (a0 : Nat) (x1 : Int32) (x4 : Int32) (as0 : Nat) (xs1 : Int32) (xs2 : Int32) (Post : MM → Prop) : Prop :=
  vp_in xs1 (mln M as0) ∧ ∀ M_37, M_37 = msI M as0 (ix_ xs1) xs2 → ∃ b_39, mgR M_37 a0 0 = some b_39 ∧ mkd M_37 b_39 = 100 ∧ vp_in ((12 : Int32) + x1) (mln M_37 b_39) ∧ ∃ b_43, mgR M_37 a0 0 = some b_43 ∧ mkd M_37 b_43 = 100 ∧ vp_in ((8 : Int32) + x1) (mln M_37 b_43) ∧ if (mgI M_37 b_43 (ix_ ((8 : Int32) + x1))) ≤ (mgI M_37 b_39 (ix_ ((12 : Int32) + x1))) then (wb_X7_dries_165 M_37 a0 x1 x4 Post)
  else (∃ b_80, mgR M_37 a0 0 = some b_80 ∧ mkd M_37 b_80 = 100 ∧ vp_in ((16 : Int32) + x1) (mln M_37 b_80) ∧ ∃ b_84, mgR M_37 a0 0 = some b_84 ∧ mkd M_37 b_84 = 100 ∧ vp_in ((8 : Int32) + x1) (mln M_37 b_84) ∧ if (mgI M_37 b_80 (ix_ ((16 : Int32) + x1))) < (mgI M_37 b_84 (ix_ ((8 : Int32) + x1))) then (∃ n_89, wl_X7_dries_187 a0 x1 x4
    (fun (M_90 : MM) => ∃ b_92, mgR M_90 a0 0 = some b_92 ∧ mkd M_90 b_92 = 100 ∧ vp_in ((24 : Int32) + ((7 : Int32) * x1)) (mln M_90 b_92) ∧ ∀ M_96, M_96 = msI M_90 b_92 (ix_ ((24 : Int32) + ((7 : Int32) * x1))) x4 → Post M_96) n_89 M_37 (6 : Int32))
  else (wb_X7_dries_165 M_37 a0 x1 x4 Post))
def wb_X7_dries_85 (M : MM) (a0 : Nat) (x1 : Int32) (x4 : Int32) (as0 : Nat) (xs1 : Int32) (xs2 : Int32) (Post : MM → Prop) : Prop :=
  vp_in xs1 (mln M as0) ∧ ∀ M_26, M_26 = msI M as0 (ix_ xs1) xs2 → ∃ b_28, mgR M_26 a0 0 = some b_28 ∧ mkd M_26 b_28 = 100 ∧ ∃ b_31, mgR M_26 a0 0 = some b_31 ∧ mkd M_26 b_31 = 100 ∧ vp_in ((0 : Int32) + x1) (mln M_26 b_31) ∧ if x4 = (mgI M_26 b_31 (ix_ ((0 : Int32) + x1))) then (∃ b_98, mgR M_26 a0 0 = some b_98 ∧ mkd M_26 b_98 = 100 ∧ vp_in ((16 : Int32) + x1) (mln M_26 b_98) ∧ wb_X7_dries_122 M_26 a0 x1 x4 b_28 ((16 : Int32) + x1) ((mgI M_26 b_98 (ix_ ((16 : Int32) + x1))) + (1 : Int32)) Post)
  else (wb_X7_dries_122 M_26 a0 x1 x4 b_28 ((16 : Int32) + x1) (0 : Int32) Post)
def wb_X7_dries_31 (M : MM) (a0 : Nat) (x1 : Int32) (x3 : Int32) (Post : MM → Prop) : Prop :=
  ∃ b_8, mgR M a0 0 = some b_8 ∧ mkd M b_8 = 100 ∧ vp_in ((4 : Int32) + x1) (mln M b_8) ∧ wp_X7_max M (0 : Int32) ((mgI M b_8 (ix_ ((4 : Int32) + x1))) - x3) (fun r_13 M_12 => ∃ b_15, mgR M_12 a0 0 = some b_15 ∧ mkd M_12 b_15 = 100 ∧ vp_in ((4 : Int32) + x1) (mln M_12 b_15) ∧ ∀ M_19, M_19 = msI M_12 b_15 (ix_ ((4 : Int32) + x1)) r_13 → ∃ b_21, mgR M_19 a0 0 = some b_21 ∧ mkd M_19 b_21 = 100 ∧ if r_13 = 0 then (∃ b_102, mgR M_19 a0 0 = some b_102 ∧ mkd M_19 b_102 = 100 ∧ vp_in ((12 : Int32) + x1) (mln M_19 b_102) ∧ wb_X7_dries_85 M_19 a0 x1 r_13 b_21 ((12 : Int32) + x1) ((mgI M_19 b_102 (ix_ ((12 : Int32) + x1))) + (1 : Int32)) Post)
  else (wb_X7_dries_85 M_19 a0 x1 r_13 b_21 ((12 : Int32) + x1) (0 : Int32) Post))
def wp_X7_dries (M : MM) (a0 : Nat) (x1 : Int32) (x2 : Int32) (Post : MM → Prop) : Prop :=
  wp_X7_feelsPlant M a0 x1 (fun M_1 => wp_X7_byText M_1 a0 (0 : Int32) (101 : Int32) (9 : Int32) (fun r_5 M_4 => if x2 = 0 then (wb_X7_dries_31 M_4 a0 x1 r_5 Post)
  else (wp_X7_byText M_4 a0 (0 : Int32) (104 : Int32) (9 : Int32) (fun r_107 M_106 => ∀ x3_109, x3_109 = r_5 + r_107 → wb_X7_dries_31 M_106 a0 x1 x3_109 Post))))
def wp_X7_waters (M : MM) (a0 : Nat) (x1 : Int32) (x2 : Int32) (Post : MM → Prop) : Prop :=
  wp_X7_cupsOf M a0 x1 x2 (fun r_2 M_1 => ∃ b_4, mgR M_1 a0 0 = some b_4 ∧ mkd M_1 b_4 = 100 ∧ vp_in ((4 : Int32) + x2) (mln M_1 b_4) ∧ ∀ x4_8, x4_8 = (mgI M_1 b_4 (ix_ ((4 : Int32) + x2))) + r_2 → ∃ b_10, mgR M_1 a0 0 = some b_10 ∧ mkd M_1 b_10 = 100 ∧ ∃ b_13, mgR M_1 a0 0 = some b_13 ∧ mkd M_1 b_13 = 100 ∧ vp_in ((0 : Int32) + x2) (mln M_1 b_13) ∧ wp_X7_min M_1 (mgI M_1 b_13 (ix_ ((0 : Int32) + x2))) x4_8 (fun r_18 M_17 => vp_in ((4 : Int32) + x2) (mln M_17 b_10) ∧ ∀ M_21, M_21 = msI M_17 b_10 (ix_ ((4 : Int32) + x2)) r_18 → ∃ b_23, mgR M_21 a0 0 = some b_23 ∧ mkd M_21 b_23 = 100 ∧ ∃ b_26, mgR M_21 a0 0 = some b_26 ∧ mkd M_21 b_26 = 100 ∧ vp_in ((68 : Int32) + x1) (mln M_21 b_26) ∧ vp_in ((68 : Int32) + x1) (mln M_21 b_23) ∧ ∀ M_31, M_31 = msI M_21 b_23 (ix_ ((68 : Int32) + x1)) ((mgI M_21 b_26 (ix_ ((68 : Int32) + x1))) + r_2) → ∀ M_33, M_33 = msI M_31 a0 27 ((mgI M_31 a0 27) + r_2) → ∃ b_35, mgR M_33 a0 0 = some b_35 ∧ mkd M_33 b_35 = 100 ∧ vp_in ((4 : Int32) + x2) (mln M_33 b_35) ∧ ∀ M_39, M_39 = msI M_33 a0 28 (((mgI M_33 a0 28) + x4_8) - (mgI M_33 b_35 (ix_ ((4 : Int32) + x2)))) → ∃ b_41, mgR M_39 a0 30 = some b_41 ∧ mkd M_39 b_41 = 100 ∧ ∃ b_44, mgR M_39 a0 30 = some b_44 ∧ mkd M_39 b_44 = 100 ∧ vp_in x1 (mln M_39 b_44) ∧ vp_in x1 (mln M_39 b_41) ∧ ∀ M_49, M_49 = msI M_39 b_41 (ix_ x1) ((mgI M_39 b_44 (ix_ x1)) + r_2) → if r_2 ≤ 0 then (Post M_49)
  else (∃ b_52, mgR M_49 a0 0 = some b_52 ∧ mkd M_49 b_52 = 100 ∧ vp_in ((20 : Int32) + x2) (mln M_49 b_52) ∧ if (mgI M_49 b_52 (ix_ ((20 : Int32) + x2))) = (-2 : Int32) then (Post M_49)
  else (∃ b_57, mgR M_49 a0 0 = some b_57 ∧ mkd M_49 b_57 = 100 ∧ ∃ b_60, mgR M_49 a0 0 = some b_60 ∧ mkd M_49 b_60 = 100 ∧ 79 < mln M_49 b_60 ∧ vp_in ((20 : Int32) + x2) (mln M_49 b_57) ∧ ∀ M_65, M_65 = msI M_49 b_57 (ix_ ((20 : Int32) + x2)) (mgI M_49 b_60 79) → Post M_65))))
def wl_X7_dayGoes_37 (a0 : Nat) (x1 : Int32) (X62 : MM → Prop) : Nat → MM → Int32 → Prop
  | 0, _, _ => False
  | n_ + 1, M, x2 =>
  if (4 : Int32) ≤ x2 then (X62 M)
  else (wp_X7_lives M a0 x2 (fun r_18 M_17 => if r_18 = 0 then (∀ x2_21, x2_21 = x2 + 1 → wl_X7_dayGoes_37 a0 x1 X62 n_ M_17 x2_21)
  else (wp_X7_waters M_17 a0 x1 x2 (fun M_23 => ∀ x2_26, x2_26 = x2 + 1 → wl_X7_dayGoes_37 a0 x1 X62 n_ M_23 x2_26))))
def wl_X7_dayGoes_2 (a0 : Nat) (X68 : MM → Prop) : Nat → MM → Int32 → Prop
  | 0, _, _ => False
  | n_ + 1, M, x1 =>
  if (8 : Int32) ≤ x1 then (X68 M)
  else (wp_X7_isPerson M a0 x1 (fun r_3 M_2 => if r_3 = 0 then (∀ x1_6, x1_6 = x1 + 1 → wl_X7_dayGoes_2 a0 X68 n_ M_2 x1_6)
  else (wp_X7_draws M_2 a0 (fun r_9 M_8 => ∃ b_11, mgR M_8 a0 0 = some b_11 ∧ mkd M_8 b_11 = 100 ∧ vp_in ((52 : Int32) + x1) (mln M_8 b_11) ∧ if r_9 < (mgI M_8 b_11 (ix_ ((52 : Int32) + x1))) then (∃ n_28, wl_X7_dayGoes_37 a0 x1
    (fun (M_29 : MM) => ∀ x1_31, x1_31 = x1 + 1 → wl_X7_dayGoes_2 a0 X68 n_ M_29 x1_31) n_28 M_8 (0 : Int32))
  else (∀ x1_33, x1_33 = x1 + 1 → wl_X7_dayGoes_2 a0 X68 n_ M_8 x1_33)))))
def wb_X7_dayGoes_114 (M : MM) (a0 : Nat) (x1 : Int32) (x2 : Int32) (as0 : Nat) (xs1 : Int32) (xs2 : Int32) (R : MM → Int32 → Prop) (X130 : MM → Prop) : Prop :=
  ∀ M_48, M_48 = msI M as0 29 (xs1 + xs2) → wp_X7_dries M_48 a0 x1 x2 (fun M_50 => ∀ x1_53, x1_53 = x1 + 1 → R M_50 x1_53)
def wb_X7_dayGoes_99 (M : MM) (a0 : Nat) (x1 : Int32) (xs0 : Int32) (R : MM → Int32 → Prop) (X130 : MM → Prop) : Prop :=
  if xs0 = 0 then (wb_X7_dayGoes_114 M a0 x1 xs0 a0 (mgI M a0 29) (0 : Int32) R X130)
  else (wb_X7_dayGoes_114 M a0 x1 xs0 a0 (mgI M a0 29) (1 : Int32) R X130)
def wl_X7_dayGoes_70 (a0 : Nat) (X130 : MM → Prop) : Nat → MM → Int32 → Prop
  | 0, _, _ => False
  | n_ + 1, M, x1 =>
  if (4 : Int32) ≤ x1 then (X130 M)
  else (wp_X7_lives M a0 x1 (fun r_40 M_39 => if r_40 = 0 then (∀ x1_55, x1_55 = x1 + 1 → wl_X7_dayGoes_70 a0 X130 n_ M_39 x1_55)
  else (wp_X7_draws M_39 a0 (fun r_44 M_43 => if (5 : Int32) ≤ r_44 then (wb_X7_dayGoes_99 M_43 a0 x1 (0 : Int32) (wl_X7_dayGoes_70 a0 X130 n_) X130)
  else (wb_X7_dayGoes_99 M_43 a0 x1 (1 : Int32) (wl_X7_dayGoes_70 a0 X130 n_) X130)))))
def wp_X7_dayGoes (M : MM) (a0 : Nat) (Post : MM → Prop) : Prop :=
  ∃ n_35, wl_X7_dayGoes_2 a0
    (fun (M_36 : MM) => ∃ n_57, wl_X7_dayGoes_70 a0
    (fun (M_58 : MM) => ∃ b_60, mgR M_58 a0 0 = some b_60 ∧ mkd M_58 b_60 = 100 ∧ ∃ b_63, mgR M_58 a0 0 = some b_63 ∧ mkd M_58 b_63 = 100 ∧ 79 < mln M_58 b_63 ∧ 79 < mln M_58 b_60 ∧ ∀ M_68, M_68 = msI M_58 b_60 79 ((mgI M_58 b_63 79) + (1 : Int32)) → Post M_68) n_57 M_36 (0 : Int32)) n_35 M (0 : Int32)
def wl_X7_daysGo_17 (a0 : Nat) (x1 : Int32) (X36 : MM → Prop) : Nat → MM → Int32 → Prop
  | 0, _, _ => False
  | n_ + 1, M, x2 =>
  if (8 : Int32) ≤ x2 then (X36 M)
  else (∃ b_8, mgR M a0 30 = some b_8 ∧ mkd M b_8 = 100 ∧ vp_in x2 (mln M b_8) ∧ ∀ M_12, M_12 = msI M b_8 (ix_ x2) (0 : Int32) → ∀ x2_14, x2_14 = x2 + 1 → wl_X7_daysGo_17 a0 x1 X36 n_ M_12 x2_14)
def wl_X7_daysGo_38 (a0 : Nat) (x1 : Int32) (X66 : MM → Prop) : Nat → MM → Int32 → Prop
  | 0, _, _ => False
  | n_ + 1, M, x2 =>
  if x1 ≤ x2 then (X66 M)
  else (∃ b_20, mgR M a0 0 = some b_20 ∧ mkd M b_20 = 100 ∧ 79 < mln M b_20 ∧ if (9999 : Int32) ≤ (mgI M b_20 79) then (X66 M)
  else (wp_X7_dayGoes M a0 (fun M_25 => ∀ x2_28, x2_28 = x2 + 1 → wl_X7_daysGo_38 a0 x1 X66 n_ M_25 x2_28)))
def wp_X7_daysGo (M : MM) (a0 : Nat) (x1 : Int32) (Post : MM → Prop) : Prop :=
  ∀ M_1, M_1 = msI M a0 27 (0 : Int32) → ∀ M_3, M_3 = msI M_1 a0 28 (0 : Int32) → ∀ M_5, M_5 = msI M_3 a0 29 (0 : Int32) → ∃ n_16, wl_X7_daysGo_17 a0 x1
    (fun (M_17 : MM) => ∃ n_30, wl_X7_daysGo_38 a0 x1
    (fun (M_31 : MM) => Post M_31) n_30 M_17 (0 : Int32)) n_16 M_5 (0 : Int32)
def wp_X7_days (M : MM) (a0 : Nat) (x1 : Int32) (Post : Int32 → MM → Prop) : Prop :=
  wp_X7_in M x1 (1 : Int32) (60 : Int32) (fun r_2 M_1 => if r_2 = 0 then (Post (-1 : Int32) M_1)
  else (wp_X7_daysGo M_1 a0 x1 (fun M_5 => Post (mgI M_5 a0 27) M_5)))
def wl_X7_copies_2 (a0 : Nat) (a1 : Nat) (X20 : MM → Prop) : Nat → MM → Int32 → Prop
  | 0, _, _ => False
  | n_ + 1, M, x2 =>
  if (81 : Int32) ≤ x2 then (X20 M)
  else (vp_in x2 (mln M a0) ∧ vp_in x2 (mln M a1) ∧ ∀ M_4, M_4 = msI M a1 (ix_ x2) (mgI M a0 (ix_ x2)) → ∀ x2_6, x2_6 = x2 + 1 → wl_X7_copies_2 a0 a1 X20 n_ M_4 x2_6)
def wp_X7_copies (M : MM) (a0 : Nat) (a1 : Nat) (Post : MM → Prop) : Prop :=
  ∃ n_8, wl_X7_copies_2 a0 a1
    (fun (M_9 : MM) => Post M_9) n_8 M (0 : Int32)
theorem hd_X7_init : mHd yX7_init 0 := ⟨by decide, by decide, by decide +kernel⟩
theorem hd_X7_in : mHd yX7_in 3 := ⟨by decide, by decide, by decide +kernel⟩
theorem hd_X7_plant : mHd yX7_plant 4 := ⟨by decide, by decide, by decide +kernel⟩
theorem hd_X7_person : mHd yX7_person 3 := ⟨by decide, by decide, by decide +kernel⟩
theorem hd_X7_has : mHd yX7_has 2 := ⟨by decide, by decide, by decide +kernel⟩
theorem hd_X7_isPlant : mHd yX7_isPlant 1 := ⟨by decide, by decide, by decide +kernel⟩
theorem hd_X7_card : mHd yX7_card 2 := ⟨by decide, by decide, by decide +kernel⟩
theorem hd_X7_lives : mHd yX7_lives 1 := ⟨by decide, by decide, by decide +kernel⟩
theorem hd_X7_min : mHd yX7_min 2 := ⟨by decide, by decide, by decide +kernel⟩
theorem hd_X7_pour : mHd yX7_pour 2 := ⟨by decide, by decide, by decide +kernel⟩
theorem hd_X7_types : mHd yX7_types 1 := ⟨by decide, by decide, by decide +kernel⟩
theorem hd_X7_feed : mHd yX7_feed 5 := ⟨by decide, by decide, by decide +kernel⟩
theorem hd_X7_here : mHd yX7_here 0 := ⟨by decide, by decide, by decide +kernel⟩
theorem hd_X7_isClause : mHd yX7_isClause 2 := ⟨by decide, by decide, by decide +kernel⟩
theorem hd_X7_notes : mHd yX7_notes 2 := ⟨by decide, by decide, by decide +kernel⟩
theorem hd_X7_waitTop : mHd yX7_waitTop 0 := ⟨by decide, by decide, by decide +kernel⟩
theorem hd_X7_endsPiece : mHd yX7_endsPiece 0 := ⟨by decide, by decide, by decide +kernel⟩
theorem hd_X7_jumps : mHd yX7_jumps 1 := ⟨by decide, by decide, by decide +kernel⟩
theorem hd_X7_lands : mHd yX7_lands 1 := ⟨by decide, by decide, by decide +kernel⟩
theorem hd_X7_wrongAt : mHd yX7_wrongAt 2 := ⟨by decide, by decide, by decide +kernel⟩
theorem hd_X7_opens : mHd yX7_opens 1 := ⟨by decide, by decide, by decide +kernel⟩
theorem hd_X7_closesSums : mHd yX7_closesSums 1 := ⟨by decide, by decide, by decide +kernel⟩
theorem hd_X7_hasOpenSum : mHd yX7_hasOpenSum 1 := ⟨by decide, by decide, by decide +kernel⟩
theorem hd_X7_factOf : mHd yX7_factOf 1 := ⟨by decide, by decide, by decide +kernel⟩
theorem hd_X7_isDigit : mHd yX7_isDigit 0 := ⟨by decide, by decide, by decide +kernel⟩
theorem hd_X7_readsNumber : mHd yX7_readsNumber 0 := ⟨by decide, by decide, by decide +kernel⟩
theorem hd_X7_readsFactor : mHd yX7_readsFactor 0 := ⟨by decide, by decide, by decide +kernel⟩
theorem hd_X7_sumSign : mHd yX7_sumSign 1 := ⟨by decide, by decide, by decide +kernel⟩
theorem hd_X7_readsSum : mHd yX7_readsSum 0 := ⟨by decide, by decide, by decide +kernel⟩
theorem hd_X7_readsCompared : mHd yX7_readsCompared 0 := ⟨by decide, by decide, by decide +kernel⟩
theorem hd_X7_readsCondition : mHd yX7_readsCondition 0 := ⟨by decide, by decide, by decide +kernel⟩
theorem hd_X7_readsClause : mHd yX7_readsClause 1 := ⟨by decide, by decide, by decide +kernel⟩
theorem hd_X7_takes : mHd yX7_takes 1 := ⟨by decide, by decide, by decide +kernel⟩
theorem hd_X7_reads : mHd yX7_reads 2 := ⟨by decide, by decide, by decide +kernel⟩
theorem hd_X7_law : mHd yX7_law 1 := ⟨by decide, by decide, by decide +kernel⟩
theorem hd_X7_rule : mHd yX7_rule 2 := ⟨by decide, by decide, by decide +kernel⟩
theorem hd_X7_reckon : mHd yX7_reckon 3 := ⟨by decide, by decide, by decide +kernel⟩
theorem hd_X7_comesTo : mHd yX7_comesTo 2 := ⟨by decide, by decide, by decide +kernel⟩
theorem hd_X7_byText : mHd yX7_byText 3 := ⟨by decide, by decide, by decide +kernel⟩
theorem hd_X7_bits : mHd yX7_bits 1 := ⟨by decide, by decide, by decide +kernel⟩
theorem hd_X7_feels : mHd yX7_feels 0 := ⟨by decide, by decide, by decide +kernel⟩
theorem hd_X7_feelsPlant : mHd yX7_feelsPlant 1 := ⟨by decide, by decide, by decide +kernel⟩
theorem hd_X7_cupsOf : mHd yX7_cupsOf 2 := ⟨by decide, by decide, by decide +kernel⟩
theorem hd_X7_isPerson : mHd yX7_isPerson 1 := ⟨by decide, by decide, by decide +kernel⟩
theorem hd_X7_gives : mHd yX7_gives 2 := ⟨by decide, by decide, by decide +kernel⟩
theorem hd_X7_draws : mHd yX7_draws 0 := ⟨by decide, by decide, by decide +kernel⟩
theorem hd_X7_max : mHd yX7_max 2 := ⟨by decide, by decide, by decide +kernel⟩
theorem hd_X7_dries : mHd yX7_dries 2 := ⟨by decide, by decide, by decide +kernel⟩
theorem hd_X7_waters : mHd yX7_waters 2 := ⟨by decide, by decide, by decide +kernel⟩
theorem hd_X7_dayGoes : mHd yX7_dayGoes 0 := ⟨by decide, by decide, by decide +kernel⟩
theorem hd_X7_daysGo : mHd yX7_daysGo 1 := ⟨by decide, by decide, by decide +kernel⟩
theorem hd_X7_days : mHd yX7_days 1 := ⟨by decide, by decide, by decide +kernel⟩
theorem hd_X7_copies : mHd yX7_copies 2 := ⟨by decide, by decide, by decide +kernel⟩
set_option maxHeartbeats 4000000 in
theorem S_X7_init {D : DD} {l : Launch} {M : MM} {a0 : Nat} {Post : MM → Prop} (k_a0 : mkd M a0 = 7) (h : wp_X7_init M a0 Post) : mMet D l yX7_init cX7_init 1 (none) { frames := 1, cells := 32, slots := 3868, locals := 12 } M [.ref a0] (pV_ Post) := by
  refine m_of2 [(0, .ref a0)] (by decide +kernel) (Nat.le_of_ble_eq_true rfl) rfl (fun E hED hEl C hE => ?_)
  subst hED
  subst hEl
  unfold wp_X7_init at h
  refine r_aload_n C dX7_init_0 (pc' := 1) rfl (j := 0) rfl ?_
  refine r_objInit C (a := a0) q1223 q136 q137 (Nat.le_of_ble_eq_true rfl) (Nat.le_of_ble_eq_true rfl) dX7_init_1 (pc' := 4) rfl ?_
  refine r_aload_n C dX7_init_4 (pc' := 5) rfl (j := 0) rfl ?_
  refine r_bipush C dX7_init_5 (pc' := 7) rfl (v := 81) rfl ?_
  obtain ⟨b_3, e_4, h⟩ := bn_ h
  obtain ⟨M_5, e_6, h⟩ := bn_ h
  refine r_newI C 81 (by decide) (by decide) (by decide) q255 (Nat.le_of_ble_eq_true rfl) (Nat.le_of_ble_eq_true rfl) dX7_init_7 (pc' := 9) rfl b_3 e_4 M_5 e_6 (fun m_1 k_2 => ?_)
  obtain ⟨M_7, e_8, h⟩ := bn_ h
  refine r_putRF C (Cn := RX7) (T := TX7) (x := (some b_3)) tyX7 0 (mMo.kd m_1 k_a0 (by decide)) (by decide) vc_X7 in_X7 tyX7_ok nmX7 (by decide) q1224 rfl rfl rfl rfl dX7_init_9 (pc' := 12) rfl (nA_ _) (fA_ _) M_7 e_8 ?_
  refine r_aload_n C dX7_init_12 (pc' := 13) rfl (j := 0) rfl ?_
  refine r_bipush C dX7_init_13 (pc' := 15) rfl (v := 81) rfl ?_
  obtain ⟨b_11, e_12, h⟩ := bn_ h
  obtain ⟨M_13, e_14, h⟩ := bn_ h
  refine r_newI C 81 (by decide) (by decide) (by decide) q255 (Nat.le_of_ble_eq_true rfl) (Nat.le_of_ble_eq_true rfl) dX7_init_15 (pc' := 17) rfl b_11 e_12 M_13 e_14 (fun m_9 k_10 => ?_)
  obtain ⟨M_15, e_16, h⟩ := bn_ h
  refine r_putRF C (Cn := RX7) (T := TX7) (x := (some b_11)) tyX7 1 (mMo.kd m_9 (mMo.kd (mo_R e_8) (mMo.kd m_1 k_a0 (by decide)) (by decide)) (by decide)) (by decide) vc_X7 in_X7 tyX7_ok nmX7 (by decide) q1225 rfl rfl rfl rfl dX7_init_17 (pc' := 20) rfl (nA_ _) (fA_ _) M_15 e_16 ?_
  refine r_aload_n C dX7_init_20 (pc' := 21) rfl (j := 0) rfl ?_
  refine r_bipush C dX7_init_21 (pc' := 23) rfl (v := 81) rfl ?_
  obtain ⟨b_19, e_20, h⟩ := bn_ h
  obtain ⟨M_21, e_22, h⟩ := bn_ h
  refine r_newI C 81 (by decide) (by decide) (by decide) q255 (Nat.le_of_ble_eq_true rfl) (Nat.le_of_ble_eq_true rfl) dX7_init_23 (pc' := 25) rfl b_19 e_20 M_21 e_22 (fun m_17 k_18 => ?_)
  obtain ⟨M_23, e_24, h⟩ := bn_ h
  refine r_putRF C (Cn := RX7) (T := TX7) (x := (some b_19)) tyX7 2 (mMo.kd m_17 (mMo.kd (mo_R e_16) (mMo.kd m_9 (mMo.kd (mo_R e_8) (mMo.kd m_1 k_a0 (by decide)) (by decide)) (by decide)) (by decide)) (by decide)) (by decide) vc_X7 in_X7 tyX7_ok nmX7 (by decide) q1226 rfl rfl rfl rfl dX7_init_25 (pc' := 28) rfl (nA_ _) (fA_ _) M_23 e_24 ?_
  refine r_aload_n C dX7_init_28 (pc' := 29) rfl (j := 0) rfl ?_
  refine r_sipush C dX7_init_29 (pc' := 32) rfl (v := 220) rfl ?_
  obtain ⟨b_27, e_28, h⟩ := bn_ h
  obtain ⟨M_29, e_30, h⟩ := bn_ h
  refine r_newB C 220 (by decide) (by decide) (by decide) q343 (Nat.le_of_ble_eq_true rfl) (Nat.le_of_ble_eq_true rfl) dX7_init_32 (pc' := 34) rfl b_27 e_28 M_29 e_30 (fun m_25 k_26 => ?_)
  obtain ⟨M_31, e_32, h⟩ := bn_ h
  refine r_putRF C (Cn := RX7) (T := TX7) (x := (some b_27)) tyX7 3 (mMo.kd m_25 (mMo.kd (mo_R e_24) (mMo.kd m_17 (mMo.kd (mo_R e_16) (mMo.kd m_9 (mMo.kd (mo_R e_8) (mMo.kd m_1 k_a0 (by decide)) (by decide)) (by decide)) (by decide)) (by decide)) (by decide)) (by decide)) (by decide) vc_X7 in_X7 tyX7_ok nmX7 (by decide) q1227 rfl rfl rfl rfl dX7_init_34 (pc' := 37) rfl (nA_ _) (fA_ _) M_31 e_32 ?_
  refine r_aload_n C dX7_init_37 (pc' := 38) rfl (j := 0) rfl ?_
  refine r_sipush C dX7_init_38 (pc' := 41) rfl (v := 220) rfl ?_
  obtain ⟨b_35, e_36, h⟩ := bn_ h
  obtain ⟨M_37, e_38, h⟩ := bn_ h
  refine r_newI C 220 (by decide) (by decide) (by decide) q255 (Nat.le_of_ble_eq_true rfl) (Nat.le_of_ble_eq_true rfl) dX7_init_41 (pc' := 43) rfl b_35 e_36 M_37 e_38 (fun m_33 k_34 => ?_)
  obtain ⟨M_39, e_40, h⟩ := bn_ h
  refine r_putRF C (Cn := RX7) (T := TX7) (x := (some b_35)) tyX7 13 (mMo.kd m_33 (mMo.kd (mo_R e_32) (mMo.kd m_25 (mMo.kd (mo_R e_24) (mMo.kd m_17 (mMo.kd (mo_R e_16) (mMo.kd m_9 (mMo.kd (mo_R e_8) (mMo.kd m_1 k_a0 (by decide)) (by decide)) (by decide)) (by decide)) (by decide)) (by decide)) (by decide)) (by decide)) (by decide)) (by decide) vc_X7 in_X7 tyX7_ok nmX7 (by decide) q1237 rfl rfl rfl rfl dX7_init_43 (pc' := 46) rfl (nA_ _) (fA_ _) M_39 e_40 ?_
  refine r_aload_n C dX7_init_46 (pc' := 47) rfl (j := 0) rfl ?_
  refine r_sipush C dX7_init_47 (pc' := 50) rfl (v := 220) rfl ?_
  obtain ⟨b_43, e_44, h⟩ := bn_ h
  obtain ⟨M_45, e_46, h⟩ := bn_ h
  refine r_newI C 220 (by decide) (by decide) (by decide) q255 (Nat.le_of_ble_eq_true rfl) (Nat.le_of_ble_eq_true rfl) dX7_init_50 (pc' := 52) rfl b_43 e_44 M_45 e_46 (fun m_41 k_42 => ?_)
  obtain ⟨M_47, e_48, h⟩ := bn_ h
  refine r_putRF C (Cn := RX7) (T := TX7) (x := (some b_43)) tyX7 14 (mMo.kd m_41 (mMo.kd (mo_R e_40) (mMo.kd m_33 (mMo.kd (mo_R e_32) (mMo.kd m_25 (mMo.kd (mo_R e_24) (mMo.kd m_17 (mMo.kd (mo_R e_16) (mMo.kd m_9 (mMo.kd (mo_R e_8) (mMo.kd m_1 k_a0 (by decide)) (by decide)) (by decide)) (by decide)) (by decide)) (by decide)) (by decide)) (by decide)) (by decide)) (by decide)) (by decide)) (by decide) vc_X7 in_X7 tyX7_ok nmX7 (by decide) q1238 rfl rfl rfl rfl dX7_init_52 (pc' := 55) rfl (nA_ _) (fA_ _) M_47 e_48 ?_
  refine r_aload_n C dX7_init_55 (pc' := 56) rfl (j := 0) rfl ?_
  refine r_bipush C dX7_init_56 (pc' := 58) rfl (v := 14) rfl ?_
  obtain ⟨b_51, e_52, h⟩ := bn_ h
  obtain ⟨M_53, e_54, h⟩ := bn_ h
  refine r_newI C 14 (by decide) (by decide) (by decide) q255 (Nat.le_of_ble_eq_true rfl) (Nat.le_of_ble_eq_true rfl) dX7_init_58 (pc' := 60) rfl b_51 e_52 M_53 e_54 (fun m_49 k_50 => ?_)
  obtain ⟨M_55, e_56, h⟩ := bn_ h
  refine r_putRF C (Cn := RX7) (T := TX7) (x := (some b_51)) tyX7 15 (mMo.kd m_49 (mMo.kd (mo_R e_48) (mMo.kd m_41 (mMo.kd (mo_R e_40) (mMo.kd m_33 (mMo.kd (mo_R e_32) (mMo.kd m_25 (mMo.kd (mo_R e_24) (mMo.kd m_17 (mMo.kd (mo_R e_16) (mMo.kd m_9 (mMo.kd (mo_R e_8) (mMo.kd m_1 k_a0 (by decide)) (by decide)) (by decide)) (by decide)) (by decide)) (by decide)) (by decide)) (by decide)) (by decide)) (by decide)) (by decide)) (by decide)) (by decide)) (by decide) vc_X7 in_X7 tyX7_ok nmX7 (by decide) q1239 rfl rfl rfl rfl dX7_init_60 (pc' := 63) rfl (nA_ _) (fA_ _) M_55 e_56 ?_
  refine r_aload_n C dX7_init_63 (pc' := 64) rfl (j := 0) rfl ?_
  refine r_bipush C dX7_init_64 (pc' := 66) rfl (v := 14) rfl ?_
  obtain ⟨b_59, e_60, h⟩ := bn_ h
  obtain ⟨M_61, e_62, h⟩ := bn_ h
  refine r_newI C 14 (by decide) (by decide) (by decide) q255 (Nat.le_of_ble_eq_true rfl) (Nat.le_of_ble_eq_true rfl) dX7_init_66 (pc' := 68) rfl b_59 e_60 M_61 e_62 (fun m_57 k_58 => ?_)
  obtain ⟨M_63, e_64, h⟩ := bn_ h
  refine r_putRF C (Cn := RX7) (T := TX7) (x := (some b_59)) tyX7 16 (mMo.kd m_57 (mMo.kd (mo_R e_56) (mMo.kd m_49 (mMo.kd (mo_R e_48) (mMo.kd m_41 (mMo.kd (mo_R e_40) (mMo.kd m_33 (mMo.kd (mo_R e_32) (mMo.kd m_25 (mMo.kd (mo_R e_24) (mMo.kd m_17 (mMo.kd (mo_R e_16) (mMo.kd m_9 (mMo.kd (mo_R e_8) (mMo.kd m_1 k_a0 (by decide)) (by decide)) (by decide)) (by decide)) (by decide)) (by decide)) (by decide)) (by decide)) (by decide)) (by decide)) (by decide)) (by decide)) (by decide)) (by decide)) (by decide)) (by decide) vc_X7 in_X7 tyX7_ok nmX7 (by decide) q1240 rfl rfl rfl rfl dX7_init_68 (pc' := 71) rfl (nA_ _) (fA_ _) M_63 e_64 ?_
  refine r_aload_n C dX7_init_71 (pc' := 72) rfl (j := 0) rfl ?_
  refine r_bipush C dX7_init_72 (pc' := 74) rfl (v := 14) rfl ?_
  obtain ⟨b_67, e_68, h⟩ := bn_ h
  obtain ⟨M_69, e_70, h⟩ := bn_ h
  refine r_newI C 14 (by decide) (by decide) (by decide) q255 (Nat.le_of_ble_eq_true rfl) (Nat.le_of_ble_eq_true rfl) dX7_init_74 (pc' := 76) rfl b_67 e_68 M_69 e_70 (fun m_65 k_66 => ?_)
  obtain ⟨M_71, e_72, h⟩ := bn_ h
  refine r_putRF C (Cn := RX7) (T := TX7) (x := (some b_67)) tyX7 17 (mMo.kd m_65 (mMo.kd (mo_R e_64) (mMo.kd m_57 (mMo.kd (mo_R e_56) (mMo.kd m_49 (mMo.kd (mo_R e_48) (mMo.kd m_41 (mMo.kd (mo_R e_40) (mMo.kd m_33 (mMo.kd (mo_R e_32) (mMo.kd m_25 (mMo.kd (mo_R e_24) (mMo.kd m_17 (mMo.kd (mo_R e_16) (mMo.kd m_9 (mMo.kd (mo_R e_8) (mMo.kd m_1 k_a0 (by decide)) (by decide)) (by decide)) (by decide)) (by decide)) (by decide)) (by decide)) (by decide)) (by decide)) (by decide)) (by decide)) (by decide)) (by decide)) (by decide)) (by decide)) (by decide)) (by decide)) (by decide) vc_X7 in_X7 tyX7_ok nmX7 (by decide) q1241 rfl rfl rfl rfl dX7_init_76 (pc' := 79) rfl (nA_ _) (fA_ _) M_71 e_72 ?_
  refine r_aload_n C dX7_init_79 (pc' := 80) rfl (j := 0) rfl ?_
  refine r_bipush C dX7_init_80 (pc' := 82) rfl (v := 14) rfl ?_
  obtain ⟨b_75, e_76, h⟩ := bn_ h
  obtain ⟨M_77, e_78, h⟩ := bn_ h
  refine r_newI C 14 (by decide) (by decide) (by decide) q255 (Nat.le_of_ble_eq_true rfl) (Nat.le_of_ble_eq_true rfl) dX7_init_82 (pc' := 84) rfl b_75 e_76 M_77 e_78 (fun m_73 k_74 => ?_)
  obtain ⟨M_79, e_80, h⟩ := bn_ h
  refine r_putRF C (Cn := RX7) (T := TX7) (x := (some b_75)) tyX7 18 (mMo.kd m_73 (mMo.kd (mo_R e_72) (mMo.kd m_65 (mMo.kd (mo_R e_64) (mMo.kd m_57 (mMo.kd (mo_R e_56) (mMo.kd m_49 (mMo.kd (mo_R e_48) (mMo.kd m_41 (mMo.kd (mo_R e_40) (mMo.kd m_33 (mMo.kd (mo_R e_32) (mMo.kd m_25 (mMo.kd (mo_R e_24) (mMo.kd m_17 (mMo.kd (mo_R e_16) (mMo.kd m_9 (mMo.kd (mo_R e_8) (mMo.kd m_1 k_a0 (by decide)) (by decide)) (by decide)) (by decide)) (by decide)) (by decide)) (by decide)) (by decide)) (by decide)) (by decide)) (by decide)) (by decide)) (by decide)) (by decide)) (by decide)) (by decide)) (by decide)) (by decide)) (by decide)) (by decide) vc_X7 in_X7 tyX7_ok nmX7 (by decide) q1242 rfl rfl rfl rfl dX7_init_84 (pc' := 87) rfl (nA_ _) (fA_ _) M_79 e_80 ?_
  refine r_aload_n C dX7_init_87 (pc' := 88) rfl (j := 0) rfl ?_
  refine r_sipush C dX7_init_88 (pc' := 91) rfl (v := 1100) rfl ?_
  obtain ⟨b_83, e_84, h⟩ := bn_ h
  obtain ⟨M_85, e_86, h⟩ := bn_ h
  refine r_newI C 1100 (by decide) (by decide) (by decide) q255 (Nat.le_of_ble_eq_true rfl) (Nat.le_of_ble_eq_true rfl) dX7_init_91 (pc' := 93) rfl b_83 e_84 M_85 e_86 (fun m_81 k_82 => ?_)
  obtain ⟨M_87, e_88, h⟩ := bn_ h
  refine r_putRF C (Cn := RX7) (T := TX7) (x := (some b_83)) tyX7 19 (mMo.kd m_81 (mMo.kd (mo_R e_80) (mMo.kd m_73 (mMo.kd (mo_R e_72) (mMo.kd m_65 (mMo.kd (mo_R e_64) (mMo.kd m_57 (mMo.kd (mo_R e_56) (mMo.kd m_49 (mMo.kd (mo_R e_48) (mMo.kd m_41 (mMo.kd (mo_R e_40) (mMo.kd m_33 (mMo.kd (mo_R e_32) (mMo.kd m_25 (mMo.kd (mo_R e_24) (mMo.kd m_17 (mMo.kd (mo_R e_16) (mMo.kd m_9 (mMo.kd (mo_R e_8) (mMo.kd m_1 k_a0 (by decide)) (by decide)) (by decide)) (by decide)) (by decide)) (by decide)) (by decide)) (by decide)) (by decide)) (by decide)) (by decide)) (by decide)) (by decide)) (by decide)) (by decide)) (by decide)) (by decide)) (by decide)) (by decide)) (by decide)) (by decide)) (by decide) vc_X7 in_X7 tyX7_ok nmX7 (by decide) q1243 rfl rfl rfl rfl dX7_init_93 (pc' := 96) rfl (nA_ _) (fA_ _) M_87 e_88 ?_
  refine r_aload_n C dX7_init_96 (pc' := 97) rfl (j := 0) rfl ?_
  refine r_iconst C dX7_init_97 (pc' := 98) rfl (v := 5) rfl ?_
  obtain ⟨b_91, e_92, h⟩ := bn_ h
  obtain ⟨M_93, e_94, h⟩ := bn_ h
  refine r_newI C 5 (by decide) (by decide) (by decide) q255 (Nat.le_of_ble_eq_true rfl) (Nat.le_of_ble_eq_true rfl) dX7_init_98 (pc' := 100) rfl b_91 e_92 M_93 e_94 (fun m_89 k_90 => ?_)
  obtain ⟨M_95, e_96, h⟩ := bn_ h
  refine r_putRF C (Cn := RX7) (T := TX7) (x := (some b_91)) tyX7 20 (mMo.kd m_89 (mMo.kd (mo_R e_88) (mMo.kd m_81 (mMo.kd (mo_R e_80) (mMo.kd m_73 (mMo.kd (mo_R e_72) (mMo.kd m_65 (mMo.kd (mo_R e_64) (mMo.kd m_57 (mMo.kd (mo_R e_56) (mMo.kd m_49 (mMo.kd (mo_R e_48) (mMo.kd m_41 (mMo.kd (mo_R e_40) (mMo.kd m_33 (mMo.kd (mo_R e_32) (mMo.kd m_25 (mMo.kd (mo_R e_24) (mMo.kd m_17 (mMo.kd (mo_R e_16) (mMo.kd m_9 (mMo.kd (mo_R e_8) (mMo.kd m_1 k_a0 (by decide)) (by decide)) (by decide)) (by decide)) (by decide)) (by decide)) (by decide)) (by decide)) (by decide)) (by decide)) (by decide)) (by decide)) (by decide)) (by decide)) (by decide)) (by decide)) (by decide)) (by decide)) (by decide)) (by decide)) (by decide)) (by decide)) (by decide)) (by decide) vc_X7 in_X7 tyX7_ok nmX7 (by decide) q1244 rfl rfl rfl rfl dX7_init_100 (pc' := 103) rfl (nA_ _) (fA_ _) M_95 e_96 ?_
  refine r_aload_n C dX7_init_103 (pc' := 104) rfl (j := 0) rfl ?_
  refine r_bipush C dX7_init_104 (pc' := 106) rfl (v := 70) rfl ?_
  obtain ⟨b_99, e_100, h⟩ := bn_ h
  obtain ⟨M_101, e_102, h⟩ := bn_ h
  refine r_newI C 70 (by decide) (by decide) (by decide) q255 (Nat.le_of_ble_eq_true rfl) (Nat.le_of_ble_eq_true rfl) dX7_init_106 (pc' := 108) rfl b_99 e_100 M_101 e_102 (fun m_97 k_98 => ?_)
  obtain ⟨M_103, e_104, h⟩ := bn_ h
  refine r_putRF C (Cn := RX7) (T := TX7) (x := (some b_99)) tyX7 21 (mMo.kd m_97 (mMo.kd (mo_R e_96) (mMo.kd m_89 (mMo.kd (mo_R e_88) (mMo.kd m_81 (mMo.kd (mo_R e_80) (mMo.kd m_73 (mMo.kd (mo_R e_72) (mMo.kd m_65 (mMo.kd (mo_R e_64) (mMo.kd m_57 (mMo.kd (mo_R e_56) (mMo.kd m_49 (mMo.kd (mo_R e_48) (mMo.kd m_41 (mMo.kd (mo_R e_40) (mMo.kd m_33 (mMo.kd (mo_R e_32) (mMo.kd m_25 (mMo.kd (mo_R e_24) (mMo.kd m_17 (mMo.kd (mo_R e_16) (mMo.kd m_9 (mMo.kd (mo_R e_8) (mMo.kd m_1 k_a0 (by decide)) (by decide)) (by decide)) (by decide)) (by decide)) (by decide)) (by decide)) (by decide)) (by decide)) (by decide)) (by decide)) (by decide)) (by decide)) (by decide)) (by decide)) (by decide)) (by decide)) (by decide)) (by decide)) (by decide)) (by decide)) (by decide)) (by decide)) (by decide)) (by decide)) (by decide) vc_X7 in_X7 tyX7_ok nmX7 (by decide) q1245 rfl rfl rfl rfl dX7_init_108 (pc' := 111) rfl (nA_ _) (fA_ _) M_103 e_104 ?_
  refine r_aload_n C dX7_init_111 (pc' := 112) rfl (j := 0) rfl ?_
  refine r_bipush C dX7_init_112 (pc' := 114) rfl (v := 70) rfl ?_
  obtain ⟨b_107, e_108, h⟩ := bn_ h
  obtain ⟨M_109, e_110, h⟩ := bn_ h
  refine r_newI C 70 (by decide) (by decide) (by decide) q255 (Nat.le_of_ble_eq_true rfl) (Nat.le_of_ble_eq_true rfl) dX7_init_114 (pc' := 116) rfl b_107 e_108 M_109 e_110 (fun m_105 k_106 => ?_)
  obtain ⟨M_111, e_112, h⟩ := bn_ h
  refine r_putRF C (Cn := RX7) (T := TX7) (x := (some b_107)) tyX7 22 (mMo.kd m_105 (mMo.kd (mo_R e_104) (mMo.kd m_97 (mMo.kd (mo_R e_96) (mMo.kd m_89 (mMo.kd (mo_R e_88) (mMo.kd m_81 (mMo.kd (mo_R e_80) (mMo.kd m_73 (mMo.kd (mo_R e_72) (mMo.kd m_65 (mMo.kd (mo_R e_64) (mMo.kd m_57 (mMo.kd (mo_R e_56) (mMo.kd m_49 (mMo.kd (mo_R e_48) (mMo.kd m_41 (mMo.kd (mo_R e_40) (mMo.kd m_33 (mMo.kd (mo_R e_32) (mMo.kd m_25 (mMo.kd (mo_R e_24) (mMo.kd m_17 (mMo.kd (mo_R e_16) (mMo.kd m_9 (mMo.kd (mo_R e_8) (mMo.kd m_1 k_a0 (by decide)) (by decide)) (by decide)) (by decide)) (by decide)) (by decide)) (by decide)) (by decide)) (by decide)) (by decide)) (by decide)) (by decide)) (by decide)) (by decide)) (by decide)) (by decide)) (by decide)) (by decide)) (by decide)) (by decide)) (by decide)) (by decide)) (by decide)) (by decide)) (by decide)) (by decide)) (by decide)) (by decide) vc_X7 in_X7 tyX7_ok nmX7 (by decide) q1246 rfl rfl rfl rfl dX7_init_116 (pc' := 119) rfl (nA_ _) (fA_ _) M_111 e_112 ?_
  refine r_aload_n C dX7_init_119 (pc' := 120) rfl (j := 0) rfl ?_
  refine r_bipush C dX7_init_120 (pc' := 122) rfl (v := 70) rfl ?_
  obtain ⟨b_115, e_116, h⟩ := bn_ h
  obtain ⟨M_117, e_118, h⟩ := bn_ h
  refine r_newI C 70 (by decide) (by decide) (by decide) q255 (Nat.le_of_ble_eq_true rfl) (Nat.le_of_ble_eq_true rfl) dX7_init_122 (pc' := 124) rfl b_115 e_116 M_117 e_118 (fun m_113 k_114 => ?_)
  obtain ⟨M_119, e_120, h⟩ := bn_ h
  refine r_putRF C (Cn := RX7) (T := TX7) (x := (some b_115)) tyX7 23 (mMo.kd m_113 (mMo.kd (mo_R e_112) (mMo.kd m_105 (mMo.kd (mo_R e_104) (mMo.kd m_97 (mMo.kd (mo_R e_96) (mMo.kd m_89 (mMo.kd (mo_R e_88) (mMo.kd m_81 (mMo.kd (mo_R e_80) (mMo.kd m_73 (mMo.kd (mo_R e_72) (mMo.kd m_65 (mMo.kd (mo_R e_64) (mMo.kd m_57 (mMo.kd (mo_R e_56) (mMo.kd m_49 (mMo.kd (mo_R e_48) (mMo.kd m_41 (mMo.kd (mo_R e_40) (mMo.kd m_33 (mMo.kd (mo_R e_32) (mMo.kd m_25 (mMo.kd (mo_R e_24) (mMo.kd m_17 (mMo.kd (mo_R e_16) (mMo.kd m_9 (mMo.kd (mo_R e_8) (mMo.kd m_1 k_a0 (by decide)) (by decide)) (by decide)) (by decide)) (by decide)) (by decide)) (by decide)) (by decide)) (by decide)) (by decide)) (by decide)) (by decide)) (by decide)) (by decide)) (by decide)) (by decide)) (by decide)) (by decide)) (by decide)) (by decide)) (by decide)) (by decide)) (by decide)) (by decide)) (by decide)) (by decide)) (by decide)) (by decide)) (by decide)) (by decide) vc_X7 in_X7 tyX7_ok nmX7 (by decide) q1247 rfl rfl rfl rfl dX7_init_124 (pc' := 127) rfl (nA_ _) (fA_ _) M_119 e_120 ?_
  refine r_aload_n C dX7_init_127 (pc' := 128) rfl (j := 0) rfl ?_
  refine r_bipush C dX7_init_128 (pc' := 130) rfl (v := 70) rfl ?_
  obtain ⟨b_123, e_124, h⟩ := bn_ h
  obtain ⟨M_125, e_126, h⟩ := bn_ h
  refine r_newI C 70 (by decide) (by decide) (by decide) q255 (Nat.le_of_ble_eq_true rfl) (Nat.le_of_ble_eq_true rfl) dX7_init_130 (pc' := 132) rfl b_123 e_124 M_125 e_126 (fun m_121 k_122 => ?_)
  obtain ⟨M_127, e_128, h⟩ := bn_ h
  refine r_putRF C (Cn := RX7) (T := TX7) (x := (some b_123)) tyX7 24 (mMo.kd m_121 (mMo.kd (mo_R e_120) (mMo.kd m_113 (mMo.kd (mo_R e_112) (mMo.kd m_105 (mMo.kd (mo_R e_104) (mMo.kd m_97 (mMo.kd (mo_R e_96) (mMo.kd m_89 (mMo.kd (mo_R e_88) (mMo.kd m_81 (mMo.kd (mo_R e_80) (mMo.kd m_73 (mMo.kd (mo_R e_72) (mMo.kd m_65 (mMo.kd (mo_R e_64) (mMo.kd m_57 (mMo.kd (mo_R e_56) (mMo.kd m_49 (mMo.kd (mo_R e_48) (mMo.kd m_41 (mMo.kd (mo_R e_40) (mMo.kd m_33 (mMo.kd (mo_R e_32) (mMo.kd m_25 (mMo.kd (mo_R e_24) (mMo.kd m_17 (mMo.kd (mo_R e_16) (mMo.kd m_9 (mMo.kd (mo_R e_8) (mMo.kd m_1 k_a0 (by decide)) (by decide)) (by decide)) (by decide)) (by decide)) (by decide)) (by decide)) (by decide)) (by decide)) (by decide)) (by decide)) (by decide)) (by decide)) (by decide)) (by decide)) (by decide)) (by decide)) (by decide)) (by decide)) (by decide)) (by decide)) (by decide)) (by decide)) (by decide)) (by decide)) (by decide)) (by decide)) (by decide)) (by decide)) (by decide)) (by decide)) (by decide) vc_X7 in_X7 tyX7_ok nmX7 (by decide) q1248 rfl rfl rfl rfl dX7_init_132 (pc' := 135) rfl (nA_ _) (fA_ _) M_127 e_128 ?_
  refine r_aload_n C dX7_init_135 (pc' := 136) rfl (j := 0) rfl ?_
  refine r_sipush C dX7_init_136 (pc' := 139) rfl (v := 220) rfl ?_
  obtain ⟨b_131, e_132, h⟩ := bn_ h
  obtain ⟨M_133, e_134, h⟩ := bn_ h
  refine r_newI C 220 (by decide) (by decide) (by decide) q255 (Nat.le_of_ble_eq_true rfl) (Nat.le_of_ble_eq_true rfl) dX7_init_139 (pc' := 141) rfl b_131 e_132 M_133 e_134 (fun m_129 k_130 => ?_)
  obtain ⟨M_135, e_136, h⟩ := bn_ h
  refine r_putRF C (Cn := RX7) (T := TX7) (x := (some b_131)) tyX7 25 (mMo.kd m_129 (mMo.kd (mo_R e_128) (mMo.kd m_121 (mMo.kd (mo_R e_120) (mMo.kd m_113 (mMo.kd (mo_R e_112) (mMo.kd m_105 (mMo.kd (mo_R e_104) (mMo.kd m_97 (mMo.kd (mo_R e_96) (mMo.kd m_89 (mMo.kd (mo_R e_88) (mMo.kd m_81 (mMo.kd (mo_R e_80) (mMo.kd m_73 (mMo.kd (mo_R e_72) (mMo.kd m_65 (mMo.kd (mo_R e_64) (mMo.kd m_57 (mMo.kd (mo_R e_56) (mMo.kd m_49 (mMo.kd (mo_R e_48) (mMo.kd m_41 (mMo.kd (mo_R e_40) (mMo.kd m_33 (mMo.kd (mo_R e_32) (mMo.kd m_25 (mMo.kd (mo_R e_24) (mMo.kd m_17 (mMo.kd (mo_R e_16) (mMo.kd m_9 (mMo.kd (mo_R e_8) (mMo.kd m_1 k_a0 (by decide)) (by decide)) (by decide)) (by decide)) (by decide)) (by decide)) (by decide)) (by decide)) (by decide)) (by decide)) (by decide)) (by decide)) (by decide)) (by decide)) (by decide)) (by decide)) (by decide)) (by decide)) (by decide)) (by decide)) (by decide)) (by decide)) (by decide)) (by decide)) (by decide)) (by decide)) (by decide)) (by decide)) (by decide)) (by decide)) (by decide)) (by decide)) (by decide)) (by decide) vc_X7 in_X7 tyX7_ok nmX7 (by decide) q1249 rfl rfl rfl rfl dX7_init_141 (pc' := 144) rfl (nA_ _) (fA_ _) M_135 e_136 ?_
  refine r_aload_n C dX7_init_144 (pc' := 145) rfl (j := 0) rfl ?_
  refine r_bipush C dX7_init_145 (pc' := 147) rfl (v := 13) rfl ?_
  obtain ⟨b_139, e_140, h⟩ := bn_ h
  obtain ⟨M_141, e_142, h⟩ := bn_ h
  refine r_newI C 13 (by decide) (by decide) (by decide) q255 (Nat.le_of_ble_eq_true rfl) (Nat.le_of_ble_eq_true rfl) dX7_init_147 (pc' := 149) rfl b_139 e_140 M_141 e_142 (fun m_137 k_138 => ?_)
  obtain ⟨M_143, e_144, h⟩ := bn_ h
  refine r_putRF C (Cn := RX7) (T := TX7) (x := (some b_139)) tyX7 26 (mMo.kd m_137 (mMo.kd (mo_R e_136) (mMo.kd m_129 (mMo.kd (mo_R e_128) (mMo.kd m_121 (mMo.kd (mo_R e_120) (mMo.kd m_113 (mMo.kd (mo_R e_112) (mMo.kd m_105 (mMo.kd (mo_R e_104) (mMo.kd m_97 (mMo.kd (mo_R e_96) (mMo.kd m_89 (mMo.kd (mo_R e_88) (mMo.kd m_81 (mMo.kd (mo_R e_80) (mMo.kd m_73 (mMo.kd (mo_R e_72) (mMo.kd m_65 (mMo.kd (mo_R e_64) (mMo.kd m_57 (mMo.kd (mo_R e_56) (mMo.kd m_49 (mMo.kd (mo_R e_48) (mMo.kd m_41 (mMo.kd (mo_R e_40) (mMo.kd m_33 (mMo.kd (mo_R e_32) (mMo.kd m_25 (mMo.kd (mo_R e_24) (mMo.kd m_17 (mMo.kd (mo_R e_16) (mMo.kd m_9 (mMo.kd (mo_R e_8) (mMo.kd m_1 k_a0 (by decide)) (by decide)) (by decide)) (by decide)) (by decide)) (by decide)) (by decide)) (by decide)) (by decide)) (by decide)) (by decide)) (by decide)) (by decide)) (by decide)) (by decide)) (by decide)) (by decide)) (by decide)) (by decide)) (by decide)) (by decide)) (by decide)) (by decide)) (by decide)) (by decide)) (by decide)) (by decide)) (by decide)) (by decide)) (by decide)) (by decide)) (by decide)) (by decide)) (by decide)) (by decide)) (by decide) vc_X7 in_X7 tyX7_ok nmX7 (by decide) q1250 rfl rfl rfl rfl dX7_init_149 (pc' := 152) rfl (nA_ _) (fA_ _) M_143 e_144 ?_
  refine r_aload_n C dX7_init_152 (pc' := 153) rfl (j := 0) rfl ?_
  refine r_bipush C dX7_init_153 (pc' := 155) rfl (v := 8) rfl ?_
  obtain ⟨b_147, e_148, h⟩ := bn_ h
  obtain ⟨M_149, e_150, h⟩ := bn_ h
  refine r_newI C 8 (by decide) (by decide) (by decide) q255 (Nat.le_of_ble_eq_true rfl) (Nat.le_of_ble_eq_true rfl) dX7_init_155 (pc' := 157) rfl b_147 e_148 M_149 e_150 (fun m_145 k_146 => ?_)
  obtain ⟨M_151, e_152, h⟩ := bn_ h
  refine r_putRF C (Cn := RX7) (T := TX7) (x := (some b_147)) tyX7 30 (mMo.kd m_145 (mMo.kd (mo_R e_144) (mMo.kd m_137 (mMo.kd (mo_R e_136) (mMo.kd m_129 (mMo.kd (mo_R e_128) (mMo.kd m_121 (mMo.kd (mo_R e_120) (mMo.kd m_113 (mMo.kd (mo_R e_112) (mMo.kd m_105 (mMo.kd (mo_R e_104) (mMo.kd m_97 (mMo.kd (mo_R e_96) (mMo.kd m_89 (mMo.kd (mo_R e_88) (mMo.kd m_81 (mMo.kd (mo_R e_80) (mMo.kd m_73 (mMo.kd (mo_R e_72) (mMo.kd m_65 (mMo.kd (mo_R e_64) (mMo.kd m_57 (mMo.kd (mo_R e_56) (mMo.kd m_49 (mMo.kd (mo_R e_48) (mMo.kd m_41 (mMo.kd (mo_R e_40) (mMo.kd m_33 (mMo.kd (mo_R e_32) (mMo.kd m_25 (mMo.kd (mo_R e_24) (mMo.kd m_17 (mMo.kd (mo_R e_16) (mMo.kd m_9 (mMo.kd (mo_R e_8) (mMo.kd m_1 k_a0 (by decide)) (by decide)) (by decide)) (by decide)) (by decide)) (by decide)) (by decide)) (by decide)) (by decide)) (by decide)) (by decide)) (by decide)) (by decide)) (by decide)) (by decide)) (by decide)) (by decide)) (by decide)) (by decide)) (by decide)) (by decide)) (by decide)) (by decide)) (by decide)) (by decide)) (by decide)) (by decide)) (by decide)) (by decide)) (by decide)) (by decide)) (by decide)) (by decide)) (by decide)) (by decide)) (by decide)) (by decide)) (by decide) vc_X7 in_X7 tyX7_ok nmX7 (by decide) q1254 rfl rfl rfl rfl dX7_init_157 (pc' := 160) rfl (nA_ _) (fA_ _) M_151 e_152 ?_
  refine r_aload_n C dX7_init_160 (pc' := 161) rfl (j := 0) rfl ?_
  refine r_bipush C dX7_init_161 (pc' := 163) rfl (v := 8) rfl ?_
  obtain ⟨b_155, e_156, h⟩ := bn_ h
  obtain ⟨M_157, e_158, h⟩ := bn_ h
  refine r_newI C 8 (by decide) (by decide) (by decide) q255 (Nat.le_of_ble_eq_true rfl) (Nat.le_of_ble_eq_true rfl) dX7_init_163 (pc' := 165) rfl b_155 e_156 M_157 e_158 (fun m_153 k_154 => ?_)
  obtain ⟨M_159, e_160, h⟩ := bn_ h
  refine r_putRF C (Cn := RX7) (T := TX7) (x := (some b_155)) tyX7 35 (mMo.kd m_153 (mMo.kd (mo_R e_152) (mMo.kd m_145 (mMo.kd (mo_R e_144) (mMo.kd m_137 (mMo.kd (mo_R e_136) (mMo.kd m_129 (mMo.kd (mo_R e_128) (mMo.kd m_121 (mMo.kd (mo_R e_120) (mMo.kd m_113 (mMo.kd (mo_R e_112) (mMo.kd m_105 (mMo.kd (mo_R e_104) (mMo.kd m_97 (mMo.kd (mo_R e_96) (mMo.kd m_89 (mMo.kd (mo_R e_88) (mMo.kd m_81 (mMo.kd (mo_R e_80) (mMo.kd m_73 (mMo.kd (mo_R e_72) (mMo.kd m_65 (mMo.kd (mo_R e_64) (mMo.kd m_57 (mMo.kd (mo_R e_56) (mMo.kd m_49 (mMo.kd (mo_R e_48) (mMo.kd m_41 (mMo.kd (mo_R e_40) (mMo.kd m_33 (mMo.kd (mo_R e_32) (mMo.kd m_25 (mMo.kd (mo_R e_24) (mMo.kd m_17 (mMo.kd (mo_R e_16) (mMo.kd m_9 (mMo.kd (mo_R e_8) (mMo.kd m_1 k_a0 (by decide)) (by decide)) (by decide)) (by decide)) (by decide)) (by decide)) (by decide)) (by decide)) (by decide)) (by decide)) (by decide)) (by decide)) (by decide)) (by decide)) (by decide)) (by decide)) (by decide)) (by decide)) (by decide)) (by decide)) (by decide)) (by decide)) (by decide)) (by decide)) (by decide)) (by decide)) (by decide)) (by decide)) (by decide)) (by decide)) (by decide)) (by decide)) (by decide)) (by decide)) (by decide)) (by decide)) (by decide)) (by decide)) (by decide)) (by decide) vc_X7 in_X7 tyX7_ok nmX7 (by decide) q1259 rfl rfl rfl rfl dX7_init_165 (pc' := 168) rfl (nA_ _) (fA_ _) M_159 e_160 ?_
  refine r_aload_n C dX7_init_168 (pc' := 169) rfl (j := 0) rfl ?_
  refine r_bipush C dX7_init_169 (pc' := 171) rfl (v := 8) rfl ?_
  obtain ⟨b_163, e_164, h⟩ := bn_ h
  obtain ⟨M_165, e_166, h⟩ := bn_ h
  refine r_newI C 8 (by decide) (by decide) (by decide) q255 (Nat.le_of_ble_eq_true rfl) (Nat.le_of_ble_eq_true rfl) dX7_init_171 (pc' := 173) rfl b_163 e_164 M_165 e_166 (fun m_161 k_162 => ?_)
  obtain ⟨M_167, e_168, h⟩ := bn_ h
  refine r_putRF C (Cn := RX7) (T := TX7) (x := (some b_163)) tyX7 36 (mMo.kd m_161 (mMo.kd (mo_R e_160) (mMo.kd m_153 (mMo.kd (mo_R e_152) (mMo.kd m_145 (mMo.kd (mo_R e_144) (mMo.kd m_137 (mMo.kd (mo_R e_136) (mMo.kd m_129 (mMo.kd (mo_R e_128) (mMo.kd m_121 (mMo.kd (mo_R e_120) (mMo.kd m_113 (mMo.kd (mo_R e_112) (mMo.kd m_105 (mMo.kd (mo_R e_104) (mMo.kd m_97 (mMo.kd (mo_R e_96) (mMo.kd m_89 (mMo.kd (mo_R e_88) (mMo.kd m_81 (mMo.kd (mo_R e_80) (mMo.kd m_73 (mMo.kd (mo_R e_72) (mMo.kd m_65 (mMo.kd (mo_R e_64) (mMo.kd m_57 (mMo.kd (mo_R e_56) (mMo.kd m_49 (mMo.kd (mo_R e_48) (mMo.kd m_41 (mMo.kd (mo_R e_40) (mMo.kd m_33 (mMo.kd (mo_R e_32) (mMo.kd m_25 (mMo.kd (mo_R e_24) (mMo.kd m_17 (mMo.kd (mo_R e_16) (mMo.kd m_9 (mMo.kd (mo_R e_8) (mMo.kd m_1 k_a0 (by decide)) (by decide)) (by decide)) (by decide)) (by decide)) (by decide)) (by decide)) (by decide)) (by decide)) (by decide)) (by decide)) (by decide)) (by decide)) (by decide)) (by decide)) (by decide)) (by decide)) (by decide)) (by decide)) (by decide)) (by decide)) (by decide)) (by decide)) (by decide)) (by decide)) (by decide)) (by decide)) (by decide)) (by decide)) (by decide)) (by decide)) (by decide)) (by decide)) (by decide)) (by decide)) (by decide)) (by decide)) (by decide)) (by decide)) (by decide)) (by decide)) (by decide) vc_X7 in_X7 tyX7_ok nmX7 (by decide) q1260 rfl rfl rfl rfl dX7_init_173 (pc' := 176) rfl (nA_ _) (fA_ _) M_167 e_168 ?_
  refine r_aload_n C dX7_init_176 (pc' := 177) rfl (j := 0) rfl ?_
  refine r_sipush C dX7_init_177 (pc' := 180) rfl (v := 500) rfl ?_
  obtain ⟨b_171, e_172, h⟩ := bn_ h
  obtain ⟨M_173, e_174, h⟩ := bn_ h
  refine r_newL C 500 (by decide) (by decide) (by decide) q454 (Nat.le_of_ble_eq_true rfl) (Nat.le_of_ble_eq_true rfl) dX7_init_180 (pc' := 182) rfl b_171 e_172 M_173 e_174 (fun m_169 k_170 => ?_)
  obtain ⟨M_175, e_176, h⟩ := bn_ h
  refine r_putRF C (Cn := RX7) (T := TX7) (x := (some b_171)) tyX7 37 (mMo.kd m_169 (mMo.kd (mo_R e_168) (mMo.kd m_161 (mMo.kd (mo_R e_160) (mMo.kd m_153 (mMo.kd (mo_R e_152) (mMo.kd m_145 (mMo.kd (mo_R e_144) (mMo.kd m_137 (mMo.kd (mo_R e_136) (mMo.kd m_129 (mMo.kd (mo_R e_128) (mMo.kd m_121 (mMo.kd (mo_R e_120) (mMo.kd m_113 (mMo.kd (mo_R e_112) (mMo.kd m_105 (mMo.kd (mo_R e_104) (mMo.kd m_97 (mMo.kd (mo_R e_96) (mMo.kd m_89 (mMo.kd (mo_R e_88) (mMo.kd m_81 (mMo.kd (mo_R e_80) (mMo.kd m_73 (mMo.kd (mo_R e_72) (mMo.kd m_65 (mMo.kd (mo_R e_64) (mMo.kd m_57 (mMo.kd (mo_R e_56) (mMo.kd m_49 (mMo.kd (mo_R e_48) (mMo.kd m_41 (mMo.kd (mo_R e_40) (mMo.kd m_33 (mMo.kd (mo_R e_32) (mMo.kd m_25 (mMo.kd (mo_R e_24) (mMo.kd m_17 (mMo.kd (mo_R e_16) (mMo.kd m_9 (mMo.kd (mo_R e_8) (mMo.kd m_1 k_a0 (by decide)) (by decide)) (by decide)) (by decide)) (by decide)) (by decide)) (by decide)) (by decide)) (by decide)) (by decide)) (by decide)) (by decide)) (by decide)) (by decide)) (by decide)) (by decide)) (by decide)) (by decide)) (by decide)) (by decide)) (by decide)) (by decide)) (by decide)) (by decide)) (by decide)) (by decide)) (by decide)) (by decide)) (by decide)) (by decide)) (by decide)) (by decide)) (by decide)) (by decide)) (by decide)) (by decide)) (by decide)) (by decide)) (by decide)) (by decide)) (by decide)) (by decide)) (by decide)) (by decide) vc_X7 in_X7 tyX7_ok nmX7 (by decide) q1261 rfl rfl rfl rfl dX7_init_182 (pc' := 185) rfl (nA_ _) (fA_ _) M_175 e_176 ?_
  refine r_aload_n C dX7_init_185 (pc' := 186) rfl (j := 0) rfl ?_
  refine r_sipush C dX7_init_186 (pc' := 189) rfl (v := 500) rfl ?_
  obtain ⟨b_179, e_180, h⟩ := bn_ h
  obtain ⟨M_181, e_182, h⟩ := bn_ h
  refine r_newL C 500 (by decide) (by decide) (by decide) q454 (Nat.le_of_ble_eq_true rfl) (Nat.le_of_ble_eq_true rfl) dX7_init_189 (pc' := 191) rfl b_179 e_180 M_181 e_182 (fun m_177 k_178 => ?_)
  obtain ⟨M_183, e_184, h⟩ := bn_ h
  refine r_putRF C (Cn := RX7) (T := TX7) (x := (some b_179)) tyX7 38 (mMo.kd m_177 (mMo.kd (mo_R e_176) (mMo.kd m_169 (mMo.kd (mo_R e_168) (mMo.kd m_161 (mMo.kd (mo_R e_160) (mMo.kd m_153 (mMo.kd (mo_R e_152) (mMo.kd m_145 (mMo.kd (mo_R e_144) (mMo.kd m_137 (mMo.kd (mo_R e_136) (mMo.kd m_129 (mMo.kd (mo_R e_128) (mMo.kd m_121 (mMo.kd (mo_R e_120) (mMo.kd m_113 (mMo.kd (mo_R e_112) (mMo.kd m_105 (mMo.kd (mo_R e_104) (mMo.kd m_97 (mMo.kd (mo_R e_96) (mMo.kd m_89 (mMo.kd (mo_R e_88) (mMo.kd m_81 (mMo.kd (mo_R e_80) (mMo.kd m_73 (mMo.kd (mo_R e_72) (mMo.kd m_65 (mMo.kd (mo_R e_64) (mMo.kd m_57 (mMo.kd (mo_R e_56) (mMo.kd m_49 (mMo.kd (mo_R e_48) (mMo.kd m_41 (mMo.kd (mo_R e_40) (mMo.kd m_33 (mMo.kd (mo_R e_32) (mMo.kd m_25 (mMo.kd (mo_R e_24) (mMo.kd m_17 (mMo.kd (mo_R e_16) (mMo.kd m_9 (mMo.kd (mo_R e_8) (mMo.kd m_1 k_a0 (by decide)) (by decide)) (by decide)) (by decide)) (by decide)) (by decide)) (by decide)) (by decide)) (by decide)) (by decide)) (by decide)) (by decide)) (by decide)) (by decide)) (by decide)) (by decide)) (by decide)) (by decide)) (by decide)) (by decide)) (by decide)) (by decide)) (by decide)) (by decide)) (by decide)) (by decide)) (by decide)) (by decide)) (by decide)) (by decide)) (by decide)) (by decide)) (by decide)) (by decide)) (by decide)) (by decide)) (by decide)) (by decide)) (by decide)) (by decide)) (by decide)) (by decide)) (by decide)) (by decide)) (by decide)) (by decide) vc_X7 in_X7 tyX7_ok nmX7 (by decide) q1262 rfl rfl rfl rfl dX7_init_191 (pc' := 194) rfl (nA_ _) (fA_ _) M_183 e_184 ?_
  refine r_aload_n C dX7_init_194 (pc' := 195) rfl (j := 0) rfl ?_
  refine r_bipush C dX7_init_195 (pc' := 197) rfl (v := 25) rfl ?_
  obtain ⟨b_187, e_188, h⟩ := bn_ h
  obtain ⟨M_189, e_190, h⟩ := bn_ h
  refine r_newL C 25 (by decide) (by decide) (by decide) q454 (Nat.le_of_ble_eq_true rfl) (Nat.le_of_ble_eq_true rfl) dX7_init_197 (pc' := 199) rfl b_187 e_188 M_189 e_190 (fun m_185 k_186 => ?_)
  obtain ⟨M_191, e_192, h⟩ := bn_ h
  refine r_putRF C (Cn := RX7) (T := TX7) (x := (some b_187)) tyX7 40 (mMo.kd m_185 (mMo.kd (mo_R e_184) (mMo.kd m_177 (mMo.kd (mo_R e_176) (mMo.kd m_169 (mMo.kd (mo_R e_168) (mMo.kd m_161 (mMo.kd (mo_R e_160) (mMo.kd m_153 (mMo.kd (mo_R e_152) (mMo.kd m_145 (mMo.kd (mo_R e_144) (mMo.kd m_137 (mMo.kd (mo_R e_136) (mMo.kd m_129 (mMo.kd (mo_R e_128) (mMo.kd m_121 (mMo.kd (mo_R e_120) (mMo.kd m_113 (mMo.kd (mo_R e_112) (mMo.kd m_105 (mMo.kd (mo_R e_104) (mMo.kd m_97 (mMo.kd (mo_R e_96) (mMo.kd m_89 (mMo.kd (mo_R e_88) (mMo.kd m_81 (mMo.kd (mo_R e_80) (mMo.kd m_73 (mMo.kd (mo_R e_72) (mMo.kd m_65 (mMo.kd (mo_R e_64) (mMo.kd m_57 (mMo.kd (mo_R e_56) (mMo.kd m_49 (mMo.kd (mo_R e_48) (mMo.kd m_41 (mMo.kd (mo_R e_40) (mMo.kd m_33 (mMo.kd (mo_R e_32) (mMo.kd m_25 (mMo.kd (mo_R e_24) (mMo.kd m_17 (mMo.kd (mo_R e_16) (mMo.kd m_9 (mMo.kd (mo_R e_8) (mMo.kd m_1 k_a0 (by decide)) (by decide)) (by decide)) (by decide)) (by decide)) (by decide)) (by decide)) (by decide)) (by decide)) (by decide)) (by decide)) (by decide)) (by decide)) (by decide)) (by decide)) (by decide)) (by decide)) (by decide)) (by decide)) (by decide)) (by decide)) (by decide)) (by decide)) (by decide)) (by decide)) (by decide)) (by decide)) (by decide)) (by decide)) (by decide)) (by decide)) (by decide)) (by decide)) (by decide)) (by decide)) (by decide)) (by decide)) (by decide)) (by decide)) (by decide)) (by decide)) (by decide)) (by decide)) (by decide)) (by decide)) (by decide)) (by decide)) (by decide) vc_X7 in_X7 tyX7_ok nmX7 (by decide) q1264 rfl rfl rfl rfl dX7_init_199 (pc' := 202) rfl (nA_ _) (fA_ _) M_191 e_192 ?_
  refine r_aload_n C dX7_init_202 (pc' := 203) rfl (j := 0) rfl ?_
  refine r_bipush C dX7_init_203 (pc' := 205) rfl (v := 25) rfl ?_
  obtain ⟨b_195, e_196, h⟩ := bn_ h
  obtain ⟨M_197, e_198, h⟩ := bn_ h
  refine r_newL C 25 (by decide) (by decide) (by decide) q454 (Nat.le_of_ble_eq_true rfl) (Nat.le_of_ble_eq_true rfl) dX7_init_205 (pc' := 207) rfl b_195 e_196 M_197 e_198 (fun m_193 k_194 => ?_)
  obtain ⟨M_199, e_200, h⟩ := bn_ h
  refine r_putRF C (Cn := RX7) (T := TX7) (x := (some b_195)) tyX7 41 (mMo.kd m_193 (mMo.kd (mo_R e_192) (mMo.kd m_185 (mMo.kd (mo_R e_184) (mMo.kd m_177 (mMo.kd (mo_R e_176) (mMo.kd m_169 (mMo.kd (mo_R e_168) (mMo.kd m_161 (mMo.kd (mo_R e_160) (mMo.kd m_153 (mMo.kd (mo_R e_152) (mMo.kd m_145 (mMo.kd (mo_R e_144) (mMo.kd m_137 (mMo.kd (mo_R e_136) (mMo.kd m_129 (mMo.kd (mo_R e_128) (mMo.kd m_121 (mMo.kd (mo_R e_120) (mMo.kd m_113 (mMo.kd (mo_R e_112) (mMo.kd m_105 (mMo.kd (mo_R e_104) (mMo.kd m_97 (mMo.kd (mo_R e_96) (mMo.kd m_89 (mMo.kd (mo_R e_88) (mMo.kd m_81 (mMo.kd (mo_R e_80) (mMo.kd m_73 (mMo.kd (mo_R e_72) (mMo.kd m_65 (mMo.kd (mo_R e_64) (mMo.kd m_57 (mMo.kd (mo_R e_56) (mMo.kd m_49 (mMo.kd (mo_R e_48) (mMo.kd m_41 (mMo.kd (mo_R e_40) (mMo.kd m_33 (mMo.kd (mo_R e_32) (mMo.kd m_25 (mMo.kd (mo_R e_24) (mMo.kd m_17 (mMo.kd (mo_R e_16) (mMo.kd m_9 (mMo.kd (mo_R e_8) (mMo.kd m_1 k_a0 (by decide)) (by decide)) (by decide)) (by decide)) (by decide)) (by decide)) (by decide)) (by decide)) (by decide)) (by decide)) (by decide)) (by decide)) (by decide)) (by decide)) (by decide)) (by decide)) (by decide)) (by decide)) (by decide)) (by decide)) (by decide)) (by decide)) (by decide)) (by decide)) (by decide)) (by decide)) (by decide)) (by decide)) (by decide)) (by decide)) (by decide)) (by decide)) (by decide)) (by decide)) (by decide)) (by decide)) (by decide)) (by decide)) (by decide)) (by decide)) (by decide)) (by decide)) (by decide)) (by decide)) (by decide)) (by decide)) (by decide)) (by decide)) (by decide)) (by decide) vc_X7 in_X7 tyX7_ok nmX7 (by decide) q1265 rfl rfl rfl rfl dX7_init_207 (pc' := 210) rfl (nA_ _) (fA_ _) M_199 e_200 ?_
  refine r_aload_n C dX7_init_210 (pc' := 211) rfl (j := 0) rfl ?_
  refine r_bipush C dX7_init_211 (pc' := 213) rfl (v := 100) rfl ?_
  obtain ⟨b_203, e_204, h⟩ := bn_ h
  obtain ⟨M_205, e_206, h⟩ := bn_ h
  refine r_newI C 100 (by decide) (by decide) (by decide) q255 (Nat.le_of_ble_eq_true rfl) (Nat.le_of_ble_eq_true rfl) dX7_init_213 (pc' := 215) rfl b_203 e_204 M_205 e_206 (fun m_201 k_202 => ?_)
  obtain ⟨M_207, e_208, h⟩ := bn_ h
  refine r_putRF C (Cn := RX7) (T := TX7) (x := (some b_203)) tyX7 42 (mMo.kd m_201 (mMo.kd (mo_R e_200) (mMo.kd m_193 (mMo.kd (mo_R e_192) (mMo.kd m_185 (mMo.kd (mo_R e_184) (mMo.kd m_177 (mMo.kd (mo_R e_176) (mMo.kd m_169 (mMo.kd (mo_R e_168) (mMo.kd m_161 (mMo.kd (mo_R e_160) (mMo.kd m_153 (mMo.kd (mo_R e_152) (mMo.kd m_145 (mMo.kd (mo_R e_144) (mMo.kd m_137 (mMo.kd (mo_R e_136) (mMo.kd m_129 (mMo.kd (mo_R e_128) (mMo.kd m_121 (mMo.kd (mo_R e_120) (mMo.kd m_113 (mMo.kd (mo_R e_112) (mMo.kd m_105 (mMo.kd (mo_R e_104) (mMo.kd m_97 (mMo.kd (mo_R e_96) (mMo.kd m_89 (mMo.kd (mo_R e_88) (mMo.kd m_81 (mMo.kd (mo_R e_80) (mMo.kd m_73 (mMo.kd (mo_R e_72) (mMo.kd m_65 (mMo.kd (mo_R e_64) (mMo.kd m_57 (mMo.kd (mo_R e_56) (mMo.kd m_49 (mMo.kd (mo_R e_48) (mMo.kd m_41 (mMo.kd (mo_R e_40) (mMo.kd m_33 (mMo.kd (mo_R e_32) (mMo.kd m_25 (mMo.kd (mo_R e_24) (mMo.kd m_17 (mMo.kd (mo_R e_16) (mMo.kd m_9 (mMo.kd (mo_R e_8) (mMo.kd m_1 k_a0 (by decide)) (by decide)) (by decide)) (by decide)) (by decide)) (by decide)) (by decide)) (by decide)) (by decide)) (by decide)) (by decide)) (by decide)) (by decide)) (by decide)) (by decide)) (by decide)) (by decide)) (by decide)) (by decide)) (by decide)) (by decide)) (by decide)) (by decide)) (by decide)) (by decide)) (by decide)) (by decide)) (by decide)) (by decide)) (by decide)) (by decide)) (by decide)) (by decide)) (by decide)) (by decide)) (by decide)) (by decide)) (by decide)) (by decide)) (by decide)) (by decide)) (by decide)) (by decide)) (by decide)) (by decide)) (by decide)) (by decide)) (by decide)) (by decide)) (by decide)) (by decide)) (by decide) vc_X7 in_X7 tyX7_ok nmX7 (by decide) q1266 rfl rfl rfl rfl dX7_init_215 (pc' := 218) rfl (nA_ _) (fA_ _) M_207 e_208 ?_
  refine r_aload_n C dX7_init_218 (pc' := 219) rfl (j := 0) rfl ?_
  refine r_iconst C dX7_init_219 (pc' := 220) rfl (v := 4) rfl ?_
  obtain ⟨b_211, e_212, h⟩ := bn_ h
  obtain ⟨M_213, e_214, h⟩ := bn_ h
  refine r_newI C 4 (by decide) (by decide) (by decide) q255 (Nat.le_of_ble_eq_true rfl) (Nat.le_of_ble_eq_true rfl) dX7_init_220 (pc' := 222) rfl b_211 e_212 M_213 e_214 (fun m_209 k_210 => ?_)
  obtain ⟨M_215, e_216, h⟩ := bn_ h
  refine r_putRF C (Cn := RX7) (T := TX7) (x := (some b_211)) tyX7 43 (mMo.kd m_209 (mMo.kd (mo_R e_208) (mMo.kd m_201 (mMo.kd (mo_R e_200) (mMo.kd m_193 (mMo.kd (mo_R e_192) (mMo.kd m_185 (mMo.kd (mo_R e_184) (mMo.kd m_177 (mMo.kd (mo_R e_176) (mMo.kd m_169 (mMo.kd (mo_R e_168) (mMo.kd m_161 (mMo.kd (mo_R e_160) (mMo.kd m_153 (mMo.kd (mo_R e_152) (mMo.kd m_145 (mMo.kd (mo_R e_144) (mMo.kd m_137 (mMo.kd (mo_R e_136) (mMo.kd m_129 (mMo.kd (mo_R e_128) (mMo.kd m_121 (mMo.kd (mo_R e_120) (mMo.kd m_113 (mMo.kd (mo_R e_112) (mMo.kd m_105 (mMo.kd (mo_R e_104) (mMo.kd m_97 (mMo.kd (mo_R e_96) (mMo.kd m_89 (mMo.kd (mo_R e_88) (mMo.kd m_81 (mMo.kd (mo_R e_80) (mMo.kd m_73 (mMo.kd (mo_R e_72) (mMo.kd m_65 (mMo.kd (mo_R e_64) (mMo.kd m_57 (mMo.kd (mo_R e_56) (mMo.kd m_49 (mMo.kd (mo_R e_48) (mMo.kd m_41 (mMo.kd (mo_R e_40) (mMo.kd m_33 (mMo.kd (mo_R e_32) (mMo.kd m_25 (mMo.kd (mo_R e_24) (mMo.kd m_17 (mMo.kd (mo_R e_16) (mMo.kd m_9 (mMo.kd (mo_R e_8) (mMo.kd m_1 k_a0 (by decide)) (by decide)) (by decide)) (by decide)) (by decide)) (by decide)) (by decide)) (by decide)) (by decide)) (by decide)) (by decide)) (by decide)) (by decide)) (by decide)) (by decide)) (by decide)) (by decide)) (by decide)) (by decide)) (by decide)) (by decide)) (by decide)) (by decide)) (by decide)) (by decide)) (by decide)) (by decide)) (by decide)) (by decide)) (by decide)) (by decide)) (by decide)) (by decide)) (by decide)) (by decide)) (by decide)) (by decide)) (by decide)) (by decide)) (by decide)) (by decide)) (by decide)) (by decide)) (by decide)) (by decide)) (by decide)) (by decide)) (by decide)) (by decide)) (by decide)) (by decide)) (by decide)) (by decide)) (by decide) vc_X7 in_X7 tyX7_ok nmX7 (by decide) q1267 rfl rfl rfl rfl dX7_init_222 (pc' := 225) rfl (nA_ _) (fA_ _) M_215 e_216 ?_
  refine r_aload_n C dX7_init_225 (pc' := 226) rfl (j := 0) rfl ?_
  refine r_iconst C dX7_init_226 (pc' := 227) rfl (v := 4) rfl ?_
  obtain ⟨b_219, e_220, h⟩ := bn_ h
  obtain ⟨M_221, e_222, h⟩ := bn_ h
  refine r_newI C 4 (by decide) (by decide) (by decide) q255 (Nat.le_of_ble_eq_true rfl) (Nat.le_of_ble_eq_true rfl) dX7_init_227 (pc' := 229) rfl b_219 e_220 M_221 e_222 (fun m_217 k_218 => ?_)
  obtain ⟨M_223, e_224, h⟩ := bn_ h
  refine r_putRF C (Cn := RX7) (T := TX7) (x := (some b_219)) tyX7 44 (mMo.kd m_217 (mMo.kd (mo_R e_216) (mMo.kd m_209 (mMo.kd (mo_R e_208) (mMo.kd m_201 (mMo.kd (mo_R e_200) (mMo.kd m_193 (mMo.kd (mo_R e_192) (mMo.kd m_185 (mMo.kd (mo_R e_184) (mMo.kd m_177 (mMo.kd (mo_R e_176) (mMo.kd m_169 (mMo.kd (mo_R e_168) (mMo.kd m_161 (mMo.kd (mo_R e_160) (mMo.kd m_153 (mMo.kd (mo_R e_152) (mMo.kd m_145 (mMo.kd (mo_R e_144) (mMo.kd m_137 (mMo.kd (mo_R e_136) (mMo.kd m_129 (mMo.kd (mo_R e_128) (mMo.kd m_121 (mMo.kd (mo_R e_120) (mMo.kd m_113 (mMo.kd (mo_R e_112) (mMo.kd m_105 (mMo.kd (mo_R e_104) (mMo.kd m_97 (mMo.kd (mo_R e_96) (mMo.kd m_89 (mMo.kd (mo_R e_88) (mMo.kd m_81 (mMo.kd (mo_R e_80) (mMo.kd m_73 (mMo.kd (mo_R e_72) (mMo.kd m_65 (mMo.kd (mo_R e_64) (mMo.kd m_57 (mMo.kd (mo_R e_56) (mMo.kd m_49 (mMo.kd (mo_R e_48) (mMo.kd m_41 (mMo.kd (mo_R e_40) (mMo.kd m_33 (mMo.kd (mo_R e_32) (mMo.kd m_25 (mMo.kd (mo_R e_24) (mMo.kd m_17 (mMo.kd (mo_R e_16) (mMo.kd m_9 (mMo.kd (mo_R e_8) (mMo.kd m_1 k_a0 (by decide)) (by decide)) (by decide)) (by decide)) (by decide)) (by decide)) (by decide)) (by decide)) (by decide)) (by decide)) (by decide)) (by decide)) (by decide)) (by decide)) (by decide)) (by decide)) (by decide)) (by decide)) (by decide)) (by decide)) (by decide)) (by decide)) (by decide)) (by decide)) (by decide)) (by decide)) (by decide)) (by decide)) (by decide)) (by decide)) (by decide)) (by decide)) (by decide)) (by decide)) (by decide)) (by decide)) (by decide)) (by decide)) (by decide)) (by decide)) (by decide)) (by decide)) (by decide)) (by decide)) (by decide)) (by decide)) (by decide)) (by decide)) (by decide)) (by decide)) (by decide)) (by decide)) (by decide)) (by decide)) (by decide)) (by decide) vc_X7 in_X7 tyX7_ok nmX7 (by decide) q1268 rfl rfl rfl rfl dX7_init_229 (pc' := 232) rfl (nA_ _) (fA_ _) M_223 e_224 ?_
  refine r_aload_n C dX7_init_232 (pc' := 233) rfl (j := 0) rfl ?_
  refine r_bipush C dX7_init_233 (pc' := 235) rfl (v := 13) rfl ?_
  obtain ⟨b_227, e_228, h⟩ := bn_ h
  obtain ⟨M_229, e_230, h⟩ := bn_ h
  refine r_newL C 13 (by decide) (by decide) (by decide) q454 (Nat.le_of_ble_eq_true rfl) (Nat.le_of_ble_eq_true rfl) dX7_init_235 (pc' := 237) rfl b_227 e_228 M_229 e_230 (fun m_225 k_226 => ?_)
  obtain ⟨M_231, e_232, h⟩ := bn_ h
  refine r_putRF C (Cn := RX7) (T := TX7) (x := (some b_227)) tyX7 45 (mMo.kd m_225 (mMo.kd (mo_R e_224) (mMo.kd m_217 (mMo.kd (mo_R e_216) (mMo.kd m_209 (mMo.kd (mo_R e_208) (mMo.kd m_201 (mMo.kd (mo_R e_200) (mMo.kd m_193 (mMo.kd (mo_R e_192) (mMo.kd m_185 (mMo.kd (mo_R e_184) (mMo.kd m_177 (mMo.kd (mo_R e_176) (mMo.kd m_169 (mMo.kd (mo_R e_168) (mMo.kd m_161 (mMo.kd (mo_R e_160) (mMo.kd m_153 (mMo.kd (mo_R e_152) (mMo.kd m_145 (mMo.kd (mo_R e_144) (mMo.kd m_137 (mMo.kd (mo_R e_136) (mMo.kd m_129 (mMo.kd (mo_R e_128) (mMo.kd m_121 (mMo.kd (mo_R e_120) (mMo.kd m_113 (mMo.kd (mo_R e_112) (mMo.kd m_105 (mMo.kd (mo_R e_104) (mMo.kd m_97 (mMo.kd (mo_R e_96) (mMo.kd m_89 (mMo.kd (mo_R e_88) (mMo.kd m_81 (mMo.kd (mo_R e_80) (mMo.kd m_73 (mMo.kd (mo_R e_72) (mMo.kd m_65 (mMo.kd (mo_R e_64) (mMo.kd m_57 (mMo.kd (mo_R e_56) (mMo.kd m_49 (mMo.kd (mo_R e_48) (mMo.kd m_41 (mMo.kd (mo_R e_40) (mMo.kd m_33 (mMo.kd (mo_R e_32) (mMo.kd m_25 (mMo.kd (mo_R e_24) (mMo.kd m_17 (mMo.kd (mo_R e_16) (mMo.kd m_9 (mMo.kd (mo_R e_8) (mMo.kd m_1 k_a0 (by decide)) (by decide)) (by decide)) (by decide)) (by decide)) (by decide)) (by decide)) (by decide)) (by decide)) (by decide)) (by decide)) (by decide)) (by decide)) (by decide)) (by decide)) (by decide)) (by decide)) (by decide)) (by decide)) (by decide)) (by decide)) (by decide)) (by decide)) (by decide)) (by decide)) (by decide)) (by decide)) (by decide)) (by decide)) (by decide)) (by decide)) (by decide)) (by decide)) (by decide)) (by decide)) (by decide)) (by decide)) (by decide)) (by decide)) (by decide)) (by decide)) (by decide)) (by decide)) (by decide)) (by decide)) (by decide)) (by decide)) (by decide)) (by decide)) (by decide)) (by decide)) (by decide)) (by decide)) (by decide)) (by decide)) (by decide)) (by decide)) (by decide) vc_X7 in_X7 tyX7_ok nmX7 (by decide) q1269 rfl rfl rfl rfl dX7_init_237 (pc' := 240) rfl (nA_ _) (fA_ _) M_231 e_232 ?_
  refine r_aload_n C dX7_init_240 (pc' := 241) rfl (j := 0) rfl ?_
  refine r_bipush C dX7_init_241 (pc' := 243) rfl (v := 84) rfl ?_
  obtain ⟨b_235, e_236, h⟩ := bn_ h
  obtain ⟨M_237, e_238, h⟩ := bn_ h
  refine r_newI C 84 (by decide) (by decide) (by decide) q255 (Nat.le_of_ble_eq_true rfl) (Nat.le_of_ble_eq_true rfl) dX7_init_243 (pc' := 245) rfl b_235 e_236 M_237 e_238 (fun m_233 k_234 => ?_)
  obtain ⟨M_239, e_240, h⟩ := bn_ h
  refine r_putRF C (Cn := RX7) (T := TX7) (x := (some b_235)) tyX7 48 (mMo.kd m_233 (mMo.kd (mo_R e_232) (mMo.kd m_225 (mMo.kd (mo_R e_224) (mMo.kd m_217 (mMo.kd (mo_R e_216) (mMo.kd m_209 (mMo.kd (mo_R e_208) (mMo.kd m_201 (mMo.kd (mo_R e_200) (mMo.kd m_193 (mMo.kd (mo_R e_192) (mMo.kd m_185 (mMo.kd (mo_R e_184) (mMo.kd m_177 (mMo.kd (mo_R e_176) (mMo.kd m_169 (mMo.kd (mo_R e_168) (mMo.kd m_161 (mMo.kd (mo_R e_160) (mMo.kd m_153 (mMo.kd (mo_R e_152) (mMo.kd m_145 (mMo.kd (mo_R e_144) (mMo.kd m_137 (mMo.kd (mo_R e_136) (mMo.kd m_129 (mMo.kd (mo_R e_128) (mMo.kd m_121 (mMo.kd (mo_R e_120) (mMo.kd m_113 (mMo.kd (mo_R e_112) (mMo.kd m_105 (mMo.kd (mo_R e_104) (mMo.kd m_97 (mMo.kd (mo_R e_96) (mMo.kd m_89 (mMo.kd (mo_R e_88) (mMo.kd m_81 (mMo.kd (mo_R e_80) (mMo.kd m_73 (mMo.kd (mo_R e_72) (mMo.kd m_65 (mMo.kd (mo_R e_64) (mMo.kd m_57 (mMo.kd (mo_R e_56) (mMo.kd m_49 (mMo.kd (mo_R e_48) (mMo.kd m_41 (mMo.kd (mo_R e_40) (mMo.kd m_33 (mMo.kd (mo_R e_32) (mMo.kd m_25 (mMo.kd (mo_R e_24) (mMo.kd m_17 (mMo.kd (mo_R e_16) (mMo.kd m_9 (mMo.kd (mo_R e_8) (mMo.kd m_1 k_a0 (by decide)) (by decide)) (by decide)) (by decide)) (by decide)) (by decide)) (by decide)) (by decide)) (by decide)) (by decide)) (by decide)) (by decide)) (by decide)) (by decide)) (by decide)) (by decide)) (by decide)) (by decide)) (by decide)) (by decide)) (by decide)) (by decide)) (by decide)) (by decide)) (by decide)) (by decide)) (by decide)) (by decide)) (by decide)) (by decide)) (by decide)) (by decide)) (by decide)) (by decide)) (by decide)) (by decide)) (by decide)) (by decide)) (by decide)) (by decide)) (by decide)) (by decide)) (by decide)) (by decide)) (by decide)) (by decide)) (by decide)) (by decide)) (by decide)) (by decide)) (by decide)) (by decide)) (by decide)) (by decide)) (by decide)) (by decide)) (by decide)) (by decide)) (by decide)) (by decide) vc_X7 in_X7 tyX7_ok nmX7 (by decide) q1272 rfl rfl rfl rfl dX7_init_245 (pc' := 248) rfl (nA_ _) (fA_ _) M_239 e_240 ?_
  refine r_aload_n C dX7_init_248 (pc' := 249) rfl (j := 0) rfl ?_
  refine r_bipush C dX7_init_249 (pc' := 251) rfl (v := 6) rfl ?_
  obtain ⟨b_243, e_244, h⟩ := bn_ h
  obtain ⟨M_245, e_246, h⟩ := bn_ h
  refine r_newI C 6 (by decide) (by decide) (by decide) q255 (Nat.le_of_ble_eq_true rfl) (Nat.le_of_ble_eq_true rfl) dX7_init_251 (pc' := 253) rfl b_243 e_244 M_245 e_246 (fun m_241 k_242 => ?_)
  obtain ⟨M_247, e_248, h⟩ := bn_ h
  refine r_putRF C (Cn := RX7) (T := TX7) (x := (some b_243)) tyX7 51 (mMo.kd m_241 (mMo.kd (mo_R e_240) (mMo.kd m_233 (mMo.kd (mo_R e_232) (mMo.kd m_225 (mMo.kd (mo_R e_224) (mMo.kd m_217 (mMo.kd (mo_R e_216) (mMo.kd m_209 (mMo.kd (mo_R e_208) (mMo.kd m_201 (mMo.kd (mo_R e_200) (mMo.kd m_193 (mMo.kd (mo_R e_192) (mMo.kd m_185 (mMo.kd (mo_R e_184) (mMo.kd m_177 (mMo.kd (mo_R e_176) (mMo.kd m_169 (mMo.kd (mo_R e_168) (mMo.kd m_161 (mMo.kd (mo_R e_160) (mMo.kd m_153 (mMo.kd (mo_R e_152) (mMo.kd m_145 (mMo.kd (mo_R e_144) (mMo.kd m_137 (mMo.kd (mo_R e_136) (mMo.kd m_129 (mMo.kd (mo_R e_128) (mMo.kd m_121 (mMo.kd (mo_R e_120) (mMo.kd m_113 (mMo.kd (mo_R e_112) (mMo.kd m_105 (mMo.kd (mo_R e_104) (mMo.kd m_97 (mMo.kd (mo_R e_96) (mMo.kd m_89 (mMo.kd (mo_R e_88) (mMo.kd m_81 (mMo.kd (mo_R e_80) (mMo.kd m_73 (mMo.kd (mo_R e_72) (mMo.kd m_65 (mMo.kd (mo_R e_64) (mMo.kd m_57 (mMo.kd (mo_R e_56) (mMo.kd m_49 (mMo.kd (mo_R e_48) (mMo.kd m_41 (mMo.kd (mo_R e_40) (mMo.kd m_33 (mMo.kd (mo_R e_32) (mMo.kd m_25 (mMo.kd (mo_R e_24) (mMo.kd m_17 (mMo.kd (mo_R e_16) (mMo.kd m_9 (mMo.kd (mo_R e_8) (mMo.kd m_1 k_a0 (by decide)) (by decide)) (by decide)) (by decide)) (by decide)) (by decide)) (by decide)) (by decide)) (by decide)) (by decide)) (by decide)) (by decide)) (by decide)) (by decide)) (by decide)) (by decide)) (by decide)) (by decide)) (by decide)) (by decide)) (by decide)) (by decide)) (by decide)) (by decide)) (by decide)) (by decide)) (by decide)) (by decide)) (by decide)) (by decide)) (by decide)) (by decide)) (by decide)) (by decide)) (by decide)) (by decide)) (by decide)) (by decide)) (by decide)) (by decide)) (by decide)) (by decide)) (by decide)) (by decide)) (by decide)) (by decide)) (by decide)) (by decide)) (by decide)) (by decide)) (by decide)) (by decide)) (by decide)) (by decide)) (by decide)) (by decide)) (by decide)) (by decide)) (by decide)) (by decide)) (by decide)) (by decide) vc_X7 in_X7 tyX7_ok nmX7 (by decide) q1275 rfl rfl rfl rfl dX7_init_253 (pc' := 256) rfl (nA_ _) (fA_ _) M_247 e_248 ?_
  refine r_aload_n C dX7_init_256 (pc' := 257) rfl (j := 0) rfl ?_
  refine r_bipush C dX7_init_257 (pc' := 259) rfl (v := 6) rfl ?_
  obtain ⟨b_251, e_252, h⟩ := bn_ h
  obtain ⟨M_253, e_254, h⟩ := bn_ h
  refine r_newI C 6 (by decide) (by decide) (by decide) q255 (Nat.le_of_ble_eq_true rfl) (Nat.le_of_ble_eq_true rfl) dX7_init_259 (pc' := 261) rfl b_251 e_252 M_253 e_254 (fun m_249 k_250 => ?_)
  obtain ⟨M_255, e_256, h⟩ := bn_ h
  refine r_putRF C (Cn := RX7) (T := TX7) (x := (some b_251)) tyX7 52 (mMo.kd m_249 (mMo.kd (mo_R e_248) (mMo.kd m_241 (mMo.kd (mo_R e_240) (mMo.kd m_233 (mMo.kd (mo_R e_232) (mMo.kd m_225 (mMo.kd (mo_R e_224) (mMo.kd m_217 (mMo.kd (mo_R e_216) (mMo.kd m_209 (mMo.kd (mo_R e_208) (mMo.kd m_201 (mMo.kd (mo_R e_200) (mMo.kd m_193 (mMo.kd (mo_R e_192) (mMo.kd m_185 (mMo.kd (mo_R e_184) (mMo.kd m_177 (mMo.kd (mo_R e_176) (mMo.kd m_169 (mMo.kd (mo_R e_168) (mMo.kd m_161 (mMo.kd (mo_R e_160) (mMo.kd m_153 (mMo.kd (mo_R e_152) (mMo.kd m_145 (mMo.kd (mo_R e_144) (mMo.kd m_137 (mMo.kd (mo_R e_136) (mMo.kd m_129 (mMo.kd (mo_R e_128) (mMo.kd m_121 (mMo.kd (mo_R e_120) (mMo.kd m_113 (mMo.kd (mo_R e_112) (mMo.kd m_105 (mMo.kd (mo_R e_104) (mMo.kd m_97 (mMo.kd (mo_R e_96) (mMo.kd m_89 (mMo.kd (mo_R e_88) (mMo.kd m_81 (mMo.kd (mo_R e_80) (mMo.kd m_73 (mMo.kd (mo_R e_72) (mMo.kd m_65 (mMo.kd (mo_R e_64) (mMo.kd m_57 (mMo.kd (mo_R e_56) (mMo.kd m_49 (mMo.kd (mo_R e_48) (mMo.kd m_41 (mMo.kd (mo_R e_40) (mMo.kd m_33 (mMo.kd (mo_R e_32) (mMo.kd m_25 (mMo.kd (mo_R e_24) (mMo.kd m_17 (mMo.kd (mo_R e_16) (mMo.kd m_9 (mMo.kd (mo_R e_8) (mMo.kd m_1 k_a0 (by decide)) (by decide)) (by decide)) (by decide)) (by decide)) (by decide)) (by decide)) (by decide)) (by decide)) (by decide)) (by decide)) (by decide)) (by decide)) (by decide)) (by decide)) (by decide)) (by decide)) (by decide)) (by decide)) (by decide)) (by decide)) (by decide)) (by decide)) (by decide)) (by decide)) (by decide)) (by decide)) (by decide)) (by decide)) (by decide)) (by decide)) (by decide)) (by decide)) (by decide)) (by decide)) (by decide)) (by decide)) (by decide)) (by decide)) (by decide)) (by decide)) (by decide)) (by decide)) (by decide)) (by decide)) (by decide)) (by decide)) (by decide)) (by decide)) (by decide)) (by decide)) (by decide)) (by decide)) (by decide)) (by decide)) (by decide)) (by decide)) (by decide)) (by decide)) (by decide)) (by decide)) (by decide)) (by decide)) (by decide) vc_X7 in_X7 tyX7_ok nmX7 (by decide) q1276 rfl rfl rfl rfl dX7_init_261 (pc' := 264) rfl (nA_ _) (fA_ _) M_255 e_256 ?_
  refine r_aload_n C dX7_init_264 (pc' := 265) rfl (j := 0) rfl ?_
  refine r_getf C (Cn := RX7) (T := TX7) 0 (mMo.kd (mo_R e_256) (mMo.kd m_249 (mMo.kd (mo_R e_248) (mMo.kd m_241 (mMo.kd (mo_R e_240) (mMo.kd m_233 (mMo.kd (mo_R e_232) (mMo.kd m_225 (mMo.kd (mo_R e_224) (mMo.kd m_217 (mMo.kd (mo_R e_216) (mMo.kd m_209 (mMo.kd (mo_R e_208) (mMo.kd m_201 (mMo.kd (mo_R e_200) (mMo.kd m_193 (mMo.kd (mo_R e_192) (mMo.kd m_185 (mMo.kd (mo_R e_184) (mMo.kd m_177 (mMo.kd (mo_R e_176) (mMo.kd m_169 (mMo.kd (mo_R e_168) (mMo.kd m_161 (mMo.kd (mo_R e_160) (mMo.kd m_153 (mMo.kd (mo_R e_152) (mMo.kd m_145 (mMo.kd (mo_R e_144) (mMo.kd m_137 (mMo.kd (mo_R e_136) (mMo.kd m_129 (mMo.kd (mo_R e_128) (mMo.kd m_121 (mMo.kd (mo_R e_120) (mMo.kd m_113 (mMo.kd (mo_R e_112) (mMo.kd m_105 (mMo.kd (mo_R e_104) (mMo.kd m_97 (mMo.kd (mo_R e_96) (mMo.kd m_89 (mMo.kd (mo_R e_88) (mMo.kd m_81 (mMo.kd (mo_R e_80) (mMo.kd m_73 (mMo.kd (mo_R e_72) (mMo.kd m_65 (mMo.kd (mo_R e_64) (mMo.kd m_57 (mMo.kd (mo_R e_56) (mMo.kd m_49 (mMo.kd (mo_R e_48) (mMo.kd m_41 (mMo.kd (mo_R e_40) (mMo.kd m_33 (mMo.kd (mo_R e_32) (mMo.kd m_25 (mMo.kd (mo_R e_24) (mMo.kd m_17 (mMo.kd (mo_R e_16) (mMo.kd m_9 (mMo.kd (mo_R e_8) (mMo.kd m_1 k_a0 (by decide)) (by decide)) (by decide)) (by decide)) (by decide)) (by decide)) (by decide)) (by decide)) (by decide)) (by decide)) (by decide)) (by decide)) (by decide)) (by decide)) (by decide)) (by decide)) (by decide)) (by decide)) (by decide)) (by decide)) (by decide)) (by decide)) (by decide)) (by decide)) (by decide)) (by decide)) (by decide)) (by decide)) (by decide)) (by decide)) (by decide)) (by decide)) (by decide)) (by decide)) (by decide)) (by decide)) (by decide)) (by decide)) (by decide)) (by decide)) (by decide)) (by decide)) (by decide)) (by decide)) (by decide)) (by decide)) (by decide)) (by decide)) (by decide)) (by decide)) (by decide)) (by decide)) (by decide)) (by decide)) (by decide)) (by decide)) (by decide)) (by decide)) (by decide)) (by decide)) (by decide)) (by decide)) (by decide)) (by decide)) (by decide) vc_X7 in_X7 (by decide) q1224 dX7_init_265 (pc' := 268) rfl (v := va_rf (mgR M_255 a0 0)) rfl ?_
  obtain ⟨b_257, e_258, k_259, h⟩ := h
  refine r_ref [] e_258 ?_
  refine r_bipush C dX7_init_268 (pc' := 270) rfl (v := 80) rfl ?_
  refine r_iconst C dX7_init_270 (pc' := 271) rfl (v := 1) rfl ?_
  obtain ⟨c_260, h⟩ := h
  obtain ⟨M_261, e_262, h⟩ := bn_ h
  refine r_iast C (j := 80) k_259 (vp_l (by decide) (by decide) c_260) (by decide) dX7_init_271 (pc' := 272) rfl M_261 e_262 ?_
  refine r_aload_n C dX7_init_272 (pc' := 273) rfl (j := 0) rfl ?_
  refine r_iconst C dX7_init_273 (pc' := 274) rfl (v := -1) rfl ?_
  obtain ⟨M_263, e_264, h⟩ := bn_ h
  refine r_putI C (Cn := RX7) (T := TX7) tyX7 31 (mMo.kd (mo_I e_262) (mMo.kd (mo_R e_256) (mMo.kd m_249 (mMo.kd (mo_R e_248) (mMo.kd m_241 (mMo.kd (mo_R e_240) (mMo.kd m_233 (mMo.kd (mo_R e_232) (mMo.kd m_225 (mMo.kd (mo_R e_224) (mMo.kd m_217 (mMo.kd (mo_R e_216) (mMo.kd m_209 (mMo.kd (mo_R e_208) (mMo.kd m_201 (mMo.kd (mo_R e_200) (mMo.kd m_193 (mMo.kd (mo_R e_192) (mMo.kd m_185 (mMo.kd (mo_R e_184) (mMo.kd m_177 (mMo.kd (mo_R e_176) (mMo.kd m_169 (mMo.kd (mo_R e_168) (mMo.kd m_161 (mMo.kd (mo_R e_160) (mMo.kd m_153 (mMo.kd (mo_R e_152) (mMo.kd m_145 (mMo.kd (mo_R e_144) (mMo.kd m_137 (mMo.kd (mo_R e_136) (mMo.kd m_129 (mMo.kd (mo_R e_128) (mMo.kd m_121 (mMo.kd (mo_R e_120) (mMo.kd m_113 (mMo.kd (mo_R e_112) (mMo.kd m_105 (mMo.kd (mo_R e_104) (mMo.kd m_97 (mMo.kd (mo_R e_96) (mMo.kd m_89 (mMo.kd (mo_R e_88) (mMo.kd m_81 (mMo.kd (mo_R e_80) (mMo.kd m_73 (mMo.kd (mo_R e_72) (mMo.kd m_65 (mMo.kd (mo_R e_64) (mMo.kd m_57 (mMo.kd (mo_R e_56) (mMo.kd m_49 (mMo.kd (mo_R e_48) (mMo.kd m_41 (mMo.kd (mo_R e_40) (mMo.kd m_33 (mMo.kd (mo_R e_32) (mMo.kd m_25 (mMo.kd (mo_R e_24) (mMo.kd m_17 (mMo.kd (mo_R e_16) (mMo.kd m_9 (mMo.kd (mo_R e_8) (mMo.kd m_1 k_a0 (by decide)) (by decide)) (by decide)) (by decide)) (by decide)) (by decide)) (by decide)) (by decide)) (by decide)) (by decide)) (by decide)) (by decide)) (by decide)) (by decide)) (by decide)) (by decide)) (by decide)) (by decide)) (by decide)) (by decide)) (by decide)) (by decide)) (by decide)) (by decide)) (by decide)) (by decide)) (by decide)) (by decide)) (by decide)) (by decide)) (by decide)) (by decide)) (by decide)) (by decide)) (by decide)) (by decide)) (by decide)) (by decide)) (by decide)) (by decide)) (by decide)) (by decide)) (by decide)) (by decide)) (by decide)) (by decide)) (by decide)) (by decide)) (by decide)) (by decide)) (by decide)) (by decide)) (by decide)) (by decide)) (by decide)) (by decide)) (by decide)) (by decide)) (by decide)) (by decide)) (by decide)) (by decide)) (by decide)) (by decide)) (by decide)) (by decide) vc_X7 in_X7 tyX7_ok nmX7 (by decide) q1255 rfl rfl dX7_init_274 (pc' := 277) rfl rfl rfl M_263 e_264 ?_
  exact r_vret C hE (Nat.le_of_ble_eq_true rfl) (Nat.le_of_ble_eq_true rfl) dX7_init_277 ⟨rfl, h⟩
set_option maxHeartbeats 4000000 in
theorem S_X7_in {D : DD} {l : Launch} {M : MM} {x0 : Int32} {x1 : Int32} {x2 : Int32} {Post : Int32 → MM → Prop} (h : wp_X7_in M x0 x1 x2 Post) : mMet D l yX7_in cX7_in 3 ((some .boolean)) { frames := 0, cells := 0, slots := 0, locals := 0 } M [.int x0, .int x1, .int x2] (pI_ Post) := by
  refine m_of2 [(0, .int x0), (1, .int x1), (2, .int x2)] (by decide +kernel) (Nat.le_of_ble_eq_true rfl) rfl (fun E hED hEl C hE => ?_)
  subst hED
  subst hEl
  unfold wp_X7_in at h
  refine r_iload_n C dX7_in_0 (pc' := 1) rfl (j := 0) rfl ?_
  refine r_iload_n C dX7_in_1 (pc' := 2) rfl (j := 1) rfl ?_
  refine r_icmp_lt C dX7_in_2 (pc' := 5) rfl (tgt := 14) (by decide) (fun c_1 => ?_) (fun c_1 => ?_)
  · have h := it_t h c_1
    refine r_iconst C dX7_in_14 (pc' := 15) rfl (v := 0) rfl ?_
    exact r_zret C hE (Or.inl rfl) (Nat.le_of_ble_eq_true rfl) (Nat.le_of_ble_eq_true rfl) dX7_in_15 ⟨_, rfl, h⟩
  · have h := it_f h c_1
    refine r_iload_n C dX7_in_5 (pc' := 6) rfl (j := 0) rfl ?_
    refine r_iload_n C dX7_in_6 (pc' := 7) rfl (j := 2) rfl ?_
    refine r_icmp_gt C dX7_in_7 (pc' := 10) rfl (tgt := 14) (by decide) (fun c_2 => ?_) (fun c_2 => ?_)
    · have h := it_t h c_2
      refine r_iconst C dX7_in_14 (pc' := 15) rfl (v := 0) rfl ?_
      exact r_zret C hE (Or.inl rfl) (Nat.le_of_ble_eq_true rfl) (Nat.le_of_ble_eq_true rfl) dX7_in_15 ⟨_, rfl, h⟩
    · have h := it_f h c_2
      refine r_iconst C dX7_in_10 (pc' := 11) rfl (v := 1) rfl ?_
      refine r_goto C dX7_in_11 (tgt := 15) (by decide) ?_
      exact r_zret C hE (Or.inr rfl) (Nat.le_of_ble_eq_true rfl) (Nat.le_of_ble_eq_true rfl) dX7_in_15 ⟨_, rfl, h⟩
set_option maxHeartbeats 4000000 in
theorem B_X7_plant_142 {E : mE} {a0 : Nat} {x1 : Int32} {x3 : Int32} {X171 : MM → Prop} {Post : Int32 → MM → Prop} (C : mC E yX7_plant cX7_plant 6 ((some .boolean)) { frames := 1, cells := 0, slots := 0, locals := 22 }) (hE : mEnd E { frames := 1, cells := 0, slots := 0, locals := 22 } (pI_ Post)) : ∀ (n_ : Nat) (M : MM) (x5 : Int32), mkd M a0 = 7 → wl_X7_plant_142 a0 x1 x3 X171 n_ M x5 → (∀ (M' : MM), mMo M M' → X171 M' → mV E M' 0 0 171 [] []) → mV E M 0 0 142 [(0, .ref a0), (1, .int x1), (3, .int x3), (5, .int x5)] [] := by
  intro n_
  induction n_ with
  | zero =>
    intro M x5 k_a0 h hX171
    exact absurd h (by rw [wl_X7_plant_142]; exact fun q => q)
  | succ n_ ih =>
    intro M x5 k_a0 h hX171
    rw [wl_X7_plant_142] at h
    refine r_iload C dX7_plant_142 (pc' := 144) rfl (j := 3) rfl ?_
    refine r_bipush C dX7_plant_144 (pc' := 146) rfl (v := 7) rfl ?_
    refine r_icmp_ge C dX7_plant_146 (pc' := 149) rfl (tgt := 171) (by decide) (fun c_73 => ?_) (fun c_73 => ?_)
    · have h := it_t h c_73
      refine r_sub (lv' := []) [] rfl ?_
      exact hX171 M mMo.rf h
    · have h := it_f h c_73
      refine r_aload_n C dX7_plant_149 (pc' := 150) rfl (j := 0) rfl ?_
      refine r_getf C (Cn := RX7) (T := TX7) 0 k_a0 (by decide) vc_X7 in_X7 (by decide) q1224 dX7_plant_150 (pc' := 153) rfl (v := va_rf (mgR M a0 0)) rfl ?_
      obtain ⟨b_74, e_75, k_76, h⟩ := h
      refine r_ref [] e_75 ?_
      refine r_bipush C dX7_plant_153 (pc' := 155) rfl (v := 24) rfl ?_
      refine r_bipush C dX7_plant_155 (pc' := 157) rfl (v := 7) rfl ?_
      refine r_iload_n C dX7_plant_157 (pc' := 158) rfl (j := 1) rfl ?_
      refine r_imul C dX7_plant_158 (pc' := 159) rfl ?_
      refine r_iadd C dX7_plant_159 (pc' := 160) rfl ?_
      refine r_iload C dX7_plant_160 (pc' := 162) rfl (j := 3) rfl ?_
      refine r_iadd C dX7_plant_162 (pc' := 163) rfl ?_
      refine r_iload_n C dX7_plant_163 (pc' := 164) rfl (j := 2) rfl ?_
      obtain ⟨c_77, h⟩ := h
      obtain ⟨M_78, e_79, h⟩ := bn_ h
      refine r_iast C (j := (ix_ (((24 : Int32) + ((7 : Int32) * x1)) + x5))) k_76 c_77 rfl dX7_plant_164 (pc' := 165) rfl M_78 e_79 ?_
      obtain ⟨x5_80, e_81, h⟩ := bn_ h
      refine r_iinc C (lv' := [(5, .int x5_80), (0, .ref a0), (1, .int x1), (3, .int x3)]) dX7_plant_165 (pc' := 168) rfl (j := 3) rfl x5_80 (by rw [e_81]; rfl) (Nat.le_of_ble_eq_true rfl) rfl ?_
      refine r_goto C dX7_plant_168 (tgt := 142) (by decide) ?_
      refine r_sub (lv' := [(0, .ref a0), (1, .int x1), (3, .int x3), (5, .int x5_80)]) [1, 2, 3, 0] rfl ?_
      exact ih M_78 x5_80 (mMo.kd (mo_I e_79) k_a0 (by decide)) h (fun M9 hm9 h9 => hX171 M9 (mMo.tr (mo_I e_79) hm9) h9)
set_option maxHeartbeats 4000000 in
theorem S_X7_plant {D : DD} {l : Launch} {M : MM} {a0 : Nat} {x1 : Int32} {x2 : Int32} {x3 : Int32} {x4 : Int32} {Post : Int32 → MM → Prop} (k_a0 : mkd M a0 = 7) (h : wp_X7_plant M a0 x1 x2 x3 x4 Post) : mMet D l yX7_plant cX7_plant 6 ((some .boolean)) { frames := 1, cells := 0, slots := 0, locals := 22 } M [.ref a0, .int x1, .int x2, .int x3, .int x4] (pI_ Post) := by
  refine m_of2 [(0, .ref a0), (1, .int x1), (2, .int x2), (3, .int x3), (4, .int x4)] (by decide +kernel) (Nat.le_of_ble_eq_true rfl) rfl (fun E hED hEl C hE => ?_)
  subst hED
  subst hEl
  unfold wp_X7_plant at h
  refine r_iload_n C dX7_plant_0 (pc' := 1) rfl (j := 1) rfl ?_
  refine r_iconst C dX7_plant_1 (pc' := 2) rfl (v := 0) rfl ?_
  refine r_iconst C dX7_plant_2 (pc' := 3) rfl (v := 3) rfl ?_
  refine r_callSi (As := [.int x1, .int (0 : Int32), .int (3 : Int32)]) (rest := []) C (S_X7_in h) (lw_S q1391 q1392 q112 q1393) hd_X7_in rfl rfl (Nat.le_of_ble_eq_true rfl) (Nat.le_of_ble_eq_true rfl) (Nat.le_of_ble_eq_true rfl) rfl rfl (Nat.le_of_ble_eq_true rfl) (Nat.le_of_ble_eq_true rfl) dX7_plant_3 (pc' := 6) rfl (fun r_2 M_1 h m_3 => ?_)
  refine r_if_eq C dX7_plant_6 (pc' := 9) rfl (tgt := 39) (by decide) (fun c_4 => ?_) (fun c_4 => ?_)
  · have h := it_t h c_4
    refine r_iconst C dX7_plant_39 (pc' := 40) rfl (v := 0) rfl ?_
    exact r_zret C hE (Or.inl rfl) (Nat.le_of_ble_eq_true rfl) (Nat.le_of_ble_eq_true rfl) dX7_plant_40 ⟨_, rfl, h⟩
  · have h := it_f h c_4
    refine r_iload_n C dX7_plant_9 (pc' := 10) rfl (j := 2) rfl ?_
    refine r_iconst C dX7_plant_10 (pc' := 11) rfl (v := 4) rfl ?_
    refine r_bipush C dX7_plant_11 (pc' := 13) rfl (v := 24) rfl ?_
    refine r_callSi (As := [.int x2, .int (4 : Int32), .int (24 : Int32)]) (rest := []) C (S_X7_in h) (lw_S q1391 q1392 q112 q1393) hd_X7_in rfl rfl (Nat.le_of_ble_eq_true rfl) (Nat.le_of_ble_eq_true rfl) (Nat.le_of_ble_eq_true rfl) rfl rfl (Nat.le_of_ble_eq_true rfl) (Nat.le_of_ble_eq_true rfl) dX7_plant_13 (pc' := 16) rfl (fun r_6 M_5 h m_7 => ?_)
    refine r_if_eq C dX7_plant_16 (pc' := 19) rfl (tgt := 39) (by decide) (fun c_8 => ?_) (fun c_8 => ?_)
    · have h := it_t h c_8
      refine r_iconst C dX7_plant_39 (pc' := 40) rfl (v := 0) rfl ?_
      exact r_zret C hE (Or.inl rfl) (Nat.le_of_ble_eq_true rfl) (Nat.le_of_ble_eq_true rfl) dX7_plant_40 ⟨_, rfl, h⟩
    · have h := it_f h c_8
      refine r_iload_n C dX7_plant_19 (pc' := 20) rfl (j := 3) rfl ?_
      refine r_iconst C dX7_plant_20 (pc' := 21) rfl (v := 0) rfl ?_
      refine r_iload_n C dX7_plant_21 (pc' := 22) rfl (j := 2) rfl ?_
      refine r_callSi (As := [.int x3, .int (0 : Int32), .int x2]) (rest := []) C (S_X7_in h) (lw_S q1391 q1392 q112 q1393) hd_X7_in rfl rfl (Nat.le_of_ble_eq_true rfl) (Nat.le_of_ble_eq_true rfl) (Nat.le_of_ble_eq_true rfl) rfl rfl (Nat.le_of_ble_eq_true rfl) (Nat.le_of_ble_eq_true rfl) dX7_plant_22 (pc' := 25) rfl (fun r_10 M_9 h m_11 => ?_)
      refine r_if_eq C dX7_plant_25 (pc' := 28) rfl (tgt := 39) (by decide) (fun c_12 => ?_) (fun c_12 => ?_)
      · have h := it_t h c_12
        refine r_iconst C dX7_plant_39 (pc' := 40) rfl (v := 0) rfl ?_
        exact r_zret C hE (Or.inl rfl) (Nat.le_of_ble_eq_true rfl) (Nat.le_of_ble_eq_true rfl) dX7_plant_40 ⟨_, rfl, h⟩
      · have h := it_f h c_12
        refine r_iload C dX7_plant_28 (pc' := 30) rfl (j := 4) rfl ?_
        refine r_iconst C dX7_plant_30 (pc' := 31) rfl (v := 1) rfl ?_
        refine r_bipush C dX7_plant_31 (pc' := 33) rfl (v := 9) rfl ?_
        refine r_callSi (As := [.int x4, .int (1 : Int32), .int (9 : Int32)]) (rest := []) C (S_X7_in h) (lw_S q1391 q1392 q112 q1393) hd_X7_in rfl rfl (Nat.le_of_ble_eq_true rfl) (Nat.le_of_ble_eq_true rfl) (Nat.le_of_ble_eq_true rfl) rfl rfl (Nat.le_of_ble_eq_true rfl) (Nat.le_of_ble_eq_true rfl) dX7_plant_33 (pc' := 36) rfl (fun r_14 M_13 h m_15 => ?_)
        refine r_if_ne C dX7_plant_36 (pc' := 39) rfl (tgt := 41) (by decide) (fun c_16 => ?_) (fun c_16 => ?_)
        · have h := it_f h c_16
          refine r_aload_n C dX7_plant_41 (pc' := 42) rfl (j := 0) rfl ?_
          refine r_getf C (Cn := RX7) (T := TX7) 0 (mMo.kd m_15 (mMo.kd m_11 (mMo.kd m_7 (mMo.kd m_3 k_a0 (by decide)) (by decide)) (by decide)) (by decide)) (by decide) vc_X7 in_X7 (by decide) q1224 dX7_plant_42 (pc' := 45) rfl (v := va_rf (mgR M_13 a0 0)) rfl ?_
          obtain ⟨b_17, e_18, k_19, h⟩ := h
          refine r_ref [] e_18 ?_
          refine r_bipush C dX7_plant_45 (pc' := 47) rfl (v := 76) rfl ?_
          refine r_aload_n C dX7_plant_47 (pc' := 48) rfl (j := 0) rfl ?_
          refine r_getf C (Cn := RX7) (T := TX7) 0 (mMo.kd m_15 (mMo.kd m_11 (mMo.kd m_7 (mMo.kd m_3 k_a0 (by decide)) (by decide)) (by decide)) (by decide)) (by decide) vc_X7 in_X7 (by decide) q1224 dX7_plant_48 (pc' := 51) rfl (v := va_rf (mgR M_13 a0 0)) rfl ?_
          obtain ⟨b_20, e_21, k_22, h⟩ := h
          refine r_ref [] e_21 ?_
          refine r_bipush C dX7_plant_51 (pc' := 53) rfl (v := 76) rfl ?_
          obtain ⟨c_23, h⟩ := h
          refine r_iald C (j := 76) k_22 (vp_l (by decide) (by decide) c_23) (by decide) dX7_plant_53 (pc' := 54) rfl ?_
          refine r_iconst C dX7_plant_54 (pc' := 55) rfl (v := 1) rfl ?_
          refine r_iload_n C dX7_plant_55 (pc' := 56) rfl (j := 1) rfl ?_
          refine r_ishl C dX7_plant_56 (pc' := 57) rfl ?_
          refine r_ior C dX7_plant_57 (pc' := 58) rfl ?_
          obtain ⟨c_24, h⟩ := h
          obtain ⟨M_25, e_26, h⟩ := bn_ h
          refine r_iast C (j := 76) k_19 (vp_l (by decide) (by decide) c_24) (by decide) dX7_plant_58 (pc' := 59) rfl M_25 e_26 ?_
          refine r_aload_n C dX7_plant_59 (pc' := 60) rfl (j := 0) rfl ?_
          refine r_getf C (Cn := RX7) (T := TX7) 0 (mMo.kd (mo_I e_26) (mMo.kd m_15 (mMo.kd m_11 (mMo.kd m_7 (mMo.kd m_3 k_a0 (by decide)) (by decide)) (by decide)) (by decide)) (by decide)) (by decide) vc_X7 in_X7 (by decide) q1224 dX7_plant_60 (pc' := 63) rfl (v := va_rf (mgR M_25 a0 0)) rfl ?_
          obtain ⟨b_27, e_28, k_29, h⟩ := h
          refine r_ref [] e_28 ?_
          refine r_bipush C dX7_plant_63 (pc' := 65) rfl (v := 77) rfl ?_
          refine r_aload_n C dX7_plant_65 (pc' := 66) rfl (j := 0) rfl ?_
          refine r_getf C (Cn := RX7) (T := TX7) 0 (mMo.kd (mo_I e_26) (mMo.kd m_15 (mMo.kd m_11 (mMo.kd m_7 (mMo.kd m_3 k_a0 (by decide)) (by decide)) (by decide)) (by decide)) (by decide)) (by decide) vc_X7 in_X7 (by decide) q1224 dX7_plant_66 (pc' := 69) rfl (v := va_rf (mgR M_25 a0 0)) rfl ?_
          obtain ⟨b_30, e_31, k_32, h⟩ := h
          refine r_ref [] e_31 ?_
          refine r_bipush C dX7_plant_69 (pc' := 71) rfl (v := 77) rfl ?_
          obtain ⟨c_33, h⟩ := h
          refine r_iald C (j := 77) k_32 (vp_l (by decide) (by decide) c_33) (by decide) dX7_plant_71 (pc' := 72) rfl ?_
          refine r_iconst C dX7_plant_72 (pc' := 73) rfl (v := 1) rfl ?_
          refine r_iload_n C dX7_plant_73 (pc' := 74) rfl (j := 1) rfl ?_
          refine r_ishl C dX7_plant_74 (pc' := 75) rfl ?_
          refine r_iconst C dX7_plant_75 (pc' := 76) rfl (v := -1) rfl ?_
          refine r_ixor C dX7_plant_76 (pc' := 77) rfl ?_
          refine r_iand C dX7_plant_77 (pc' := 78) rfl ?_
          obtain ⟨c_34, h⟩ := h
          obtain ⟨M_35, e_36, h⟩ := bn_ h
          refine r_iast C (j := 77) k_29 (vp_l (by decide) (by decide) c_34) (by decide) dX7_plant_78 (pc' := 79) rfl M_35 e_36 ?_
          refine r_aload_n C dX7_plant_79 (pc' := 80) rfl (j := 0) rfl ?_
          refine r_getf C (Cn := RX7) (T := TX7) 0 (mMo.kd (mo_I e_36) (mMo.kd (mo_I e_26) (mMo.kd m_15 (mMo.kd m_11 (mMo.kd m_7 (mMo.kd m_3 k_a0 (by decide)) (by decide)) (by decide)) (by decide)) (by decide)) (by decide)) (by decide) vc_X7 in_X7 (by decide) q1224 dX7_plant_80 (pc' := 83) rfl (v := va_rf (mgR M_35 a0 0)) rfl ?_
          obtain ⟨b_37, e_38, k_39, h⟩ := h
          refine r_ref [] e_38 ?_
          refine r_iconst C dX7_plant_83 (pc' := 84) rfl (v := 0) rfl ?_
          refine r_iload_n C dX7_plant_84 (pc' := 85) rfl (j := 1) rfl ?_
          refine r_iadd C dX7_plant_85 (pc' := 86) rfl ?_
          refine r_iload_n C dX7_plant_86 (pc' := 87) rfl (j := 2) rfl ?_
          obtain ⟨c_40, h⟩ := h
          obtain ⟨M_41, e_42, h⟩ := bn_ h
          refine r_iast C (j := (ix_ ((0 : Int32) + x1))) k_39 c_40 rfl dX7_plant_87 (pc' := 88) rfl M_41 e_42 ?_
          refine r_aload_n C dX7_plant_88 (pc' := 89) rfl (j := 0) rfl ?_
          refine r_getf C (Cn := RX7) (T := TX7) 0 (mMo.kd (mo_I e_42) (mMo.kd (mo_I e_36) (mMo.kd (mo_I e_26) (mMo.kd m_15 (mMo.kd m_11 (mMo.kd m_7 (mMo.kd m_3 k_a0 (by decide)) (by decide)) (by decide)) (by decide)) (by decide)) (by decide)) (by decide)) (by decide) vc_X7 in_X7 (by decide) q1224 dX7_plant_89 (pc' := 92) rfl (v := va_rf (mgR M_41 a0 0)) rfl ?_
          obtain ⟨b_43, e_44, k_45, h⟩ := h
          refine r_ref [] e_44 ?_
          refine r_iconst C dX7_plant_92 (pc' := 93) rfl (v := 4) rfl ?_
          refine r_iload_n C dX7_plant_93 (pc' := 94) rfl (j := 1) rfl ?_
          refine r_iadd C dX7_plant_94 (pc' := 95) rfl ?_
          refine r_iload_n C dX7_plant_95 (pc' := 96) rfl (j := 3) rfl ?_
          obtain ⟨c_46, h⟩ := h
          obtain ⟨M_47, e_48, h⟩ := bn_ h
          refine r_iast C (j := (ix_ ((4 : Int32) + x1))) k_45 c_46 rfl dX7_plant_96 (pc' := 97) rfl M_47 e_48 ?_
          refine r_aload_n C dX7_plant_97 (pc' := 98) rfl (j := 0) rfl ?_
          refine r_getf C (Cn := RX7) (T := TX7) 0 (mMo.kd (mo_I e_48) (mMo.kd (mo_I e_42) (mMo.kd (mo_I e_36) (mMo.kd (mo_I e_26) (mMo.kd m_15 (mMo.kd m_11 (mMo.kd m_7 (mMo.kd m_3 k_a0 (by decide)) (by decide)) (by decide)) (by decide)) (by decide)) (by decide)) (by decide)) (by decide)) (by decide) vc_X7 in_X7 (by decide) q1224 dX7_plant_98 (pc' := 101) rfl (v := va_rf (mgR M_47 a0 0)) rfl ?_
          obtain ⟨b_49, e_50, k_51, h⟩ := h
          refine r_ref [] e_50 ?_
          refine r_bipush C dX7_plant_101 (pc' := 103) rfl (v := 8) rfl ?_
          refine r_iload_n C dX7_plant_103 (pc' := 104) rfl (j := 1) rfl ?_
          refine r_iadd C dX7_plant_104 (pc' := 105) rfl ?_
          refine r_iload C dX7_plant_105 (pc' := 107) rfl (j := 4) rfl ?_
          obtain ⟨c_52, h⟩ := h
          obtain ⟨M_53, e_54, h⟩ := bn_ h
          refine r_iast C (j := (ix_ ((8 : Int32) + x1))) k_51 c_52 rfl dX7_plant_107 (pc' := 108) rfl M_53 e_54 ?_
          refine r_aload_n C dX7_plant_108 (pc' := 109) rfl (j := 0) rfl ?_
          refine r_getf C (Cn := RX7) (T := TX7) 0 (mMo.kd (mo_I e_54) (mMo.kd (mo_I e_48) (mMo.kd (mo_I e_42) (mMo.kd (mo_I e_36) (mMo.kd (mo_I e_26) (mMo.kd m_15 (mMo.kd m_11 (mMo.kd m_7 (mMo.kd m_3 k_a0 (by decide)) (by decide)) (by decide)) (by decide)) (by decide)) (by decide)) (by decide)) (by decide)) (by decide)) (by decide) vc_X7 in_X7 (by decide) q1224 dX7_plant_109 (pc' := 112) rfl (v := va_rf (mgR M_53 a0 0)) rfl ?_
          obtain ⟨b_55, e_56, k_57, h⟩ := h
          refine r_ref [] e_56 ?_
          refine r_bipush C dX7_plant_112 (pc' := 114) rfl (v := 12) rfl ?_
          refine r_iload_n C dX7_plant_114 (pc' := 115) rfl (j := 1) rfl ?_
          refine r_iadd C dX7_plant_115 (pc' := 116) rfl ?_
          refine r_iconst C dX7_plant_116 (pc' := 117) rfl (v := 0) rfl ?_
          obtain ⟨c_58, h⟩ := h
          obtain ⟨M_59, e_60, h⟩ := bn_ h
          refine r_iast C (j := (ix_ ((12 : Int32) + x1))) k_57 c_58 rfl dX7_plant_117 (pc' := 118) rfl M_59 e_60 ?_
          refine r_aload_n C dX7_plant_118 (pc' := 119) rfl (j := 0) rfl ?_
          refine r_getf C (Cn := RX7) (T := TX7) 0 (mMo.kd (mo_I e_60) (mMo.kd (mo_I e_54) (mMo.kd (mo_I e_48) (mMo.kd (mo_I e_42) (mMo.kd (mo_I e_36) (mMo.kd (mo_I e_26) (mMo.kd m_15 (mMo.kd m_11 (mMo.kd m_7 (mMo.kd m_3 k_a0 (by decide)) (by decide)) (by decide)) (by decide)) (by decide)) (by decide)) (by decide)) (by decide)) (by decide)) (by decide)) (by decide) vc_X7 in_X7 (by decide) q1224 dX7_plant_119 (pc' := 122) rfl (v := va_rf (mgR M_59 a0 0)) rfl ?_
          obtain ⟨b_61, e_62, k_63, h⟩ := h
          refine r_ref [] e_62 ?_
          refine r_bipush C dX7_plant_122 (pc' := 124) rfl (v := 16) rfl ?_
          refine r_iload_n C dX7_plant_124 (pc' := 125) rfl (j := 1) rfl ?_
          refine r_iadd C dX7_plant_125 (pc' := 126) rfl ?_
          refine r_iconst C dX7_plant_126 (pc' := 127) rfl (v := 0) rfl ?_
          obtain ⟨c_64, h⟩ := h
          obtain ⟨M_65, e_66, h⟩ := bn_ h
          refine r_iast C (j := (ix_ ((16 : Int32) + x1))) k_63 c_64 rfl dX7_plant_127 (pc' := 128) rfl M_65 e_66 ?_
          refine r_aload_n C dX7_plant_128 (pc' := 129) rfl (j := 0) rfl ?_
          refine r_getf C (Cn := RX7) (T := TX7) 0 (mMo.kd (mo_I e_66) (mMo.kd (mo_I e_60) (mMo.kd (mo_I e_54) (mMo.kd (mo_I e_48) (mMo.kd (mo_I e_42) (mMo.kd (mo_I e_36) (mMo.kd (mo_I e_26) (mMo.kd m_15 (mMo.kd m_11 (mMo.kd m_7 (mMo.kd m_3 k_a0 (by decide)) (by decide)) (by decide)) (by decide)) (by decide)) (by decide)) (by decide)) (by decide)) (by decide)) (by decide)) (by decide)) (by decide) vc_X7 in_X7 (by decide) q1224 dX7_plant_129 (pc' := 132) rfl (v := va_rf (mgR M_65 a0 0)) rfl ?_
          obtain ⟨b_67, e_68, k_69, h⟩ := h
          refine r_ref [] e_68 ?_
          refine r_bipush C dX7_plant_132 (pc' := 134) rfl (v := 20) rfl ?_
          refine r_iload_n C dX7_plant_134 (pc' := 135) rfl (j := 1) rfl ?_
          refine r_iadd C dX7_plant_135 (pc' := 136) rfl ?_
          refine r_bipush C dX7_plant_136 (pc' := 138) rfl (v := -2) rfl ?_
          obtain ⟨c_70, h⟩ := h
          obtain ⟨M_71, e_72, h⟩ := bn_ h
          refine r_iast C (j := (ix_ ((20 : Int32) + x1))) k_69 c_70 rfl dX7_plant_138 (pc' := 139) rfl M_71 e_72 ?_
          refine r_iconst C dX7_plant_139 (pc' := 140) rfl (v := 0) rfl ?_
          refine r_istore C (lv' := [(5, .int (0 : Int32)), (0, .ref a0), (1, .int x1), (2, .int x2), (3, .int x3), (4, .int x4)]) dX7_plant_140 (pc' := 142) rfl (0 : Int32) rfl (Nat.le_of_ble_eq_true rfl) rfl ?_
          obtain ⟨n_82, h⟩ := h
          refine r_sub (lv' := [(0, .ref a0), (1, .int x1), (3, .int x3), (5, .int (0 : Int32))]) [1, 2, 4, 0] rfl ?_
          refine B_X7_plant_142 C hE n_82 M_71 (0 : Int32) (mMo.kd (mo_I e_72) (mMo.kd (mo_I e_66) (mMo.kd (mo_I e_60) (mMo.kd (mo_I e_54) (mMo.kd (mo_I e_48) (mMo.kd (mo_I e_42) (mMo.kd (mo_I e_36) (mMo.kd (mo_I e_26) (mMo.kd m_15 (mMo.kd m_11 (mMo.kd m_7 (mMo.kd m_3 k_a0 (by decide)) (by decide)) (by decide)) (by decide)) (by decide)) (by decide)) (by decide)) (by decide)) (by decide)) (by decide)) (by decide)) (by decide)) h (fun M_83 m_84 h => ?_)
          refine r_iconst C dX7_plant_171 (pc' := 172) rfl (v := 1) rfl ?_
          exact r_zret C hE (Or.inr rfl) (Nat.le_of_ble_eq_true rfl) (Nat.le_of_ble_eq_true rfl) dX7_plant_172 ⟨_, rfl, h⟩
        · have h := it_t h c_16
          refine r_iconst C dX7_plant_39 (pc' := 40) rfl (v := 0) rfl ?_
          exact r_zret C hE (Or.inl rfl) (Nat.le_of_ble_eq_true rfl) (Nat.le_of_ble_eq_true rfl) dX7_plant_40 ⟨_, rfl, h⟩
set_option maxHeartbeats 4000000 in
theorem S_X7_person {D : DD} {l : Launch} {M : MM} {a0 : Nat} {x1 : Int32} {x2 : Int32} {x3 : Int32} {Post : Int32 → MM → Prop} (k_a0 : mkd M a0 = 7) (h : wp_X7_person M a0 x1 x2 x3 Post) : mMet D l yX7_person cX7_person 4 ((some .boolean)) { frames := 1, cells := 0, slots := 0, locals := 22 } M [.ref a0, .int x1, .int x2, .int x3] (pI_ Post) := by
  refine m_of2 [(0, .ref a0), (1, .int x1), (2, .int x2), (3, .int x3)] (by decide +kernel) (Nat.le_of_ble_eq_true rfl) rfl (fun E hED hEl C hE => ?_)
  subst hED
  subst hEl
  unfold wp_X7_person at h
  refine r_iload_n C dX7_person_0 (pc' := 1) rfl (j := 1) rfl ?_
  refine r_iconst C dX7_person_1 (pc' := 2) rfl (v := 0) rfl ?_
  refine r_bipush C dX7_person_2 (pc' := 4) rfl (v := 7) rfl ?_
  refine r_callSi (As := [.int x1, .int (0 : Int32), .int (7 : Int32)]) (rest := []) C (S_X7_in h) (lw_S q1391 q1392 q112 q1393) hd_X7_in rfl rfl (Nat.le_of_ble_eq_true rfl) (Nat.le_of_ble_eq_true rfl) (Nat.le_of_ble_eq_true rfl) rfl rfl (Nat.le_of_ble_eq_true rfl) (Nat.le_of_ble_eq_true rfl) dX7_person_4 (pc' := 7) rfl (fun r_2 M_1 h m_3 => ?_)
  refine r_if_eq C dX7_person_7 (pc' := 10) rfl (tgt := 29) (by decide) (fun c_4 => ?_) (fun c_4 => ?_)
  · have h := it_t h c_4
    refine r_iconst C dX7_person_29 (pc' := 30) rfl (v := 0) rfl ?_
    exact r_zret C hE (Or.inl rfl) (Nat.le_of_ble_eq_true rfl) (Nat.le_of_ble_eq_true rfl) dX7_person_30 ⟨_, rfl, h⟩
  · have h := it_f h c_4
    refine r_iload_n C dX7_person_10 (pc' := 11) rfl (j := 2) rfl ?_
    refine r_iconst C dX7_person_11 (pc' := 12) rfl (v := 0) rfl ?_
    refine r_bipush C dX7_person_12 (pc' := 14) rfl (v := 10) rfl ?_
    refine r_callSi (As := [.int x2, .int (0 : Int32), .int (10 : Int32)]) (rest := []) C (S_X7_in h) (lw_S q1391 q1392 q112 q1393) hd_X7_in rfl rfl (Nat.le_of_ble_eq_true rfl) (Nat.le_of_ble_eq_true rfl) (Nat.le_of_ble_eq_true rfl) rfl rfl (Nat.le_of_ble_eq_true rfl) (Nat.le_of_ble_eq_true rfl) dX7_person_14 (pc' := 17) rfl (fun r_6 M_5 h m_7 => ?_)
    refine r_if_eq C dX7_person_17 (pc' := 20) rfl (tgt := 29) (by decide) (fun c_8 => ?_) (fun c_8 => ?_)
    · have h := it_t h c_8
      refine r_iconst C dX7_person_29 (pc' := 30) rfl (v := 0) rfl ?_
      exact r_zret C hE (Or.inl rfl) (Nat.le_of_ble_eq_true rfl) (Nat.le_of_ble_eq_true rfl) dX7_person_30 ⟨_, rfl, h⟩
    · have h := it_f h c_8
      refine r_iload_n C dX7_person_20 (pc' := 21) rfl (j := 3) rfl ?_
      refine r_iconst C dX7_person_21 (pc' := 22) rfl (v := 0) rfl ?_
      refine r_iconst C dX7_person_22 (pc' := 23) rfl (v := 3) rfl ?_
      refine r_callSi (As := [.int x3, .int (0 : Int32), .int (3 : Int32)]) (rest := []) C (S_X7_in h) (lw_S q1391 q1392 q112 q1393) hd_X7_in rfl rfl (Nat.le_of_ble_eq_true rfl) (Nat.le_of_ble_eq_true rfl) (Nat.le_of_ble_eq_true rfl) rfl rfl (Nat.le_of_ble_eq_true rfl) (Nat.le_of_ble_eq_true rfl) dX7_person_23 (pc' := 26) rfl (fun r_10 M_9 h m_11 => ?_)
      refine r_if_ne C dX7_person_26 (pc' := 29) rfl (tgt := 31) (by decide) (fun c_12 => ?_) (fun c_12 => ?_)
      · have h := it_f h c_12
        refine r_aload_n C dX7_person_31 (pc' := 32) rfl (j := 0) rfl ?_
        refine r_getf C (Cn := RX7) (T := TX7) 0 (mMo.kd m_11 (mMo.kd m_7 (mMo.kd m_3 k_a0 (by decide)) (by decide)) (by decide)) (by decide) vc_X7 in_X7 (by decide) q1224 dX7_person_32 (pc' := 35) rfl (v := va_rf (mgR M_9 a0 0)) rfl ?_
        obtain ⟨b_13, e_14, k_15, h⟩ := h
        refine r_ref [] e_14 ?_
        refine r_bipush C dX7_person_35 (pc' := 37) rfl (v := 78) rfl ?_
        refine r_aload_n C dX7_person_37 (pc' := 38) rfl (j := 0) rfl ?_
        refine r_getf C (Cn := RX7) (T := TX7) 0 (mMo.kd m_11 (mMo.kd m_7 (mMo.kd m_3 k_a0 (by decide)) (by decide)) (by decide)) (by decide) vc_X7 in_X7 (by decide) q1224 dX7_person_38 (pc' := 41) rfl (v := va_rf (mgR M_9 a0 0)) rfl ?_
        obtain ⟨b_16, e_17, k_18, h⟩ := h
        refine r_ref [] e_17 ?_
        refine r_bipush C dX7_person_41 (pc' := 43) rfl (v := 78) rfl ?_
        obtain ⟨c_19, h⟩ := h
        refine r_iald C (j := 78) k_18 (vp_l (by decide) (by decide) c_19) (by decide) dX7_person_43 (pc' := 44) rfl ?_
        refine r_iconst C dX7_person_44 (pc' := 45) rfl (v := 1) rfl ?_
        refine r_iload_n C dX7_person_45 (pc' := 46) rfl (j := 1) rfl ?_
        refine r_ishl C dX7_person_46 (pc' := 47) rfl ?_
        refine r_ior C dX7_person_47 (pc' := 48) rfl ?_
        obtain ⟨c_20, h⟩ := h
        obtain ⟨M_21, e_22, h⟩ := bn_ h
        refine r_iast C (j := 78) k_15 (vp_l (by decide) (by decide) c_20) (by decide) dX7_person_48 (pc' := 49) rfl M_21 e_22 ?_
        refine r_aload_n C dX7_person_49 (pc' := 50) rfl (j := 0) rfl ?_
        refine r_getf C (Cn := RX7) (T := TX7) 0 (mMo.kd (mo_I e_22) (mMo.kd m_11 (mMo.kd m_7 (mMo.kd m_3 k_a0 (by decide)) (by decide)) (by decide)) (by decide)) (by decide) vc_X7 in_X7 (by decide) q1224 dX7_person_50 (pc' := 53) rfl (v := va_rf (mgR M_21 a0 0)) rfl ?_
        obtain ⟨b_23, e_24, k_25, h⟩ := h
        refine r_ref [] e_24 ?_
        refine r_bipush C dX7_person_53 (pc' := 55) rfl (v := 52) rfl ?_
        refine r_iload_n C dX7_person_55 (pc' := 56) rfl (j := 1) rfl ?_
        refine r_iadd C dX7_person_56 (pc' := 57) rfl ?_
        refine r_iload_n C dX7_person_57 (pc' := 58) rfl (j := 2) rfl ?_
        obtain ⟨c_26, h⟩ := h
        obtain ⟨M_27, e_28, h⟩ := bn_ h
        refine r_iast C (j := (ix_ ((52 : Int32) + x1))) k_25 c_26 rfl dX7_person_58 (pc' := 59) rfl M_27 e_28 ?_
        refine r_aload_n C dX7_person_59 (pc' := 60) rfl (j := 0) rfl ?_
        refine r_getf C (Cn := RX7) (T := TX7) 0 (mMo.kd (mo_I e_28) (mMo.kd (mo_I e_22) (mMo.kd m_11 (mMo.kd m_7 (mMo.kd m_3 k_a0 (by decide)) (by decide)) (by decide)) (by decide)) (by decide)) (by decide) vc_X7 in_X7 (by decide) q1224 dX7_person_60 (pc' := 63) rfl (v := va_rf (mgR M_27 a0 0)) rfl ?_
        obtain ⟨b_29, e_30, k_31, h⟩ := h
        refine r_ref [] e_30 ?_
        refine r_bipush C dX7_person_63 (pc' := 65) rfl (v := 60) rfl ?_
        refine r_iload_n C dX7_person_65 (pc' := 66) rfl (j := 1) rfl ?_
        refine r_iadd C dX7_person_66 (pc' := 67) rfl ?_
        refine r_iload_n C dX7_person_67 (pc' := 68) rfl (j := 3) rfl ?_
        obtain ⟨c_32, h⟩ := h
        obtain ⟨M_33, e_34, h⟩ := bn_ h
        refine r_iast C (j := (ix_ ((60 : Int32) + x1))) k_31 c_32 rfl dX7_person_68 (pc' := 69) rfl M_33 e_34 ?_
        refine r_aload_n C dX7_person_69 (pc' := 70) rfl (j := 0) rfl ?_
        refine r_getf C (Cn := RX7) (T := TX7) 0 (mMo.kd (mo_I e_34) (mMo.kd (mo_I e_28) (mMo.kd (mo_I e_22) (mMo.kd m_11 (mMo.kd m_7 (mMo.kd m_3 k_a0 (by decide)) (by decide)) (by decide)) (by decide)) (by decide)) (by decide)) (by decide) vc_X7 in_X7 (by decide) q1224 dX7_person_70 (pc' := 73) rfl (v := va_rf (mgR M_33 a0 0)) rfl ?_
        obtain ⟨b_35, e_36, k_37, h⟩ := h
        refine r_ref [] e_36 ?_
        refine r_bipush C dX7_person_73 (pc' := 75) rfl (v := 68) rfl ?_
        refine r_iload_n C dX7_person_75 (pc' := 76) rfl (j := 1) rfl ?_
        refine r_iadd C dX7_person_76 (pc' := 77) rfl ?_
        refine r_iconst C dX7_person_77 (pc' := 78) rfl (v := 0) rfl ?_
        obtain ⟨c_38, h⟩ := h
        obtain ⟨M_39, e_40, h⟩ := bn_ h
        refine r_iast C (j := (ix_ ((68 : Int32) + x1))) k_37 c_38 rfl dX7_person_78 (pc' := 79) rfl M_39 e_40 ?_
        refine r_iconst C dX7_person_79 (pc' := 80) rfl (v := 1) rfl ?_
        exact r_zret C hE (Or.inr rfl) (Nat.le_of_ble_eq_true rfl) (Nat.le_of_ble_eq_true rfl) dX7_person_80 ⟨_, rfl, h⟩
      · have h := it_t h c_12
        refine r_iconst C dX7_person_29 (pc' := 30) rfl (v := 0) rfl ?_
        exact r_zret C hE (Or.inl rfl) (Nat.le_of_ble_eq_true rfl) (Nat.le_of_ble_eq_true rfl) dX7_person_30 ⟨_, rfl, h⟩
set_option maxHeartbeats 4000000 in
theorem S_X7_has {D : DD} {l : Launch} {M : MM} {x0 : Int32} {x1 : Int32} {Post : Int32 → MM → Prop} (h : wp_X7_has M x0 x1 Post) : mMet D l yX7_has cX7_has 2 ((some .boolean)) { frames := 0, cells := 0, slots := 0, locals := 0 } M [.int x0, .int x1] (pI_ Post) := by
  refine m_of2 [(0, .int x0), (1, .int x1)] (by decide +kernel) (Nat.le_of_ble_eq_true rfl) rfl (fun E hED hEl C hE => ?_)
  subst hED
  subst hEl
  unfold wp_X7_has at h
  refine r_iload_n C dX7_has_0 (pc' := 1) rfl (j := 0) rfl ?_
  refine r_iload_n C dX7_has_1 (pc' := 2) rfl (j := 1) rfl ?_
  refine r_ishr C dX7_has_2 (pc' := 3) rfl ?_
  refine r_iconst C dX7_has_3 (pc' := 4) rfl (v := 1) rfl ?_
  refine r_iand C dX7_has_4 (pc' := 5) rfl ?_
  refine r_iconst C dX7_has_5 (pc' := 6) rfl (v := 1) rfl ?_
  refine r_icmp_ne C dX7_has_6 (pc' := 9) rfl (tgt := 13) (by decide) (fun c_1 => ?_) (fun c_1 => ?_)
  · have h := it_f h c_1
    refine r_iconst C dX7_has_13 (pc' := 14) rfl (v := 0) rfl ?_
    exact r_zret C hE (Or.inl rfl) (Nat.le_of_ble_eq_true rfl) (Nat.le_of_ble_eq_true rfl) dX7_has_14 ⟨_, rfl, h⟩
  · have h := it_t h c_1
    refine r_iconst C dX7_has_9 (pc' := 10) rfl (v := 1) rfl ?_
    refine r_goto C dX7_has_10 (tgt := 14) (by decide) ?_
    exact r_zret C hE (Or.inr rfl) (Nat.le_of_ble_eq_true rfl) (Nat.le_of_ble_eq_true rfl) dX7_has_14 ⟨_, rfl, h⟩
set_option maxHeartbeats 4000000 in
theorem S_X7_isPlant {D : DD} {l : Launch} {M : MM} {a0 : Nat} {x1 : Int32} {Post : Int32 → MM → Prop} (k_a0 : mkd M a0 = 7) (h : wp_X7_isPlant M a0 x1 Post) : mMet D l yX7_isPlant cX7_isPlant 2 ((some .boolean)) { frames := 1, cells := 0, slots := 0, locals := 21 } M [.ref a0, .int x1] (pI_ Post) := by
  refine m_of2 [(0, .ref a0), (1, .int x1)] (by decide +kernel) (Nat.le_of_ble_eq_true rfl) rfl (fun E hED hEl C hE => ?_)
  subst hED
  subst hEl
  unfold wp_X7_isPlant at h
  refine r_iload_n C dX7_isPlant_0 (pc' := 1) rfl (j := 1) rfl ?_
  refine r_if_lt C dX7_isPlant_1 (pc' := 4) rfl (tgt := 27) (by decide) (fun c_1 => ?_) (fun c_1 => ?_)
  · have h := it_t h c_1
    refine r_iconst C dX7_isPlant_27 (pc' := 28) rfl (v := 0) rfl ?_
    exact r_zret C hE (Or.inl rfl) (Nat.le_of_ble_eq_true rfl) (Nat.le_of_ble_eq_true rfl) dX7_isPlant_28 ⟨_, rfl, h⟩
  · have h := it_f h c_1
    refine r_iload_n C dX7_isPlant_4 (pc' := 5) rfl (j := 1) rfl ?_
    refine r_iconst C dX7_isPlant_5 (pc' := 6) rfl (v := 4) rfl ?_
    refine r_icmp_ge C dX7_isPlant_6 (pc' := 9) rfl (tgt := 27) (by decide) (fun c_2 => ?_) (fun c_2 => ?_)
    · have h := it_t h c_2
      refine r_iconst C dX7_isPlant_27 (pc' := 28) rfl (v := 0) rfl ?_
      exact r_zret C hE (Or.inl rfl) (Nat.le_of_ble_eq_true rfl) (Nat.le_of_ble_eq_true rfl) dX7_isPlant_28 ⟨_, rfl, h⟩
    · have h := it_f h c_2
      refine r_aload_n C dX7_isPlant_9 (pc' := 10) rfl (j := 0) rfl ?_
      refine r_getf C (Cn := RX7) (T := TX7) 0 k_a0 (by decide) vc_X7 in_X7 (by decide) q1224 dX7_isPlant_10 (pc' := 13) rfl (v := va_rf (mgR M a0 0)) rfl ?_
      obtain ⟨b_3, e_4, k_5, h⟩ := h
      refine r_ref [] e_4 ?_
      refine r_bipush C dX7_isPlant_13 (pc' := 15) rfl (v := 76) rfl ?_
      obtain ⟨c_6, h⟩ := h
      refine r_iald C (j := 76) k_5 (vp_l (by decide) (by decide) c_6) (by decide) dX7_isPlant_15 (pc' := 16) rfl ?_
      refine r_iload_n C dX7_isPlant_16 (pc' := 17) rfl (j := 1) rfl ?_
      refine r_callSi (As := [.int (mgI M b_3 76), .int x1]) (rest := []) C (S_X7_has h) (lw_S q1406 q1407 q112 q1408) hd_X7_has rfl rfl (Nat.le_of_ble_eq_true rfl) (Nat.le_of_ble_eq_true rfl) (Nat.le_of_ble_eq_true rfl) rfl rfl (Nat.le_of_ble_eq_true rfl) (Nat.le_of_ble_eq_true rfl) dX7_isPlant_17 (pc' := 20) rfl (fun r_8 M_7 h m_9 => ?_)
      refine r_if_eq C dX7_isPlant_20 (pc' := 23) rfl (tgt := 27) (by decide) (fun c_10 => ?_) (fun c_10 => ?_)
      · have h := it_t h c_10
        refine r_iconst C dX7_isPlant_27 (pc' := 28) rfl (v := 0) rfl ?_
        exact r_zret C hE (Or.inl rfl) (Nat.le_of_ble_eq_true rfl) (Nat.le_of_ble_eq_true rfl) dX7_isPlant_28 ⟨_, rfl, h⟩
      · have h := it_f h c_10
        refine r_iconst C dX7_isPlant_23 (pc' := 24) rfl (v := 1) rfl ?_
        refine r_goto C dX7_isPlant_24 (tgt := 28) (by decide) ?_
        exact r_zret C hE (Or.inr rfl) (Nat.le_of_ble_eq_true rfl) (Nat.le_of_ble_eq_true rfl) dX7_isPlant_28 ⟨_, rfl, h⟩
set_option maxHeartbeats 4000000 in
theorem B_X7_card_52 {E : mE} {M : MM} {as0 : Nat} {xs1 : Int32} {xs2 : Int32} {Post : Int32 → MM → Prop} (C : mC E yX7_card cX7_card 3 ((some .boolean)) { frames := 2, cells := 0, slots := 0, locals := 42 }) (hE : mEnd E { frames := 2, cells := 0, slots := 0, locals := 42 } (pI_ Post)) (k_as0 : mkd M as0 = 100) (h : wb_X7_card_52 M as0 xs1 xs2 Post) : mV E M 0 0 52 [] [.int xs2, .int xs1, .ref as0] := by
  unfold wb_X7_card_52 at h
  obtain ⟨c_15, h⟩ := h
  obtain ⟨M_16, e_17, h⟩ := bn_ h
  refine r_iast C (j := (ix_ xs1)) k_as0 c_15 rfl dX7_card_52 (pc' := 53) rfl M_16 e_17 ?_
  refine r_iconst C dX7_card_53 (pc' := 54) rfl (v := 1) rfl ?_
  exact r_zret C hE (Or.inr rfl) (Nat.le_of_ble_eq_true rfl) (Nat.le_of_ble_eq_true rfl) dX7_card_54 ⟨_, rfl, h⟩
set_option maxHeartbeats 4000000 in
theorem B_X7_card_27 {E : mE} {M : MM} {a0 : Nat} {x1 : Int32} {x2 : Int32} {xs0 : Int32} {Post : Int32 → MM → Prop} (C : mC E yX7_card cX7_card 3 ((some .boolean)) { frames := 2, cells := 0, slots := 0, locals := 42 }) (hE : mEnd E { frames := 2, cells := 0, slots := 0, locals := 42 } (pI_ Post)) (k_a0 : mkd M a0 = 7) (h : wb_X7_card_27 M a0 x1 x2 xs0 Post) : mV E M 0 0 27 [(0, .ref a0), (1, .int x1), (2, .int x2)] [.int xs0] := by
  unfold wb_X7_card_27 at h
  refine r_iload_n C dX7_card_27 (pc' := 28) rfl (j := 2) rfl ?_
  refine r_icmp_eq C dX7_card_28 (pc' := 31) rfl (tgt := 33) (by decide) (fun c_10 => ?_) (fun c_10 => ?_)
  · have h := it_t h c_10
    refine r_aload_n C dX7_card_33 (pc' := 34) rfl (j := 0) rfl ?_
    refine r_getf C (Cn := RX7) (T := TX7) 0 k_a0 (by decide) vc_X7 in_X7 (by decide) q1224 dX7_card_34 (pc' := 37) rfl (v := va_rf (mgR M a0 0)) rfl ?_
    obtain ⟨b_11, e_12, k_13, h⟩ := h
    refine r_ref [] e_12 ?_
    refine r_bipush C dX7_card_37 (pc' := 39) rfl (v := 20) rfl ?_
    refine r_iload_n C dX7_card_39 (pc' := 40) rfl (j := 1) rfl ?_
    refine r_iadd C dX7_card_40 (pc' := 41) rfl ?_
    refine r_iload_n C dX7_card_41 (pc' := 42) rfl (j := 2) rfl ?_
    refine r_if_eq C dX7_card_42 (pc' := 45) rfl (tgt := 50) (by decide) (fun c_14 => ?_) (fun c_14 => ?_)
    · have h := it_t h c_14
      refine r_bipush C dX7_card_50 (pc' := 52) rfl (v := -2) rfl ?_
      refine r_sub (lv' := []) [] rfl ?_
      exact B_X7_card_52 C hE k_13 h
    · have h := it_f h c_14
      refine r_bipush C dX7_card_45 (pc' := 47) rfl (v := -3) rfl ?_
      refine r_goto C dX7_card_47 (tgt := 52) (by decide) ?_
      refine r_sub (lv' := []) [] rfl ?_
      exact B_X7_card_52 C hE k_13 h
  · have h := it_f h c_10
    refine r_iconst C dX7_card_31 (pc' := 32) rfl (v := 0) rfl ?_
    exact r_zret C hE (Or.inl rfl) (Nat.le_of_ble_eq_true rfl) (Nat.le_of_ble_eq_true rfl) dX7_card_32 ⟨_, rfl, h⟩
set_option maxHeartbeats 4000000 in
theorem S_X7_card {D : DD} {l : Launch} {M : MM} {a0 : Nat} {x1 : Int32} {x2 : Int32} {Post : Int32 → MM → Prop} (k_a0 : mkd M a0 = 7) (h : wp_X7_card M a0 x1 x2 Post) : mMet D l yX7_card cX7_card 3 ((some .boolean)) { frames := 2, cells := 0, slots := 0, locals := 42 } M [.ref a0, .int x1, .int x2] (pI_ Post) := by
  refine m_of2 [(0, .ref a0), (1, .int x1), (2, .int x2)] (by decide +kernel) (Nat.le_of_ble_eq_true rfl) rfl (fun E hED hEl C hE => ?_)
  subst hED
  subst hEl
  unfold wp_X7_card at h
  refine r_aload_n C dX7_card_0 (pc' := 1) rfl (j := 0) rfl ?_
  refine r_iload_n C dX7_card_1 (pc' := 2) rfl (j := 1) rfl ?_
  refine r_callVi (As := [.int x1]) (rest := []) (Cn := RX7) (T := TX7) C k_a0 (by decide) vc_X7 (S_X7_isPlant k_a0 h) (lw_V q1402 q1404 qs51 q112 q1405) rfl hd_X7_isPlant rfl rfl (Nat.le_of_ble_eq_true rfl) (Nat.le_of_ble_eq_true rfl) (Nat.le_of_ble_eq_true rfl) rfl rfl (Nat.le_of_ble_eq_true rfl) (Nat.le_of_ble_eq_true rfl) dX7_card_2 (pc' := 5) rfl (fun r_2 M_1 h m_3 => ?_)
  refine r_if_eq C dX7_card_5 (pc' := 8) rfl (tgt := 31) (by decide) (fun c_4 => ?_) (fun c_4 => ?_)
  · have h := it_t h c_4
    refine r_iconst C dX7_card_31 (pc' := 32) rfl (v := 0) rfl ?_
    exact r_zret C hE (Or.inl rfl) (Nat.le_of_ble_eq_true rfl) (Nat.le_of_ble_eq_true rfl) dX7_card_32 ⟨_, rfl, h⟩
  · have h := it_f h c_4
    refine r_aload_n C dX7_card_8 (pc' := 9) rfl (j := 0) rfl ?_
    refine r_getf C (Cn := RX7) (T := TX7) 0 (mMo.kd m_3 k_a0 (by decide)) (by decide) vc_X7 in_X7 (by decide) q1224 dX7_card_9 (pc' := 12) rfl (v := va_rf (mgR M_1 a0 0)) rfl ?_
    obtain ⟨b_5, e_6, k_7, h⟩ := h
    refine r_ref [] e_6 ?_
    refine r_bipush C dX7_card_12 (pc' := 14) rfl (v := 20) rfl ?_
    refine r_iload_n C dX7_card_14 (pc' := 15) rfl (j := 1) rfl ?_
    refine r_iadd C dX7_card_15 (pc' := 16) rfl ?_
    obtain ⟨c_8, h⟩ := h
    refine r_iald C (j := (ix_ ((20 : Int32) + x1))) k_7 c_8 rfl dX7_card_16 (pc' := 17) rfl ?_
    refine r_bipush C dX7_card_17 (pc' := 19) rfl (v := -2) rfl ?_
    refine r_icmp_ne C dX7_card_19 (pc' := 22) rfl (tgt := 26) (by decide) (fun c_9 => ?_) (fun c_9 => ?_)
    · have h := it_f h c_9
      refine r_iconst C dX7_card_26 (pc' := 27) rfl (v := 0) rfl ?_
      refine r_sub (lv' := [(0, .ref a0), (1, .int x1), (2, .int x2)]) [0, 1, 2] rfl ?_
      exact B_X7_card_27 C hE (mMo.kd m_3 k_a0 (by decide)) h
    · have h := it_t h c_9
      refine r_iconst C dX7_card_22 (pc' := 23) rfl (v := 1) rfl ?_
      refine r_goto C dX7_card_23 (tgt := 27) (by decide) ?_
      refine r_sub (lv' := [(0, .ref a0), (1, .int x1), (2, .int x2)]) [0, 1, 2] rfl ?_
      exact B_X7_card_27 C hE (mMo.kd m_3 k_a0 (by decide)) h
set_option maxHeartbeats 4000000 in
theorem S_X7_lives {D : DD} {l : Launch} {M : MM} {a0 : Nat} {x1 : Int32} {Post : Int32 → MM → Prop} (k_a0 : mkd M a0 = 7) (h : wp_X7_lives M a0 x1 Post) : mMet D l yX7_lives cX7_lives 2 ((some .boolean)) { frames := 2, cells := 0, slots := 0, locals := 42 } M [.ref a0, .int x1] (pI_ Post) := by
  refine m_of2 [(0, .ref a0), (1, .int x1)] (by decide +kernel) (Nat.le_of_ble_eq_true rfl) rfl (fun E hED hEl C hE => ?_)
  subst hED
  subst hEl
  unfold wp_X7_lives at h
  refine r_aload_n C dX7_lives_0 (pc' := 1) rfl (j := 0) rfl ?_
  refine r_iload_n C dX7_lives_1 (pc' := 2) rfl (j := 1) rfl ?_
  refine r_callVi (As := [.int x1]) (rest := []) (Cn := RX7) (T := TX7) C k_a0 (by decide) vc_X7 (S_X7_isPlant k_a0 h) (lw_V q1402 q1404 qs51 q112 q1405) rfl hd_X7_isPlant rfl rfl (Nat.le_of_ble_eq_true rfl) (Nat.le_of_ble_eq_true rfl) (Nat.le_of_ble_eq_true rfl) rfl rfl (Nat.le_of_ble_eq_true rfl) (Nat.le_of_ble_eq_true rfl) dX7_lives_2 (pc' := 5) rfl (fun r_2 M_1 h m_3 => ?_)
  refine r_if_eq C dX7_lives_5 (pc' := 8) rfl (tgt := 26) (by decide) (fun c_4 => ?_) (fun c_4 => ?_)
  · have h := it_t h c_4
    refine r_iconst C dX7_lives_26 (pc' := 27) rfl (v := 0) rfl ?_
    exact r_zret C hE (Or.inl rfl) (Nat.le_of_ble_eq_true rfl) (Nat.le_of_ble_eq_true rfl) dX7_lives_27 ⟨_, rfl, h⟩
  · have h := it_f h c_4
    refine r_aload_n C dX7_lives_8 (pc' := 9) rfl (j := 0) rfl ?_
    refine r_getf C (Cn := RX7) (T := TX7) 0 (mMo.kd m_3 k_a0 (by decide)) (by decide) vc_X7 in_X7 (by decide) q1224 dX7_lives_9 (pc' := 12) rfl (v := va_rf (mgR M_1 a0 0)) rfl ?_
    obtain ⟨b_5, e_6, k_7, h⟩ := h
    refine r_ref [] e_6 ?_
    refine r_bipush C dX7_lives_12 (pc' := 14) rfl (v := 77) rfl ?_
    obtain ⟨c_8, h⟩ := h
    refine r_iald C (j := 77) k_7 (vp_l (by decide) (by decide) c_8) (by decide) dX7_lives_14 (pc' := 15) rfl ?_
    refine r_iload_n C dX7_lives_15 (pc' := 16) rfl (j := 1) rfl ?_
    refine r_callSi (As := [.int (mgI M_1 b_5 77), .int x1]) (rest := []) C (S_X7_has h) (lw_S q1406 q1407 q112 q1408) hd_X7_has rfl rfl (Nat.le_of_ble_eq_true rfl) (Nat.le_of_ble_eq_true rfl) (Nat.le_of_ble_eq_true rfl) rfl rfl (Nat.le_of_ble_eq_true rfl) (Nat.le_of_ble_eq_true rfl) dX7_lives_16 (pc' := 19) rfl (fun r_10 M_9 h m_11 => ?_)
    refine r_if_ne C dX7_lives_19 (pc' := 22) rfl (tgt := 26) (by decide) (fun c_12 => ?_) (fun c_12 => ?_)
    · have h := it_f h c_12
      refine r_iconst C dX7_lives_26 (pc' := 27) rfl (v := 0) rfl ?_
      exact r_zret C hE (Or.inl rfl) (Nat.le_of_ble_eq_true rfl) (Nat.le_of_ble_eq_true rfl) dX7_lives_27 ⟨_, rfl, h⟩
    · have h := it_t h c_12
      refine r_iconst C dX7_lives_22 (pc' := 23) rfl (v := 1) rfl ?_
      refine r_goto C dX7_lives_23 (tgt := 27) (by decide) ?_
      exact r_zret C hE (Or.inr rfl) (Nat.le_of_ble_eq_true rfl) (Nat.le_of_ble_eq_true rfl) dX7_lives_27 ⟨_, rfl, h⟩
set_option maxHeartbeats 4000000 in
theorem S_X7_min {D : DD} {l : Launch} {M : MM} {x0 : Int32} {x1 : Int32} {Post : Int32 → MM → Prop} (h : wp_X7_min M x0 x1 Post) : mMet D l yX7_min cX7_min 2 ((some .int)) { frames := 0, cells := 0, slots := 0, locals := 0 } M [.int x0, .int x1] (pI_ Post) := by
  refine m_of2 [(0, .int x0), (1, .int x1)] (by decide +kernel) (Nat.le_of_ble_eq_true rfl) rfl (fun E hED hEl C hE => ?_)
  subst hED
  subst hEl
  unfold wp_X7_min at h
  refine r_iload_n C dX7_min_0 (pc' := 1) rfl (j := 0) rfl ?_
  refine r_iload_n C dX7_min_1 (pc' := 2) rfl (j := 1) rfl ?_
  refine r_icmp_ge C dX7_min_2 (pc' := 5) rfl (tgt := 9) (by decide) (fun c_1 => ?_) (fun c_1 => ?_)
  · have h := it_t h c_1
    refine r_iload_n C dX7_min_9 (pc' := 10) rfl (j := 1) rfl ?_
    exact r_iret C hE (Nat.le_of_ble_eq_true rfl) (Nat.le_of_ble_eq_true rfl) dX7_min_10 ⟨_, rfl, h⟩
  · have h := it_f h c_1
    refine r_iload_n C dX7_min_5 (pc' := 6) rfl (j := 0) rfl ?_
    refine r_goto C dX7_min_6 (tgt := 10) (by decide) ?_
    exact r_iret C hE (Nat.le_of_ble_eq_true rfl) (Nat.le_of_ble_eq_true rfl) dX7_min_10 ⟨_, rfl, h⟩
set_option maxHeartbeats 4000000 in
theorem S_X7_pour {D : DD} {l : Launch} {M : MM} {a0 : Nat} {x1 : Int32} {x2 : Int32} {Post : Int32 → MM → Prop} (k_a0 : mkd M a0 = 7) (h : wp_X7_pour M a0 x1 x2 Post) : mMet D l yX7_pour cX7_pour 3 ((some .int)) { frames := 3, cells := 0, slots := 0, locals := 63 } M [.ref a0, .int x1, .int x2] (pI_ Post) := by
  refine m_of2 [(0, .ref a0), (1, .int x1), (2, .int x2)] (by decide +kernel) (Nat.le_of_ble_eq_true rfl) rfl (fun E hED hEl C hE => ?_)
  subst hED
  subst hEl
  unfold wp_X7_pour at h
  refine r_aload_n C dX7_pour_0 (pc' := 1) rfl (j := 0) rfl ?_
  refine r_iload_n C dX7_pour_1 (pc' := 2) rfl (j := 1) rfl ?_
  refine r_callVi (As := [.int x1]) (rest := []) (Cn := RX7) (T := TX7) C k_a0 (by decide) vc_X7 (S_X7_lives k_a0 h) (lw_V q1413 q1415 qs52 q112 q1416) rfl hd_X7_lives rfl rfl (Nat.le_of_ble_eq_true rfl) (Nat.le_of_ble_eq_true rfl) (Nat.le_of_ble_eq_true rfl) rfl rfl (Nat.le_of_ble_eq_true rfl) (Nat.le_of_ble_eq_true rfl) dX7_pour_2 (pc' := 5) rfl (fun r_2 M_1 h m_3 => ?_)
  refine r_if_eq C dX7_pour_5 (pc' := 8) rfl (tgt := 18) (by decide) (fun c_4 => ?_) (fun c_4 => ?_)
  · have h := it_t h c_4
    refine r_iconst C dX7_pour_18 (pc' := 19) rfl (v := -1) rfl ?_
    exact r_iret C hE (Nat.le_of_ble_eq_true rfl) (Nat.le_of_ble_eq_true rfl) dX7_pour_19 ⟨_, rfl, h⟩
  · have h := it_f h c_4
    refine r_iload_n C dX7_pour_8 (pc' := 9) rfl (j := 2) rfl ?_
    refine r_iconst C dX7_pour_9 (pc' := 10) rfl (v := 0) rfl ?_
    refine r_bipush C dX7_pour_10 (pc' := 12) rfl (v := 24) rfl ?_
    refine r_callSi (As := [.int x2, .int (0 : Int32), .int (24 : Int32)]) (rest := []) C (S_X7_in h) (lw_S q1391 q1392 q112 q1393) hd_X7_in rfl rfl (Nat.le_of_ble_eq_true rfl) (Nat.le_of_ble_eq_true rfl) (Nat.le_of_ble_eq_true rfl) rfl rfl (Nat.le_of_ble_eq_true rfl) (Nat.le_of_ble_eq_true rfl) dX7_pour_12 (pc' := 15) rfl (fun r_6 M_5 h m_7 => ?_)
    refine r_if_ne C dX7_pour_15 (pc' := 18) rfl (tgt := 20) (by decide) (fun c_8 => ?_) (fun c_8 => ?_)
    · have h := it_f h c_8
      refine r_aload_n C dX7_pour_20 (pc' := 21) rfl (j := 0) rfl ?_
      refine r_getf C (Cn := RX7) (T := TX7) 0 (mMo.kd m_7 (mMo.kd m_3 k_a0 (by decide)) (by decide)) (by decide) vc_X7 in_X7 (by decide) q1224 dX7_pour_21 (pc' := 24) rfl (v := va_rf (mgR M_5 a0 0)) rfl ?_
      obtain ⟨b_9, e_10, k_11, h⟩ := h
      refine r_ref [] e_10 ?_
      refine r_iconst C dX7_pour_24 (pc' := 25) rfl (v := 4) rfl ?_
      refine r_iload_n C dX7_pour_25 (pc' := 26) rfl (j := 1) rfl ?_
      refine r_iadd C dX7_pour_26 (pc' := 27) rfl ?_
      refine r_aload_n C dX7_pour_27 (pc' := 28) rfl (j := 0) rfl ?_
      refine r_getf C (Cn := RX7) (T := TX7) 0 (mMo.kd m_7 (mMo.kd m_3 k_a0 (by decide)) (by decide)) (by decide) vc_X7 in_X7 (by decide) q1224 dX7_pour_28 (pc' := 31) rfl (v := va_rf (mgR M_5 a0 0)) rfl ?_
      obtain ⟨b_12, e_13, k_14, h⟩ := h
      refine r_ref [] e_13 ?_
      refine r_iconst C dX7_pour_31 (pc' := 32) rfl (v := 0) rfl ?_
      refine r_iload_n C dX7_pour_32 (pc' := 33) rfl (j := 1) rfl ?_
      refine r_iadd C dX7_pour_33 (pc' := 34) rfl ?_
      obtain ⟨c_15, h⟩ := h
      refine r_iald C (j := (ix_ ((0 : Int32) + x1))) k_14 c_15 rfl dX7_pour_34 (pc' := 35) rfl ?_
      refine r_aload_n C dX7_pour_35 (pc' := 36) rfl (j := 0) rfl ?_
      refine r_getf C (Cn := RX7) (T := TX7) 0 (mMo.kd m_7 (mMo.kd m_3 k_a0 (by decide)) (by decide)) (by decide) vc_X7 in_X7 (by decide) q1224 dX7_pour_36 (pc' := 39) rfl (v := va_rf (mgR M_5 a0 0)) rfl ?_
      obtain ⟨b_16, e_17, k_18, h⟩ := h
      refine r_ref [] e_17 ?_
      refine r_iconst C dX7_pour_39 (pc' := 40) rfl (v := 4) rfl ?_
      refine r_iload_n C dX7_pour_40 (pc' := 41) rfl (j := 1) rfl ?_
      refine r_iadd C dX7_pour_41 (pc' := 42) rfl ?_
      obtain ⟨c_19, h⟩ := h
      refine r_iald C (j := (ix_ ((4 : Int32) + x1))) k_18 c_19 rfl dX7_pour_42 (pc' := 43) rfl ?_
      refine r_iload_n C dX7_pour_43 (pc' := 44) rfl (j := 2) rfl ?_
      refine r_iadd C dX7_pour_44 (pc' := 45) rfl ?_
      refine r_callSi (As := [.int (mgI M_5 b_12 (ix_ ((0 : Int32) + x1))), .int ((mgI M_5 b_16 (ix_ ((4 : Int32) + x1))) + x2)]) (rest := [.int ((4 : Int32) + x1), .ref b_9]) C (S_X7_min h) (lw_S q1417 q1418 q112 q1419) hd_X7_min rfl rfl (Nat.le_of_ble_eq_true rfl) (Nat.le_of_ble_eq_true rfl) (Nat.le_of_ble_eq_true rfl) rfl rfl (Nat.le_of_ble_eq_true rfl) (Nat.le_of_ble_eq_true rfl) dX7_pour_45 (pc' := 48) rfl (fun r_21 M_20 h m_22 => ?_)
      obtain ⟨c_23, h⟩ := h
      obtain ⟨M_24, e_25, h⟩ := bn_ h
      refine r_iast C (j := (ix_ ((4 : Int32) + x1))) (mMo.kd m_22 k_11 (by decide)) c_23 rfl dX7_pour_48 (pc' := 49) rfl M_24 e_25 ?_
      refine r_aload_n C dX7_pour_49 (pc' := 50) rfl (j := 0) rfl ?_
      refine r_getf C (Cn := RX7) (T := TX7) 0 (mMo.kd (mo_I e_25) (mMo.kd m_22 (mMo.kd m_7 (mMo.kd m_3 k_a0 (by decide)) (by decide)) (by decide)) (by decide)) (by decide) vc_X7 in_X7 (by decide) q1224 dX7_pour_50 (pc' := 53) rfl (v := va_rf (mgR M_24 a0 0)) rfl ?_
      obtain ⟨b_26, e_27, k_28, h⟩ := h
      refine r_ref [] e_27 ?_
      refine r_iconst C dX7_pour_53 (pc' := 54) rfl (v := 4) rfl ?_
      refine r_iload_n C dX7_pour_54 (pc' := 55) rfl (j := 1) rfl ?_
      refine r_iadd C dX7_pour_55 (pc' := 56) rfl ?_
      obtain ⟨c_29, h⟩ := h
      refine r_iald C (j := (ix_ ((4 : Int32) + x1))) k_28 c_29 rfl dX7_pour_56 (pc' := 57) rfl ?_
      exact r_iret C hE (Nat.le_of_ble_eq_true rfl) (Nat.le_of_ble_eq_true rfl) dX7_pour_57 ⟨_, rfl, h⟩
    · have h := it_t h c_8
      refine r_iconst C dX7_pour_18 (pc' := 19) rfl (v := -1) rfl ?_
      exact r_iret C hE (Nat.le_of_ble_eq_true rfl) (Nat.le_of_ble_eq_true rfl) dX7_pour_19 ⟨_, rfl, h⟩
set_option maxHeartbeats 4000000 in
theorem B_X7_types_2 {E : mE} {a0 : Nat} {x1 : Int32} {X38 : MM → Prop} {Post : MM → Prop} (C : mC E yX7_types cX7_types 3 (none) { frames := 0, cells := 0, slots := 0, locals := 0 }) (hE : mEnd E { frames := 0, cells := 0, slots := 0, locals := 0 } (pV_ Post)) : ∀ (n_ : Nat) (M : MM) (x2 : Int32), mkd M a0 = 7 → wl_X7_types_2 a0 x1 X38 n_ M x2 → (∀ (M' : MM), mMo M M' → X38 M' → mV E M' 0 0 38 [] []) → mV E M 0 0 2 [(0, .ref a0), (1, .int x1), (2, .int x2)] [] := by
  intro n_
  induction n_ with
  | zero =>
    intro M x2 k_a0 h hX38
    exact absurd h (by rw [wl_X7_types_2]; exact fun q => q)
  | succ n_ ih =>
    intro M x2 k_a0 h hX38
    rw [wl_X7_types_2] at h
    refine r_iload_n C dX7_types_2 (pc' := 3) rfl (j := 2) rfl ?_
    refine r_if_lt C dX7_types_3 (pc' := 6) rfl (tgt := 38) (by decide) (fun c_1 => ?_) (fun c_1 => ?_)
    · have h := it_t h c_1
      refine r_sub (lv' := []) [] rfl ?_
      exact hX38 M mMo.rf h
    · have h := it_f h c_1
      refine r_aload_n C dX7_types_6 (pc' := 7) rfl (j := 0) rfl ?_
      refine r_getf C (Cn := RX7) (T := TX7) 3 k_a0 (by decide) vc_X7 in_X7 (by decide) q1227 dX7_types_7 (pc' := 10) rfl (v := va_rf (mgR M a0 3)) rfl ?_
      obtain ⟨b_2, e_3, k_4, h⟩ := h
      refine r_ref [] e_3 ?_
      refine r_aload_n C dX7_types_10 (pc' := 11) rfl (j := 0) rfl ?_
      refine r_getf C (Cn := RX7) (T := TX7) 4 k_a0 (by decide) vc_X7 in_X7 (by decide) q1228 dX7_types_11 (pc' := 14) rfl (v := .int (mgI M a0 4)) rfl ?_
      refine r_iload_n C dX7_types_14 (pc' := 15) rfl (j := 1) rfl ?_
      refine r_bipush C dX7_types_15 (pc' := 17) rfl (v := 8) rfl ?_
      refine r_iload_n C dX7_types_17 (pc' := 18) rfl (j := 2) rfl ?_
      refine r_imul C dX7_types_18 (pc' := 19) rfl ?_
      refine r_ishr C dX7_types_19 (pc' := 20) rfl ?_
      refine r_i2b C dX7_types_20 (pc' := 21) rfl ?_
      obtain ⟨c_5, h⟩ := h
      obtain ⟨M_6, e_7, h⟩ := bn_ h
      refine r_bast C (j := (ix_ (mgI M a0 4))) k_4 c_5 rfl dX7_types_21 (pc' := 22) rfl M_6 e_7 ?_
      refine r_aload_n C dX7_types_22 (pc' := 23) rfl (j := 0) rfl ?_
      refine r_aload_n C dX7_types_23 (pc' := 24) rfl (j := 0) rfl ?_
      refine r_getf C (Cn := RX7) (T := TX7) 4 (mMo.kd (mo_I e_7) k_a0 (by decide)) (by decide) vc_X7 in_X7 (by decide) q1228 dX7_types_24 (pc' := 27) rfl (v := .int (mgI M_6 a0 4)) rfl ?_
      refine r_iconst C dX7_types_27 (pc' := 28) rfl (v := 1) rfl ?_
      refine r_iadd C dX7_types_28 (pc' := 29) rfl ?_
      obtain ⟨M_8, e_9, h⟩ := bn_ h
      refine r_putI C (Cn := RX7) (T := TX7) tyX7 4 (mMo.kd (mo_I e_7) k_a0 (by decide)) (by decide) vc_X7 in_X7 tyX7_ok nmX7 (by decide) q1228 rfl rfl dX7_types_29 (pc' := 32) rfl rfl rfl M_8 e_9 ?_
      obtain ⟨x2_10, e_11, h⟩ := bn_ h
      refine r_iinc C (lv' := [(2, .int x2_10), (0, .ref a0), (1, .int x1)]) dX7_types_32 (pc' := 35) rfl (j := 2) rfl x2_10 (by rw [e_11]; rfl) (Nat.le_of_ble_eq_true rfl) rfl ?_
      refine r_goto C dX7_types_35 (tgt := 2) (by decide) ?_
      refine r_sub (lv' := [(0, .ref a0), (1, .int x1), (2, .int x2_10)]) [1, 2, 0] rfl ?_
      exact ih M_8 x2_10 (mMo.kd (mo_I e_9) (mMo.kd (mo_I e_7) k_a0 (by decide)) (by decide)) h (fun M9 hm9 h9 => hX38 M9 (mMo.tr (mMo.tr (mo_I e_7) (mo_I e_9)) hm9) h9)
set_option maxHeartbeats 4000000 in
theorem S_X7_types {D : DD} {l : Launch} {M : MM} {a0 : Nat} {x1 : Int32} {Post : MM → Prop} (k_a0 : mkd M a0 = 7) (h : wp_X7_types M a0 x1 Post) : mMet D l yX7_types cX7_types 3 (none) { frames := 0, cells := 0, slots := 0, locals := 0 } M [.ref a0, .int x1] (pV_ Post) := by
  refine m_of2 [(0, .ref a0), (1, .int x1)] (by decide +kernel) (Nat.le_of_ble_eq_true rfl) rfl (fun E hED hEl C hE => ?_)
  subst hED
  subst hEl
  unfold wp_X7_types at h
  refine r_iconst C dX7_types_0 (pc' := 1) rfl (v := 3) rfl ?_
  refine r_istore_n C (lv' := [(2, .int (3 : Int32)), (0, .ref a0), (1, .int x1)]) dX7_types_1 (pc' := 2) rfl rfl (3 : Int32) rfl (Nat.le_of_ble_eq_true rfl) rfl ?_
  obtain ⟨n_12, h⟩ := h
  refine r_sub (lv' := [(0, .ref a0), (1, .int x1), (2, .int (3 : Int32))]) [1, 2, 0] rfl ?_
  refine B_X7_types_2 C hE n_12 M (3 : Int32) k_a0 h (fun M_13 m_14 h => ?_)
  exact r_vret C hE (Nat.le_of_ble_eq_true rfl) (Nat.le_of_ble_eq_true rfl) dX7_types_38 ⟨rfl, h⟩
set_option maxHeartbeats 4000000 in
theorem S_X7_feed {D : DD} {l : Launch} {M : MM} {a0 : Nat} {x1 : Int32} {x2 : Int32} {x3 : Int32} {x4 : Int32} {x5 : Int32} {Post : Int32 → MM → Prop} (k_a0 : mkd M a0 = 7) (h : wp_X7_feed M a0 x1 x2 x3 x4 x5 Post) : mMet D l yX7_feed cX7_feed 6 ((some .int)) { frames := 1, cells := 0, slots := 0, locals := 22 } M [.ref a0, .int x1, .int x2, .int x3, .int x4, .int x5] (pI_ Post) := by
  refine m_of2 [(0, .ref a0), (1, .int x1), (2, .int x2), (3, .int x3), (4, .int x4), (5, .int x5)] (by decide +kernel) (Nat.le_of_ble_eq_true rfl) rfl (fun E hED hEl C hE => ?_)
  subst hED
  subst hEl
  unfold wp_X7_feed at h
  refine r_aload_n C dX7_feed_0 (pc' := 1) rfl (j := 0) rfl ?_
  refine r_getf C (Cn := RX7) (T := TX7) 4 k_a0 (by decide) vc_X7 in_X7 (by decide) q1228 dX7_feed_1 (pc' := 4) rfl (v := .int (mgI M a0 4)) rfl ?_
  refine r_bipush C dX7_feed_4 (pc' := 6) rfl (v := 20) rfl ?_
  refine r_iadd C dX7_feed_6 (pc' := 7) rfl ?_
  refine r_sipush C dX7_feed_7 (pc' := 10) rfl (v := 220) rfl ?_
  refine r_icmp_le C dX7_feed_10 (pc' := 13) rfl (tgt := 15) (by decide) (fun c_1 => ?_) (fun c_1 => ?_)
  · have h := it_t h c_1
    refine r_aload_n C dX7_feed_15 (pc' := 16) rfl (j := 0) rfl ?_
    refine r_iload_n C dX7_feed_16 (pc' := 17) rfl (j := 1) rfl ?_
    refine r_callVv (As := [.int x1]) (rest := []) (Cn := RX7) (T := TX7) C k_a0 (by decide) vc_X7 (S_X7_types k_a0 h) (lw_V q1424 q1426 qs53 q112 q1427) rfl hd_X7_types rfl rfl (Nat.le_of_ble_eq_true rfl) (Nat.le_of_ble_eq_true rfl) (Nat.le_of_ble_eq_true rfl) rfl rfl (Nat.le_of_ble_eq_true rfl) (Nat.le_of_ble_eq_true rfl) dX7_feed_17 (pc' := 20) rfl (fun M_2 h m_4 => ?_)
    refine r_aload_n C dX7_feed_20 (pc' := 21) rfl (j := 0) rfl ?_
    refine r_iload_n C dX7_feed_21 (pc' := 22) rfl (j := 2) rfl ?_
    refine r_callVv (As := [.int x2]) (rest := []) (Cn := RX7) (T := TX7) C (mMo.kd m_4 k_a0 (by decide)) (by decide) vc_X7 (S_X7_types (mMo.kd m_4 k_a0 (by decide)) h) (lw_V q1424 q1426 qs53 q112 q1427) rfl hd_X7_types rfl rfl (Nat.le_of_ble_eq_true rfl) (Nat.le_of_ble_eq_true rfl) (Nat.le_of_ble_eq_true rfl) rfl rfl (Nat.le_of_ble_eq_true rfl) (Nat.le_of_ble_eq_true rfl) dX7_feed_22 (pc' := 25) rfl (fun M_5 h m_7 => ?_)
    refine r_aload_n C dX7_feed_25 (pc' := 26) rfl (j := 0) rfl ?_
    refine r_iload_n C dX7_feed_26 (pc' := 27) rfl (j := 3) rfl ?_
    refine r_callVv (As := [.int x3]) (rest := []) (Cn := RX7) (T := TX7) C (mMo.kd m_7 (mMo.kd m_4 k_a0 (by decide)) (by decide)) (by decide) vc_X7 (S_X7_types (mMo.kd m_7 (mMo.kd m_4 k_a0 (by decide)) (by decide)) h) (lw_V q1424 q1426 qs53 q112 q1427) rfl hd_X7_types rfl rfl (Nat.le_of_ble_eq_true rfl) (Nat.le_of_ble_eq_true rfl) (Nat.le_of_ble_eq_true rfl) rfl rfl (Nat.le_of_ble_eq_true rfl) (Nat.le_of_ble_eq_true rfl) dX7_feed_27 (pc' := 30) rfl (fun M_8 h m_10 => ?_)
    refine r_aload_n C dX7_feed_30 (pc' := 31) rfl (j := 0) rfl ?_
    refine r_iload C dX7_feed_31 (pc' := 33) rfl (j := 4) rfl ?_
    refine r_callVv (As := [.int x4]) (rest := []) (Cn := RX7) (T := TX7) C (mMo.kd m_10 (mMo.kd m_7 (mMo.kd m_4 k_a0 (by decide)) (by decide)) (by decide)) (by decide) vc_X7 (S_X7_types (mMo.kd m_10 (mMo.kd m_7 (mMo.kd m_4 k_a0 (by decide)) (by decide)) (by decide)) h) (lw_V q1424 q1426 qs53 q112 q1427) rfl hd_X7_types rfl rfl (Nat.le_of_ble_eq_true rfl) (Nat.le_of_ble_eq_true rfl) (Nat.le_of_ble_eq_true rfl) rfl rfl (Nat.le_of_ble_eq_true rfl) (Nat.le_of_ble_eq_true rfl) dX7_feed_33 (pc' := 36) rfl (fun M_11 h m_13 => ?_)
    refine r_aload_n C dX7_feed_36 (pc' := 37) rfl (j := 0) rfl ?_
    refine r_iload C dX7_feed_37 (pc' := 39) rfl (j := 5) rfl ?_
    refine r_callVv (As := [.int x5]) (rest := []) (Cn := RX7) (T := TX7) C (mMo.kd m_13 (mMo.kd m_10 (mMo.kd m_7 (mMo.kd m_4 k_a0 (by decide)) (by decide)) (by decide)) (by decide)) (by decide) vc_X7 (S_X7_types (mMo.kd m_13 (mMo.kd m_10 (mMo.kd m_7 (mMo.kd m_4 k_a0 (by decide)) (by decide)) (by decide)) (by decide)) h) (lw_V q1424 q1426 qs53 q112 q1427) rfl hd_X7_types rfl rfl (Nat.le_of_ble_eq_true rfl) (Nat.le_of_ble_eq_true rfl) (Nat.le_of_ble_eq_true rfl) rfl rfl (Nat.le_of_ble_eq_true rfl) (Nat.le_of_ble_eq_true rfl) dX7_feed_39 (pc' := 42) rfl (fun M_14 h m_16 => ?_)
    refine r_aload_n C dX7_feed_42 (pc' := 43) rfl (j := 0) rfl ?_
    refine r_getf C (Cn := RX7) (T := TX7) 4 (mMo.kd m_16 (mMo.kd m_13 (mMo.kd m_10 (mMo.kd m_7 (mMo.kd m_4 k_a0 (by decide)) (by decide)) (by decide)) (by decide)) (by decide)) (by decide) vc_X7 in_X7 (by decide) q1228 dX7_feed_43 (pc' := 46) rfl (v := .int (mgI M_14 a0 4)) rfl ?_
    exact r_iret C hE (Nat.le_of_ble_eq_true rfl) (Nat.le_of_ble_eq_true rfl) dX7_feed_46 ⟨_, rfl, h⟩
  · have h := it_f h c_1
    refine r_iconst C dX7_feed_13 (pc' := 14) rfl (v := -1) rfl ?_
    exact r_iret C hE (Nat.le_of_ble_eq_true rfl) (Nat.le_of_ble_eq_true rfl) dX7_feed_14 ⟨_, rfl, h⟩
set_option maxHeartbeats 4000000 in
theorem S_X7_here {D : DD} {l : Launch} {M : MM} {a0 : Nat} {Post : Int32 → MM → Prop} (k_a0 : mkd M a0 = 7) (h : wp_X7_here M a0 Post) : mMet D l yX7_here cX7_here 1 ((some .int)) { frames := 0, cells := 0, slots := 0, locals := 0 } M [.ref a0] (pI_ Post) := by
  refine m_of2 [(0, .ref a0)] (by decide +kernel) (Nat.le_of_ble_eq_true rfl) rfl (fun E hED hEl C hE => ?_)
  subst hED
  subst hEl
  unfold wp_X7_here at h
  refine r_aload_n C dX7_here_0 (pc' := 1) rfl (j := 0) rfl ?_
  refine r_getf C (Cn := RX7) (T := TX7) 5 k_a0 (by decide) vc_X7 in_X7 (by decide) q1229 dX7_here_1 (pc' := 4) rfl (v := .int (mgI M a0 5)) rfl ?_
  refine r_aload_n C dX7_here_4 (pc' := 5) rfl (j := 0) rfl ?_
  refine r_getf C (Cn := RX7) (T := TX7) 6 k_a0 (by decide) vc_X7 in_X7 (by decide) q1230 dX7_here_5 (pc' := 8) rfl (v := .int (mgI M a0 6)) rfl ?_
  refine r_icmp_ge C dX7_here_8 (pc' := 11) rfl (tgt := 27) (by decide) (fun c_1 => ?_) (fun c_1 => ?_)
  · have h := it_t h c_1
    refine r_iconst C dX7_here_27 (pc' := 28) rfl (v := -1) rfl ?_
    exact r_iret C hE (Nat.le_of_ble_eq_true rfl) (Nat.le_of_ble_eq_true rfl) dX7_here_28 ⟨_, rfl, h⟩
  · have h := it_f h c_1
    refine r_aload_n C dX7_here_11 (pc' := 12) rfl (j := 0) rfl ?_
    refine r_getf C (Cn := RX7) (T := TX7) 3 k_a0 (by decide) vc_X7 in_X7 (by decide) q1227 dX7_here_12 (pc' := 15) rfl (v := va_rf (mgR M a0 3)) rfl ?_
    obtain ⟨b_2, e_3, k_4, h⟩ := h
    refine r_ref [] e_3 ?_
    refine r_aload_n C dX7_here_15 (pc' := 16) rfl (j := 0) rfl ?_
    refine r_getf C (Cn := RX7) (T := TX7) 5 k_a0 (by decide) vc_X7 in_X7 (by decide) q1229 dX7_here_16 (pc' := 19) rfl (v := .int (mgI M a0 5)) rfl ?_
    obtain ⟨c_5, h⟩ := h
    refine r_bald C (j := (ix_ (mgI M a0 5))) k_4 c_5 rfl dX7_here_19 (pc' := 20) rfl ?_
    refine r_sipush C dX7_here_20 (pc' := 23) rfl (v := 255) rfl ?_
    refine r_iand C dX7_here_23 (pc' := 24) rfl ?_
    refine r_goto C dX7_here_24 (tgt := 28) (by decide) ?_
    exact r_iret C hE (Nat.le_of_ble_eq_true rfl) (Nat.le_of_ble_eq_true rfl) dX7_here_28 ⟨_, rfl, h⟩
set_option maxHeartbeats 4000000 in
theorem S_X7_isClause {D : DD} {l : Launch} {M : MM} {x0 : Int32} {x1 : Int32} {Post : Int32 → MM → Prop} (h : wp_X7_isClause M x0 x1 Post) : mMet D l yX7_isClause cX7_isClause 2 ((some .boolean)) { frames := 0, cells := 0, slots := 0, locals := 0 } M [.int x0, .int x1] (pI_ Post) := by
  refine m_of2 [(0, .int x0), (1, .int x1)] (by decide +kernel) (Nat.le_of_ble_eq_true rfl) rfl (fun E hED hEl C hE => ?_)
  subst hED
  subst hEl
  unfold wp_X7_isClause at h
  refine r_iload_n C dX7_isClause_0 (pc' := 1) rfl (j := 1) rfl ?_
  refine r_if_le C dX7_isClause_1 (pc' := 4) rfl (tgt := 18) (by decide) (fun c_1 => ?_) (fun c_1 => ?_)
  · have h := it_t h c_1
    refine r_iload_n C dX7_isClause_18 (pc' := 19) rfl (j := 0) rfl ?_
    refine r_bipush C dX7_isClause_19 (pc' := 21) rfl (v := 101) rfl ?_
    refine r_icmp_eq C dX7_isClause_21 (pc' := 24) rfl (tgt := 42) (by decide) (fun c_2 => ?_) (fun c_2 => ?_)
    · have h := it_t h c_2
      refine r_iconst C dX7_isClause_42 (pc' := 43) rfl (v := 1) rfl ?_
      refine r_goto C dX7_isClause_43 (tgt := 47) (by decide) ?_
      exact r_zret C hE (Or.inr rfl) (Nat.le_of_ble_eq_true rfl) (Nat.le_of_ble_eq_true rfl) dX7_isClause_47 ⟨_, rfl, h⟩
    · have h := it_f h c_2
      refine r_iload_n C dX7_isClause_24 (pc' := 25) rfl (j := 0) rfl ?_
      refine r_bipush C dX7_isClause_25 (pc' := 27) rfl (v := 104) rfl ?_
      refine r_icmp_eq C dX7_isClause_27 (pc' := 30) rfl (tgt := 42) (by decide) (fun c_3 => ?_) (fun c_3 => ?_)
      · have h := it_t h c_3
        refine r_iconst C dX7_isClause_42 (pc' := 43) rfl (v := 1) rfl ?_
        refine r_goto C dX7_isClause_43 (tgt := 47) (by decide) ?_
        exact r_zret C hE (Or.inr rfl) (Nat.le_of_ble_eq_true rfl) (Nat.le_of_ble_eq_true rfl) dX7_isClause_47 ⟨_, rfl, h⟩
      · have h := it_f h c_3
        refine r_iload_n C dX7_isClause_30 (pc' := 31) rfl (j := 0) rfl ?_
        refine r_bipush C dX7_isClause_31 (pc' := 33) rfl (v := 99) rfl ?_
        refine r_icmp_eq C dX7_isClause_33 (pc' := 36) rfl (tgt := 42) (by decide) (fun c_4 => ?_) (fun c_4 => ?_)
        · have h := it_t h c_4
          refine r_iconst C dX7_isClause_42 (pc' := 43) rfl (v := 1) rfl ?_
          refine r_goto C dX7_isClause_43 (tgt := 47) (by decide) ?_
          exact r_zret C hE (Or.inr rfl) (Nat.le_of_ble_eq_true rfl) (Nat.le_of_ble_eq_true rfl) dX7_isClause_47 ⟨_, rfl, h⟩
        · have h := it_f h c_4
          refine r_iload_n C dX7_isClause_36 (pc' := 37) rfl (j := 0) rfl ?_
          refine r_bipush C dX7_isClause_37 (pc' := 39) rfl (v := 98) rfl ?_
          refine r_icmp_ne C dX7_isClause_39 (pc' := 42) rfl (tgt := 46) (by decide) (fun c_5 => ?_) (fun c_5 => ?_)
          · have h := it_f h c_5
            refine r_iconst C dX7_isClause_46 (pc' := 47) rfl (v := 0) rfl ?_
            exact r_zret C hE (Or.inl rfl) (Nat.le_of_ble_eq_true rfl) (Nat.le_of_ble_eq_true rfl) dX7_isClause_47 ⟨_, rfl, h⟩
          · have h := it_t h c_5
            refine r_iconst C dX7_isClause_42 (pc' := 43) rfl (v := 1) rfl ?_
            refine r_goto C dX7_isClause_43 (tgt := 47) (by decide) ?_
            exact r_zret C hE (Or.inr rfl) (Nat.le_of_ble_eq_true rfl) (Nat.le_of_ble_eq_true rfl) dX7_isClause_47 ⟨_, rfl, h⟩
  · have h := it_f h c_1
    refine r_iload_n C dX7_isClause_4 (pc' := 5) rfl (j := 0) rfl ?_
    refine r_bipush C dX7_isClause_5 (pc' := 7) rfl (v := 103) rfl ?_
    refine r_icmp_ne C dX7_isClause_7 (pc' := 10) rfl (tgt := 14) (by decide) (fun c_6 => ?_) (fun c_6 => ?_)
    · have h := it_f h c_6
      refine r_iconst C dX7_isClause_14 (pc' := 15) rfl (v := 0) rfl ?_
      refine r_goto C dX7_isClause_15 (tgt := 47) (by decide) ?_
      exact r_zret C hE (Or.inl rfl) (Nat.le_of_ble_eq_true rfl) (Nat.le_of_ble_eq_true rfl) dX7_isClause_47 ⟨_, rfl, h⟩
    · have h := it_t h c_6
      refine r_iconst C dX7_isClause_10 (pc' := 11) rfl (v := 1) rfl ?_
      refine r_goto C dX7_isClause_11 (tgt := 47) (by decide) ?_
      exact r_zret C hE (Or.inr rfl) (Nat.le_of_ble_eq_true rfl) (Nat.le_of_ble_eq_true rfl) dX7_isClause_47 ⟨_, rfl, h⟩
set_option maxHeartbeats 4000000 in
theorem S_X7_notes {D : DD} {l : Launch} {M : MM} {a0 : Nat} {x1 : Int32} {x2 : Int32} {Post : MM → Prop} (k_a0 : mkd M a0 = 7) (h : wp_X7_notes M a0 x1 x2 Post) : mMet D l yX7_notes cX7_notes 3 (none) { frames := 0, cells := 0, slots := 0, locals := 0 } M [.ref a0, .int x1, .int x2] (pV_ Post) := by
  refine m_of2 [(0, .ref a0), (1, .int x1), (2, .int x2)] (by decide +kernel) (Nat.le_of_ble_eq_true rfl) rfl (fun E hED hEl C hE => ?_)
  subst hED
  subst hEl
  unfold wp_X7_notes at h
  refine r_aload_n C dX7_notes_0 (pc' := 1) rfl (j := 0) rfl ?_
  refine r_getf C (Cn := RX7) (T := TX7) 13 k_a0 (by decide) vc_X7 in_X7 (by decide) q1237 dX7_notes_1 (pc' := 4) rfl (v := va_rf (mgR M a0 13)) rfl ?_
  obtain ⟨b_1, e_2, k_3, h⟩ := h
  refine r_ref [] e_2 ?_
  refine r_aload_n C dX7_notes_4 (pc' := 5) rfl (j := 0) rfl ?_
  refine r_getf C (Cn := RX7) (T := TX7) 10 k_a0 (by decide) vc_X7 in_X7 (by decide) q1234 dX7_notes_5 (pc' := 8) rfl (v := .int (mgI M a0 10)) rfl ?_
  refine r_ldc C dX7_notes_8 (pc' := 10) rfl q1463 ?_
  refine r_iload_n C dX7_notes_10 (pc' := 11) rfl (j := 1) rfl ?_
  refine r_imul C dX7_notes_11 (pc' := 12) rfl ?_
  refine r_iload_n C dX7_notes_12 (pc' := 13) rfl (j := 2) rfl ?_
  refine r_iadd C dX7_notes_13 (pc' := 14) rfl ?_
  obtain ⟨c_4, h⟩ := h
  obtain ⟨M_5, e_6, h⟩ := bn_ h
  refine r_iast C (j := (ix_ (mgI M a0 10))) k_3 c_4 rfl dX7_notes_14 (pc' := 15) rfl M_5 e_6 ?_
  refine r_aload_n C dX7_notes_15 (pc' := 16) rfl (j := 0) rfl ?_
  refine r_aload_n C dX7_notes_16 (pc' := 17) rfl (j := 0) rfl ?_
  refine r_getf C (Cn := RX7) (T := TX7) 10 (mMo.kd (mo_I e_6) k_a0 (by decide)) (by decide) vc_X7 in_X7 (by decide) q1234 dX7_notes_17 (pc' := 20) rfl (v := .int (mgI M_5 a0 10)) rfl ?_
  refine r_iconst C dX7_notes_20 (pc' := 21) rfl (v := 1) rfl ?_
  refine r_iadd C dX7_notes_21 (pc' := 22) rfl ?_
  obtain ⟨M_7, e_8, h⟩ := bn_ h
  refine r_putI C (Cn := RX7) (T := TX7) tyX7 10 (mMo.kd (mo_I e_6) k_a0 (by decide)) (by decide) vc_X7 in_X7 tyX7_ok nmX7 (by decide) q1234 rfl rfl dX7_notes_22 (pc' := 25) rfl rfl rfl M_7 e_8 ?_
  exact r_vret C hE (Nat.le_of_ble_eq_true rfl) (Nat.le_of_ble_eq_true rfl) dX7_notes_25 ⟨rfl, h⟩
set_option maxHeartbeats 4000000 in
theorem S_X7_waitTop {D : DD} {l : Launch} {M : MM} {a0 : Nat} {Post : Int32 → MM → Prop} (k_a0 : mkd M a0 = 7) (h : wp_X7_waitTop M a0 Post) : mMet D l yX7_waitTop cX7_waitTop 1 ((some .int)) { frames := 0, cells := 0, slots := 0, locals := 0 } M [.ref a0] (pI_ Post) := by
  refine m_of2 [(0, .ref a0)] (by decide +kernel) (Nat.le_of_ble_eq_true rfl) rfl (fun E hED hEl C hE => ?_)
  subst hED
  subst hEl
  unfold wp_X7_waitTop at h
  refine r_aload_n C dX7_waitTop_0 (pc' := 1) rfl (j := 0) rfl ?_
  refine r_getf C (Cn := RX7) (T := TX7) 11 k_a0 (by decide) vc_X7 in_X7 (by decide) q1235 dX7_waitTop_1 (pc' := 4) rfl (v := .int (mgI M a0 11)) rfl ?_
  refine r_if_ne C dX7_waitTop_4 (pc' := 7) rfl (tgt := 11) (by decide) (fun c_1 => ?_) (fun c_1 => ?_)
  · have h := it_f h c_1
    refine r_aload_n C dX7_waitTop_11 (pc' := 12) rfl (j := 0) rfl ?_
    refine r_getf C (Cn := RX7) (T := TX7) 14 k_a0 (by decide) vc_X7 in_X7 (by decide) q1238 dX7_waitTop_12 (pc' := 15) rfl (v := va_rf (mgR M a0 14)) rfl ?_
    obtain ⟨b_2, e_3, k_4, h⟩ := h
    refine r_ref [] e_3 ?_
    refine r_aload_n C dX7_waitTop_15 (pc' := 16) rfl (j := 0) rfl ?_
    refine r_getf C (Cn := RX7) (T := TX7) 11 k_a0 (by decide) vc_X7 in_X7 (by decide) q1235 dX7_waitTop_16 (pc' := 19) rfl (v := .int (mgI M a0 11)) rfl ?_
    refine r_iconst C dX7_waitTop_19 (pc' := 20) rfl (v := 1) rfl ?_
    refine r_isub C dX7_waitTop_20 (pc' := 21) rfl ?_
    obtain ⟨c_5, h⟩ := h
    refine r_iald C (j := (ix_ ((mgI M a0 11) - (1 : Int32)))) k_4 c_5 rfl dX7_waitTop_21 (pc' := 22) rfl ?_
    refine r_ldc C dX7_waitTop_22 (pc' := 24) rfl q1463 ?_
    refine r_idiv C dX7_waitTop_24 (pc' := 25) rfl (by decide) ?_
    exact r_iret C hE (Nat.le_of_ble_eq_true rfl) (Nat.le_of_ble_eq_true rfl) dX7_waitTop_25 ⟨_, rfl, h⟩
  · have h := it_t h c_1
    refine r_iconst C dX7_waitTop_7 (pc' := 8) rfl (v := -1) rfl ?_
    refine r_goto C dX7_waitTop_8 (tgt := 25) (by decide) ?_
    exact r_iret C hE (Nat.le_of_ble_eq_true rfl) (Nat.le_of_ble_eq_true rfl) dX7_waitTop_25 ⟨_, rfl, h⟩
set_option maxHeartbeats 4000000 in
theorem B_X7_endsPiece_0 {E : mE} {a0 : Nat} {X39 : MM → Prop} {Post : MM → Prop} (C : mC E yX7_endsPiece cX7_endsPiece 1 (none) { frames := 1, cells := 0, slots := 0, locals := 22 }) (hE : mEnd E { frames := 1, cells := 0, slots := 0, locals := 22 } (pV_ Post)) : ∀ (n_ : Nat) (M : MM), mkd M a0 = 7 → wl_X7_endsPiece_0 a0 X39 n_ M → (∀ (M' : MM), mMo M M' → X39 M' → mV E M' 0 0 39 [] []) → mV E M 0 0 0 [(0, .ref a0)] [] := by
  intro n_
  induction n_ with
  | zero =>
    intro M k_a0 h hX39
    exact absurd h (by rw [wl_X7_endsPiece_0]; exact fun q => q)
  | succ n_ ih =>
    intro M k_a0 h hX39
    rw [wl_X7_endsPiece_0] at h
    refine r_aload_n C dX7_endsPiece_0 (pc' := 1) rfl (j := 0) rfl ?_
    refine r_callVi (As := []) (rest := []) (Cn := RX7) (T := TX7) C k_a0 (by decide) vc_X7 (S_X7_waitTop k_a0 h) (lw_V q1486 q1488 qs65 q112 q1489) rfl hd_X7_waitTop rfl rfl (Nat.le_of_ble_eq_true rfl) (Nat.le_of_ble_eq_true rfl) (Nat.le_of_ble_eq_true rfl) rfl rfl (Nat.le_of_ble_eq_true rfl) (Nat.le_of_ble_eq_true rfl) dX7_endsPiece_1 (pc' := 4) rfl (fun r_2 M_1 h m_3 => ?_)
    refine r_bipush C dX7_endsPiece_4 (pc' := 6) rfl (v := 10) rfl ?_
    refine r_icmp_ne C dX7_endsPiece_6 (pc' := 9) rfl (tgt := 39) (by decide) (fun c_4 => ?_) (fun c_4 => ?_)
    · have h := it_f h c_4
      refine r_sub (lv' := []) [] rfl ?_
      exact hX39 M_1 m_3 h
    · have h := it_t h c_4
      refine r_aload_n C dX7_endsPiece_9 (pc' := 10) rfl (j := 0) rfl ?_
      refine r_bipush C dX7_endsPiece_10 (pc' := 12) rfl (v := 10) rfl ?_
      refine r_iconst C dX7_endsPiece_12 (pc' := 13) rfl (v := 0) rfl ?_
      refine r_callVv (As := [.int (10 : Int32), .int (0 : Int32)]) (rest := []) (Cn := RX7) (T := TX7) C (mMo.kd m_3 k_a0 (by decide)) (by decide) vc_X7 (S_X7_notes (mMo.kd m_3 k_a0 (by decide)) h) (lw_V q1472 q1474 qs63 q112 q1475) rfl hd_X7_notes rfl rfl (Nat.le_of_ble_eq_true rfl) (Nat.le_of_ble_eq_true rfl) (Nat.le_of_ble_eq_true rfl) rfl rfl (Nat.le_of_ble_eq_true rfl) (Nat.le_of_ble_eq_true rfl) dX7_endsPiece_13 (pc' := 16) rfl (fun M_5 h m_7 => ?_)
      refine r_aload_n C dX7_endsPiece_16 (pc' := 17) rfl (j := 0) rfl ?_
      refine r_aload_n C dX7_endsPiece_17 (pc' := 18) rfl (j := 0) rfl ?_
      refine r_getf C (Cn := RX7) (T := TX7) 11 (mMo.kd m_7 (mMo.kd m_3 k_a0 (by decide)) (by decide)) (by decide) vc_X7 in_X7 (by decide) q1235 dX7_endsPiece_18 (pc' := 21) rfl (v := .int (mgI M_5 a0 11)) rfl ?_
      refine r_iconst C dX7_endsPiece_21 (pc' := 22) rfl (v := 1) rfl ?_
      refine r_isub C dX7_endsPiece_22 (pc' := 23) rfl ?_
      obtain ⟨M_8, e_9, h⟩ := bn_ h
      refine r_putI C (Cn := RX7) (T := TX7) tyX7 11 (mMo.kd m_7 (mMo.kd m_3 k_a0 (by decide)) (by decide)) (by decide) vc_X7 in_X7 tyX7_ok nmX7 (by decide) q1235 rfl rfl dX7_endsPiece_23 (pc' := 26) rfl rfl rfl M_8 e_9 ?_
      refine r_aload_n C dX7_endsPiece_26 (pc' := 27) rfl (j := 0) rfl ?_
      refine r_aload_n C dX7_endsPiece_27 (pc' := 28) rfl (j := 0) rfl ?_
      refine r_getf C (Cn := RX7) (T := TX7) 9 (mMo.kd (mo_I e_9) (mMo.kd m_7 (mMo.kd m_3 k_a0 (by decide)) (by decide)) (by decide)) (by decide) vc_X7 in_X7 (by decide) q1233 dX7_endsPiece_28 (pc' := 31) rfl (v := .int (mgI M_8 a0 9)) rfl ?_
      refine r_iconst C dX7_endsPiece_31 (pc' := 32) rfl (v := 1) rfl ?_
      refine r_isub C dX7_endsPiece_32 (pc' := 33) rfl ?_
      obtain ⟨M_10, e_11, h⟩ := bn_ h
      refine r_putI C (Cn := RX7) (T := TX7) tyX7 9 (mMo.kd (mo_I e_9) (mMo.kd m_7 (mMo.kd m_3 k_a0 (by decide)) (by decide)) (by decide)) (by decide) vc_X7 in_X7 tyX7_ok nmX7 (by decide) q1233 rfl rfl dX7_endsPiece_33 (pc' := 36) rfl rfl rfl M_10 e_11 ?_
      refine r_goto C dX7_endsPiece_36 (tgt := 0) (by decide) ?_
      refine r_sub (lv' := [(0, .ref a0)]) [0] rfl ?_
      exact ih M_10 (mMo.kd (mo_I e_11) (mMo.kd (mo_I e_9) (mMo.kd m_7 (mMo.kd m_3 k_a0 (by decide)) (by decide)) (by decide)) (by decide)) h (fun M9 hm9 h9 => hX39 M9 (mMo.tr (mMo.tr (mMo.tr (mMo.tr m_3 m_7) (mo_I e_9)) (mo_I e_11)) hm9) h9)
set_option maxHeartbeats 4000000 in
theorem S_X7_endsPiece {D : DD} {l : Launch} {M : MM} {a0 : Nat} {Post : MM → Prop} (k_a0 : mkd M a0 = 7) (h : wp_X7_endsPiece M a0 Post) : mMet D l yX7_endsPiece cX7_endsPiece 1 (none) { frames := 1, cells := 0, slots := 0, locals := 22 } M [.ref a0] (pV_ Post) := by
  refine m_of2 [(0, .ref a0)] (by decide +kernel) (Nat.le_of_ble_eq_true rfl) rfl (fun E hED hEl C hE => ?_)
  subst hED
  subst hEl
  unfold wp_X7_endsPiece at h
  obtain ⟨n_12, h⟩ := h
  refine r_sub (lv' := [(0, .ref a0)]) [0] rfl ?_
  refine B_X7_endsPiece_0 C hE n_12 M k_a0 h (fun M_13 m_14 h => ?_)
  exact r_vret C hE (Nat.le_of_ble_eq_true rfl) (Nat.le_of_ble_eq_true rfl) dX7_endsPiece_39 ⟨rfl, h⟩
set_option maxHeartbeats 4000000 in
theorem S_X7_jumps {D : DD} {l : Launch} {M : MM} {a0 : Nat} {x1 : Int32} {Post : MM → Prop} (k_a0 : mkd M a0 = 7) (h : wp_X7_jumps M a0 x1 Post) : mMet D l yX7_jumps cX7_jumps 2 (none) { frames := 1, cells := 0, slots := 0, locals := 22 } M [.ref a0, .int x1] (pV_ Post) := by
  refine m_of2 [(0, .ref a0), (1, .int x1)] (by decide +kernel) (Nat.le_of_ble_eq_true rfl) rfl (fun E hED hEl C hE => ?_)
  subst hED
  subst hEl
  unfold wp_X7_jumps at h
  refine r_aload_n C dX7_jumps_0 (pc' := 1) rfl (j := 0) rfl ?_
  refine r_getf C (Cn := RX7) (T := TX7) 14 k_a0 (by decide) vc_X7 in_X7 (by decide) q1238 dX7_jumps_1 (pc' := 4) rfl (v := va_rf (mgR M a0 14)) rfl ?_
  obtain ⟨b_1, e_2, k_3, h⟩ := h
  refine r_ref [] e_2 ?_
  refine r_aload_n C dX7_jumps_4 (pc' := 5) rfl (j := 0) rfl ?_
  refine r_getf C (Cn := RX7) (T := TX7) 11 k_a0 (by decide) vc_X7 in_X7 (by decide) q1235 dX7_jumps_5 (pc' := 8) rfl (v := .int (mgI M a0 11)) rfl ?_
  refine r_ldc C dX7_jumps_8 (pc' := 10) rfl q1463 ?_
  refine r_iload_n C dX7_jumps_10 (pc' := 11) rfl (j := 1) rfl ?_
  refine r_imul C dX7_jumps_11 (pc' := 12) rfl ?_
  refine r_aload_n C dX7_jumps_12 (pc' := 13) rfl (j := 0) rfl ?_
  refine r_getf C (Cn := RX7) (T := TX7) 10 k_a0 (by decide) vc_X7 in_X7 (by decide) q1234 dX7_jumps_13 (pc' := 16) rfl (v := .int (mgI M a0 10)) rfl ?_
  refine r_iadd C dX7_jumps_16 (pc' := 17) rfl ?_
  obtain ⟨c_4, h⟩ := h
  obtain ⟨M_5, e_6, h⟩ := bn_ h
  refine r_iast C (j := (ix_ (mgI M a0 11))) k_3 c_4 rfl dX7_jumps_17 (pc' := 18) rfl M_5 e_6 ?_
  refine r_aload_n C dX7_jumps_18 (pc' := 19) rfl (j := 0) rfl ?_
  refine r_aload_n C dX7_jumps_19 (pc' := 20) rfl (j := 0) rfl ?_
  refine r_getf C (Cn := RX7) (T := TX7) 11 (mMo.kd (mo_I e_6) k_a0 (by decide)) (by decide) vc_X7 in_X7 (by decide) q1235 dX7_jumps_20 (pc' := 23) rfl (v := .int (mgI M_5 a0 11)) rfl ?_
  refine r_iconst C dX7_jumps_23 (pc' := 24) rfl (v := 1) rfl ?_
  refine r_iadd C dX7_jumps_24 (pc' := 25) rfl ?_
  obtain ⟨M_7, e_8, h⟩ := bn_ h
  refine r_putI C (Cn := RX7) (T := TX7) tyX7 11 (mMo.kd (mo_I e_6) k_a0 (by decide)) (by decide) vc_X7 in_X7 tyX7_ok nmX7 (by decide) q1235 rfl rfl dX7_jumps_25 (pc' := 28) rfl rfl rfl M_7 e_8 ?_
  refine r_aload_n C dX7_jumps_28 (pc' := 29) rfl (j := 0) rfl ?_
  refine r_iload_n C dX7_jumps_29 (pc' := 30) rfl (j := 1) rfl ?_
  refine r_iconst C dX7_jumps_30 (pc' := 31) rfl (v := 0) rfl ?_
  refine r_callVv (As := [.int x1, .int (0 : Int32)]) (rest := []) (Cn := RX7) (T := TX7) C (mMo.kd (mo_I e_8) (mMo.kd (mo_I e_6) k_a0 (by decide)) (by decide)) (by decide) vc_X7 (S_X7_notes (mMo.kd (mo_I e_8) (mMo.kd (mo_I e_6) k_a0 (by decide)) (by decide)) h) (lw_V q1472 q1474 qs63 q112 q1475) rfl hd_X7_notes rfl rfl (Nat.le_of_ble_eq_true rfl) (Nat.le_of_ble_eq_true rfl) (Nat.le_of_ble_eq_true rfl) rfl rfl (Nat.le_of_ble_eq_true rfl) (Nat.le_of_ble_eq_true rfl) dX7_jumps_31 (pc' := 34) rfl (fun M_9 h m_11 => ?_)
  refine r_aload_n C dX7_jumps_34 (pc' := 35) rfl (j := 0) rfl ?_
  refine r_aload_n C dX7_jumps_35 (pc' := 36) rfl (j := 0) rfl ?_
  refine r_getf C (Cn := RX7) (T := TX7) 5 (mMo.kd m_11 (mMo.kd (mo_I e_8) (mMo.kd (mo_I e_6) k_a0 (by decide)) (by decide)) (by decide)) (by decide) vc_X7 in_X7 (by decide) q1229 dX7_jumps_36 (pc' := 39) rfl (v := .int (mgI M_9 a0 5)) rfl ?_
  refine r_iconst C dX7_jumps_39 (pc' := 40) rfl (v := 1) rfl ?_
  refine r_iadd C dX7_jumps_40 (pc' := 41) rfl ?_
  obtain ⟨M_12, e_13, h⟩ := bn_ h
  refine r_putI C (Cn := RX7) (T := TX7) tyX7 5 (mMo.kd m_11 (mMo.kd (mo_I e_8) (mMo.kd (mo_I e_6) k_a0 (by decide)) (by decide)) (by decide)) (by decide) vc_X7 in_X7 tyX7_ok nmX7 (by decide) q1229 rfl rfl dX7_jumps_41 (pc' := 44) rfl rfl rfl M_12 e_13 ?_
  exact r_vret C hE (Nat.le_of_ble_eq_true rfl) (Nat.le_of_ble_eq_true rfl) dX7_jumps_44 ⟨rfl, h⟩
set_option maxHeartbeats 4000000 in
theorem B_X7_lands_22 {E : mE} {M : MM} {a0 : Nat} {x1 : Int32} {R : MM → Prop} {X73 : MM → Prop} {Post : MM → Prop} (C : mC E yX7_lands cX7_lands 3 (none) { frames := 1, cells := 0, slots := 0, locals := 20 }) (hE : mEnd E { frames := 1, cells := 0, slots := 0, locals := 20 } (pV_ Post)) (k_a0 : mkd M a0 = 7) (h : wb_X7_lands_22 M a0 x1 R X73) (hR : ∀ (M' : MM), mMo M M' → mkd M' a0 = 7 → R M' → mV E M' 0 0 0 [(0, .ref a0), (1, .int x1)] []) (hX73 : ∀ (M' : MM), mMo M M' → X73 M' → mV E M' 0 0 73 [] []) : mV E M 0 0 22 [(0, .ref a0), (1, .int x1)] [] := by
  unfold wb_X7_lands_22 at h
  refine r_aload_n C dX7_lands_22 (pc' := 23) rfl (j := 0) rfl ?_
  refine r_getf C (Cn := RX7) (T := TX7) 14 k_a0 (by decide) vc_X7 in_X7 (by decide) q1238 dX7_lands_23 (pc' := 26) rfl (v := va_rf (mgR M a0 14)) rfl ?_
  obtain ⟨b_5, e_6, k_7, h⟩ := h
  refine r_ref [] e_6 ?_
  refine r_aload_n C dX7_lands_26 (pc' := 27) rfl (j := 0) rfl ?_
  refine r_getf C (Cn := RX7) (T := TX7) 11 k_a0 (by decide) vc_X7 in_X7 (by decide) q1235 dX7_lands_27 (pc' := 30) rfl (v := .int (mgI M a0 11)) rfl ?_
  refine r_iconst C dX7_lands_30 (pc' := 31) rfl (v := 1) rfl ?_
  refine r_isub C dX7_lands_31 (pc' := 32) rfl ?_
  obtain ⟨c_8, h⟩ := h
  refine r_iald C (j := (ix_ ((mgI M a0 11) - (1 : Int32)))) k_7 c_8 rfl dX7_lands_32 (pc' := 33) rfl ?_
  refine r_ldc C dX7_lands_33 (pc' := 35) rfl q1463 ?_
  refine r_irem C dX7_lands_35 (pc' := 36) rfl (by decide) ?_
  obtain ⟨x2_9, e_10, h⟩ := bn_ h
  refine r_istore_n C (lv' := [(2, .int x2_9), (0, .ref a0), (1, .int x1)]) dX7_lands_36 (pc' := 37) rfl rfl x2_9 e_10 (Nat.le_of_ble_eq_true rfl) rfl ?_
  refine r_aload_n C dX7_lands_37 (pc' := 38) rfl (j := 1) rfl ?_
  refine r_getf C (Cn := RX7) (T := TX7) 13 k_a0 (by decide) vc_X7 in_X7 (by decide) q1237 dX7_lands_38 (pc' := 41) rfl (v := va_rf (mgR M a0 13)) rfl ?_
  obtain ⟨b_11, e_12, k_13, h⟩ := h
  refine r_ref [] e_12 ?_
  refine r_iload_n C dX7_lands_41 (pc' := 42) rfl (j := 0) rfl ?_
  refine r_ldc C dX7_lands_42 (pc' := 44) rfl q1463 ?_
  refine r_aload_n C dX7_lands_44 (pc' := 45) rfl (j := 1) rfl ?_
  refine r_getf C (Cn := RX7) (T := TX7) 13 k_a0 (by decide) vc_X7 in_X7 (by decide) q1237 dX7_lands_45 (pc' := 48) rfl (v := va_rf (mgR M a0 13)) rfl ?_
  obtain ⟨b_14, e_15, k_16, h⟩ := h
  refine r_ref [] e_15 ?_
  refine r_iload_n C dX7_lands_48 (pc' := 49) rfl (j := 0) rfl ?_
  obtain ⟨c_17, h⟩ := h
  refine r_iald C (j := (ix_ x2_9)) k_16 c_17 rfl dX7_lands_49 (pc' := 50) rfl ?_
  refine r_ldc C dX7_lands_50 (pc' := 52) rfl q1463 ?_
  refine r_idiv C dX7_lands_52 (pc' := 53) rfl (by decide) ?_
  refine r_imul C dX7_lands_53 (pc' := 54) rfl ?_
  refine r_aload_n C dX7_lands_54 (pc' := 55) rfl (j := 1) rfl ?_
  refine r_getf C (Cn := RX7) (T := TX7) 10 k_a0 (by decide) vc_X7 in_X7 (by decide) q1234 dX7_lands_55 (pc' := 58) rfl (v := .int (mgI M a0 10)) rfl ?_
  refine r_iadd C dX7_lands_58 (pc' := 59) rfl ?_
  obtain ⟨c_18, h⟩ := h
  obtain ⟨M_19, e_20, h⟩ := bn_ h
  refine r_iast C (j := (ix_ x2_9)) k_13 c_18 rfl dX7_lands_59 (pc' := 60) rfl M_19 e_20 ?_
  refine r_aload_n C dX7_lands_60 (pc' := 61) rfl (j := 1) rfl ?_
  refine r_aload_n C dX7_lands_61 (pc' := 62) rfl (j := 1) rfl ?_
  refine r_getf C (Cn := RX7) (T := TX7) 11 (mMo.kd (mo_I e_20) k_a0 (by decide)) (by decide) vc_X7 in_X7 (by decide) q1235 dX7_lands_62 (pc' := 65) rfl (v := .int (mgI M_19 a0 11)) rfl ?_
  refine r_iconst C dX7_lands_65 (pc' := 66) rfl (v := 1) rfl ?_
  refine r_isub C dX7_lands_66 (pc' := 67) rfl ?_
  obtain ⟨M_21, e_22, h⟩ := bn_ h
  refine r_putI C (Cn := RX7) (T := TX7) tyX7 11 (mMo.kd (mo_I e_20) k_a0 (by decide)) (by decide) vc_X7 in_X7 tyX7_ok nmX7 (by decide) q1235 rfl rfl dX7_lands_67 (pc' := 70) rfl rfl rfl M_21 e_22 ?_
  refine r_goto C dX7_lands_70 (tgt := 0) (by decide) ?_
  refine r_sub (lv' := [(0, .ref a0), (1, .int x1)]) [1, 2] rfl ?_
  exact hR M_21 (mMo.tr (mo_I e_20) (mo_I e_22)) (mMo.kd (mo_I e_22) (mMo.kd (mo_I e_20) k_a0 (by decide)) (by decide)) h
set_option maxHeartbeats 4000000 in
theorem B_X7_lands_0 {E : mE} {a0 : Nat} {x1 : Int32} {X73 : MM → Prop} {Post : MM → Prop} (C : mC E yX7_lands cX7_lands 3 (none) { frames := 1, cells := 0, slots := 0, locals := 20 }) (hE : mEnd E { frames := 1, cells := 0, slots := 0, locals := 20 } (pV_ Post)) : ∀ (n_ : Nat) (M : MM), mkd M a0 = 7 → wl_X7_lands_0 a0 x1 X73 n_ M → (∀ (M' : MM), mMo M M' → X73 M' → mV E M' 0 0 73 [] []) → mV E M 0 0 0 [(0, .ref a0), (1, .int x1)] [] := by
  intro n_
  induction n_ with
  | zero =>
    intro M k_a0 h hX73
    exact absurd h (by rw [wl_X7_lands_0]; exact fun q => q)
  | succ n_ ih =>
    intro M k_a0 h hX73
    rw [wl_X7_lands_0] at h
    refine r_aload_n C dX7_lands_0 (pc' := 1) rfl (j := 0) rfl ?_
    refine r_callVi (As := []) (rest := []) (Cn := RX7) (T := TX7) C k_a0 (by decide) vc_X7 (S_X7_waitTop k_a0 h) (lw_V q1486 q1488 qs65 q112 q1489) rfl hd_X7_waitTop rfl rfl (Nat.le_of_ble_eq_true rfl) (Nat.le_of_ble_eq_true rfl) (Nat.le_of_ble_eq_true rfl) rfl rfl (Nat.le_of_ble_eq_true rfl) (Nat.le_of_ble_eq_true rfl) dX7_lands_1 (pc' := 4) rfl (fun r_2 M_1 h m_3 => ?_)
    refine r_bipush C dX7_lands_4 (pc' := 6) rfl (v := 11) rfl ?_
    refine r_icmp_eq C dX7_lands_6 (pc' := 9) rfl (tgt := 22) (by decide) (fun c_4 => ?_) (fun c_4 => ?_)
    · have h := it_t h c_4
      refine r_sub (lv' := [(0, .ref a0), (1, .int x1)]) [0, 1] rfl ?_
      exact B_X7_lands_22 C hE (mMo.kd m_3 k_a0 (by decide)) h (fun M8 hm8 g0 h8 => ih M8 g0 h8 (fun M9 hm9 h9 => hX73 M9 (mMo.tr (mMo.tr m_3 hm8) hm9) h9)) (fun M9 hm9 h9 => hX73 M9 (mMo.tr m_3 hm9) h9)
    · have h := it_f h c_4
      refine r_iload_n C dX7_lands_9 (pc' := 10) rfl (j := 1) rfl ?_
      refine r_if_eq C dX7_lands_10 (pc' := 13) rfl (tgt := 73) (by decide) (fun c_23 => ?_) (fun c_23 => ?_)
      · have h := it_t h c_23
        refine r_sub (lv' := []) [] rfl ?_
        exact hX73 M_1 m_3 h
      · have h := it_f h c_23
        refine r_aload_n C dX7_lands_13 (pc' := 14) rfl (j := 0) rfl ?_
        refine r_callVi (As := []) (rest := []) (Cn := RX7) (T := TX7) C (mMo.kd m_3 k_a0 (by decide)) (by decide) vc_X7 (S_X7_waitTop (mMo.kd m_3 k_a0 (by decide)) h) (lw_V q1486 q1488 qs65 q112 q1489) rfl hd_X7_waitTop rfl rfl (Nat.le_of_ble_eq_true rfl) (Nat.le_of_ble_eq_true rfl) (Nat.le_of_ble_eq_true rfl) rfl rfl (Nat.le_of_ble_eq_true rfl) (Nat.le_of_ble_eq_true rfl) dX7_lands_14 (pc' := 17) rfl (fun r_25 M_24 h m_26 => ?_)
        refine r_bipush C dX7_lands_17 (pc' := 19) rfl (v := 12) rfl ?_
        refine r_icmp_ne C dX7_lands_19 (pc' := 22) rfl (tgt := 73) (by decide) (fun c_27 => ?_) (fun c_27 => ?_)
        · have h := it_f h c_27
          refine r_sub (lv' := []) [] rfl ?_
          exact hX73 M_24 (mMo.tr m_3 m_26) h
        · have h := it_t h c_27
          refine r_sub (lv' := [(0, .ref a0), (1, .int x1)]) [0, 1] rfl ?_
          exact B_X7_lands_22 C hE (mMo.kd m_26 (mMo.kd m_3 k_a0 (by decide)) (by decide)) h (fun M8 hm8 g0 h8 => ih M8 g0 h8 (fun M9 hm9 h9 => hX73 M9 (mMo.tr (mMo.tr (mMo.tr m_3 m_26) hm8) hm9) h9)) (fun M9 hm9 h9 => hX73 M9 (mMo.tr (mMo.tr m_3 m_26) hm9) h9)
set_option maxHeartbeats 4000000 in
theorem S_X7_lands {D : DD} {l : Launch} {M : MM} {a0 : Nat} {x1 : Int32} {Post : MM → Prop} (k_a0 : mkd M a0 = 7) (h : wp_X7_lands M a0 x1 Post) : mMet D l yX7_lands cX7_lands 3 (none) { frames := 1, cells := 0, slots := 0, locals := 20 } M [.ref a0, .int x1] (pV_ Post) := by
  refine m_of2 [(0, .ref a0), (1, .int x1)] (by decide +kernel) (Nat.le_of_ble_eq_true rfl) rfl (fun E hED hEl C hE => ?_)
  subst hED
  subst hEl
  unfold wp_X7_lands at h
  obtain ⟨n_28, h⟩ := h
  refine r_sub (lv' := [(0, .ref a0), (1, .int x1)]) [0, 1] rfl ?_
  refine B_X7_lands_0 C hE n_28 M k_a0 h (fun M_29 m_30 h => ?_)
  exact r_vret C hE (Nat.le_of_ble_eq_true rfl) (Nat.le_of_ble_eq_true rfl) dX7_lands_73 ⟨rfl, h⟩
set_option maxHeartbeats 4000000 in
theorem S_X7_wrongAt {D : DD} {l : Launch} {M : MM} {a0 : Nat} {x1 : Int32} {x2 : Int32} {Post : Int32 → MM → Prop} (k_a0 : mkd M a0 = 7) (h : wp_X7_wrongAt M a0 x1 x2 Post) : mMet D l yX7_wrongAt cX7_wrongAt 3 ((some .boolean)) { frames := 0, cells := 0, slots := 0, locals := 0 } M [.ref a0, .int x1, .int x2] (pI_ Post) := by
  refine m_of2 [(0, .ref a0), (1, .int x1), (2, .int x2)] (by decide +kernel) (Nat.le_of_ble_eq_true rfl) rfl (fun E hED hEl C hE => ?_)
  subst hED
  subst hEl
  unfold wp_X7_wrongAt at h
  refine r_aload_n C dX7_wrongAt_0 (pc' := 1) rfl (j := 0) rfl ?_
  refine r_sipush C dX7_wrongAt_1 (pc' := 4) rfl (v := -1000) rfl ?_
  refine r_iload_n C dX7_wrongAt_4 (pc' := 5) rfl (j := 1) rfl ?_
  refine r_imul C dX7_wrongAt_5 (pc' := 6) rfl ?_
  refine r_iload_n C dX7_wrongAt_6 (pc' := 7) rfl (j := 2) rfl ?_
  refine r_isub C dX7_wrongAt_7 (pc' := 8) rfl ?_
  obtain ⟨M_1, e_2, h⟩ := bn_ h
  refine r_putI C (Cn := RX7) (T := TX7) tyX7 7 k_a0 (by decide) vc_X7 in_X7 tyX7_ok nmX7 (by decide) q1231 rfl rfl dX7_wrongAt_8 (pc' := 11) rfl rfl rfl M_1 e_2 ?_
  refine r_iconst C dX7_wrongAt_11 (pc' := 12) rfl (v := 0) rfl ?_
  exact r_zret C hE (Or.inl rfl) (Nat.le_of_ble_eq_true rfl) (Nat.le_of_ble_eq_true rfl) dX7_wrongAt_12 ⟨_, rfl, h⟩
set_option maxHeartbeats 4000000 in
theorem S_X7_opens {D : DD} {l : Launch} {M : MM} {a0 : Nat} {x1 : Int32} {Post : Int32 → MM → Prop} (k_a0 : mkd M a0 = 7) (h : wp_X7_opens M a0 x1 Post) : mMet D l yX7_opens cX7_opens 2 ((some .boolean)) { frames := 1, cells := 0, slots := 0, locals := 22 } M [.ref a0, .int x1] (pI_ Post) := by
  refine m_of2 [(0, .ref a0), (1, .int x1)] (by decide +kernel) (Nat.le_of_ble_eq_true rfl) rfl (fun E hED hEl C hE => ?_)
  subst hED
  subst hEl
  unfold wp_X7_opens at h
  refine r_aload_n C dX7_opens_0 (pc' := 1) rfl (j := 0) rfl ?_
  refine r_getf C (Cn := RX7) (T := TX7) 9 k_a0 (by decide) vc_X7 in_X7 (by decide) q1233 dX7_opens_1 (pc' := 4) rfl (v := .int (mgI M a0 9)) rfl ?_
  refine r_bipush C dX7_opens_4 (pc' := 6) rfl (v := 6) rfl ?_
  refine r_icmp_ne C dX7_opens_6 (pc' := 9) rfl (tgt := 19) (by decide) (fun c_1 => ?_) (fun c_1 => ?_)
  · have h := it_f h c_1
    refine r_aload_n C dX7_opens_19 (pc' := 20) rfl (j := 0) rfl ?_
    refine r_aload_n C dX7_opens_20 (pc' := 21) rfl (j := 0) rfl ?_
    refine r_getf C (Cn := RX7) (T := TX7) 9 k_a0 (by decide) vc_X7 in_X7 (by decide) q1233 dX7_opens_21 (pc' := 24) rfl (v := .int (mgI M a0 9)) rfl ?_
    refine r_iconst C dX7_opens_24 (pc' := 25) rfl (v := 1) rfl ?_
    refine r_iadd C dX7_opens_25 (pc' := 26) rfl ?_
    obtain ⟨M_2, e_3, h⟩ := bn_ h
    refine r_putI C (Cn := RX7) (T := TX7) tyX7 9 k_a0 (by decide) vc_X7 in_X7 tyX7_ok nmX7 (by decide) q1233 rfl rfl dX7_opens_26 (pc' := 29) rfl rfl rfl M_2 e_3 ?_
    refine r_aload_n C dX7_opens_29 (pc' := 30) rfl (j := 0) rfl ?_
    refine r_getf C (Cn := RX7) (T := TX7) 14 (mMo.kd (mo_I e_3) k_a0 (by decide)) (by decide) vc_X7 in_X7 (by decide) q1238 dX7_opens_30 (pc' := 33) rfl (v := va_rf (mgR M_2 a0 14)) rfl ?_
    obtain ⟨b_4, e_5, k_6, h⟩ := h
    refine r_ref [] e_5 ?_
    refine r_aload_n C dX7_opens_33 (pc' := 34) rfl (j := 0) rfl ?_
    refine r_getf C (Cn := RX7) (T := TX7) 11 (mMo.kd (mo_I e_3) k_a0 (by decide)) (by decide) vc_X7 in_X7 (by decide) q1235 dX7_opens_34 (pc' := 37) rfl (v := .int (mgI M_2 a0 11)) rfl ?_
    refine r_ldc C dX7_opens_37 (pc' := 39) rfl q1463 ?_
    refine r_iload_n C dX7_opens_39 (pc' := 40) rfl (j := 1) rfl ?_
    refine r_imul C dX7_opens_40 (pc' := 41) rfl ?_
    obtain ⟨c_7, h⟩ := h
    obtain ⟨M_8, e_9, h⟩ := bn_ h
    refine r_iast C (j := (ix_ (mgI M_2 a0 11))) k_6 c_7 rfl dX7_opens_41 (pc' := 42) rfl M_8 e_9 ?_
    refine r_aload_n C dX7_opens_42 (pc' := 43) rfl (j := 0) rfl ?_
    refine r_aload_n C dX7_opens_43 (pc' := 44) rfl (j := 0) rfl ?_
    refine r_getf C (Cn := RX7) (T := TX7) 11 (mMo.kd (mo_I e_9) (mMo.kd (mo_I e_3) k_a0 (by decide)) (by decide)) (by decide) vc_X7 in_X7 (by decide) q1235 dX7_opens_44 (pc' := 47) rfl (v := .int (mgI M_8 a0 11)) rfl ?_
    refine r_iconst C dX7_opens_47 (pc' := 48) rfl (v := 1) rfl ?_
    refine r_iadd C dX7_opens_48 (pc' := 49) rfl ?_
    obtain ⟨M_10, e_11, h⟩ := bn_ h
    refine r_putI C (Cn := RX7) (T := TX7) tyX7 11 (mMo.kd (mo_I e_9) (mMo.kd (mo_I e_3) k_a0 (by decide)) (by decide)) (by decide) vc_X7 in_X7 tyX7_ok nmX7 (by decide) q1235 rfl rfl dX7_opens_49 (pc' := 52) rfl rfl rfl M_10 e_11 ?_
    refine r_aload_n C dX7_opens_52 (pc' := 53) rfl (j := 0) rfl ?_
    refine r_aload_n C dX7_opens_53 (pc' := 54) rfl (j := 0) rfl ?_
    refine r_getf C (Cn := RX7) (T := TX7) 5 (mMo.kd (mo_I e_11) (mMo.kd (mo_I e_9) (mMo.kd (mo_I e_3) k_a0 (by decide)) (by decide)) (by decide)) (by decide) vc_X7 in_X7 (by decide) q1229 dX7_opens_54 (pc' := 57) rfl (v := .int (mgI M_10 a0 5)) rfl ?_
    refine r_iconst C dX7_opens_57 (pc' := 58) rfl (v := 1) rfl ?_
    refine r_iadd C dX7_opens_58 (pc' := 59) rfl ?_
    obtain ⟨M_12, e_13, h⟩ := bn_ h
    refine r_putI C (Cn := RX7) (T := TX7) tyX7 5 (mMo.kd (mo_I e_11) (mMo.kd (mo_I e_9) (mMo.kd (mo_I e_3) k_a0 (by decide)) (by decide)) (by decide)) (by decide) vc_X7 in_X7 tyX7_ok nmX7 (by decide) q1229 rfl rfl dX7_opens_59 (pc' := 62) rfl rfl rfl M_12 e_13 ?_
    refine r_iconst C dX7_opens_62 (pc' := 63) rfl (v := 1) rfl ?_
    exact r_zret C hE (Or.inr rfl) (Nat.le_of_ble_eq_true rfl) (Nat.le_of_ble_eq_true rfl) dX7_opens_63 ⟨_, rfl, h⟩
  · have h := it_t h c_1
    refine r_aload_n C dX7_opens_9 (pc' := 10) rfl (j := 0) rfl ?_
    refine r_iconst C dX7_opens_10 (pc' := 11) rfl (v := 5) rfl ?_
    refine r_aload_n C dX7_opens_11 (pc' := 12) rfl (j := 0) rfl ?_
    refine r_getf C (Cn := RX7) (T := TX7) 5 k_a0 (by decide) vc_X7 in_X7 (by decide) q1229 dX7_opens_12 (pc' := 15) rfl (v := .int (mgI M a0 5)) rfl ?_
    refine r_callVi (As := [.int (5 : Int32), .int (mgI M a0 5)]) (rest := []) (Cn := RX7) (T := TX7) C k_a0 (by decide) vc_X7 (S_X7_wrongAt k_a0 h) (lw_V q1447 q1449 qs57 q112 q1450) rfl hd_X7_wrongAt rfl rfl (Nat.le_of_ble_eq_true rfl) (Nat.le_of_ble_eq_true rfl) (Nat.le_of_ble_eq_true rfl) rfl rfl (Nat.le_of_ble_eq_true rfl) (Nat.le_of_ble_eq_true rfl) dX7_opens_15 (pc' := 18) rfl (fun r_15 M_14 h m_16 => ?_)
    obtain ⟨c_17, h⟩ := h
    exact r_zret C hE c_17 (Nat.le_of_ble_eq_true rfl) (Nat.le_of_ble_eq_true rfl) dX7_opens_18 ⟨_, rfl, h⟩
set_option maxHeartbeats 4000000 in
theorem B_X7_closesSums_37 {E : mE} {M : MM} {a0 : Nat} {x1 : Int32} {R : MM → Prop} {X59 : MM → Prop} {Post : MM → Prop} (C : mC E yX7_closesSums cX7_closesSums 2 (none) { frames := 1, cells := 0, slots := 0, locals := 22 }) (hE : mEnd E { frames := 1, cells := 0, slots := 0, locals := 22 } (pV_ Post)) (k_a0 : mkd M a0 = 7) (h : wb_X7_closesSums_37 M a0 x1 R X59) (hR : ∀ (M' : MM), mMo M M' → mkd M' a0 = 7 → R M' → mV E M' 0 0 0 [(0, .ref a0), (1, .int x1)] []) (hX59 : ∀ (M' : MM), mMo M M' → X59 M' → mV E M' 0 0 59 [] []) : mV E M 0 0 37 [(0, .ref a0), (1, .int x1)] [] := by
  unfold wb_X7_closesSums_37 at h
  refine r_aload_n C dX7_closesSums_37 (pc' := 38) rfl (j := 0) rfl ?_
  refine r_aload_n C dX7_closesSums_38 (pc' := 39) rfl (j := 0) rfl ?_
  refine r_callVi (As := []) (rest := [.ref a0]) (Cn := RX7) (T := TX7) C k_a0 (by decide) vc_X7 (S_X7_waitTop k_a0 h) (lw_V q1486 q1488 qs65 q112 q1489) rfl hd_X7_waitTop rfl rfl (Nat.le_of_ble_eq_true rfl) (Nat.le_of_ble_eq_true rfl) (Nat.le_of_ble_eq_true rfl) rfl rfl (Nat.le_of_ble_eq_true rfl) (Nat.le_of_ble_eq_true rfl) dX7_closesSums_39 (pc' := 42) rfl (fun r_11 M_10 h m_12 => ?_)
  refine r_iconst C dX7_closesSums_42 (pc' := 43) rfl (v := 0) rfl ?_
  refine r_callVv (As := [.int r_11, .int (0 : Int32)]) (rest := []) (Cn := RX7) (T := TX7) C (mMo.kd m_12 k_a0 (by decide)) (by decide) vc_X7 (S_X7_notes (mMo.kd m_12 k_a0 (by decide)) h) (lw_V q1472 q1474 qs63 q112 q1475) rfl hd_X7_notes rfl rfl (Nat.le_of_ble_eq_true rfl) (Nat.le_of_ble_eq_true rfl) (Nat.le_of_ble_eq_true rfl) rfl rfl (Nat.le_of_ble_eq_true rfl) (Nat.le_of_ble_eq_true rfl) dX7_closesSums_43 (pc' := 46) rfl (fun M_13 h m_15 => ?_)
  refine r_aload_n C dX7_closesSums_46 (pc' := 47) rfl (j := 0) rfl ?_
  refine r_aload_n C dX7_closesSums_47 (pc' := 48) rfl (j := 0) rfl ?_
  refine r_getf C (Cn := RX7) (T := TX7) 11 (mMo.kd m_15 (mMo.kd m_12 k_a0 (by decide)) (by decide)) (by decide) vc_X7 in_X7 (by decide) q1235 dX7_closesSums_48 (pc' := 51) rfl (v := .int (mgI M_13 a0 11)) rfl ?_
  refine r_iconst C dX7_closesSums_51 (pc' := 52) rfl (v := 1) rfl ?_
  refine r_isub C dX7_closesSums_52 (pc' := 53) rfl ?_
  obtain ⟨M_16, e_17, h⟩ := bn_ h
  refine r_putI C (Cn := RX7) (T := TX7) tyX7 11 (mMo.kd m_15 (mMo.kd m_12 k_a0 (by decide)) (by decide)) (by decide) vc_X7 in_X7 tyX7_ok nmX7 (by decide) q1235 rfl rfl dX7_closesSums_53 (pc' := 56) rfl rfl rfl M_16 e_17 ?_
  refine r_goto C dX7_closesSums_56 (tgt := 0) (by decide) ?_
  refine r_sub (lv' := [(0, .ref a0), (1, .int x1)]) [0, 1] rfl ?_
  exact hR M_16 (mMo.tr (mMo.tr m_12 m_15) (mo_I e_17)) (mMo.kd (mo_I e_17) (mMo.kd m_15 (mMo.kd m_12 k_a0 (by decide)) (by decide)) (by decide)) h
set_option maxHeartbeats 4000000 in
theorem B_X7_closesSums_17 {E : mE} {M : MM} {a0 : Nat} {x1 : Int32} {R : MM → Prop} {X59 : MM → Prop} {Post : MM → Prop} (C : mC E yX7_closesSums cX7_closesSums 2 (none) { frames := 1, cells := 0, slots := 0, locals := 22 }) (hE : mEnd E { frames := 1, cells := 0, slots := 0, locals := 22 } (pV_ Post)) (k_a0 : mkd M a0 = 7) (h : wb_X7_closesSums_17 M a0 x1 R X59) (hR : ∀ (M' : MM), mMo M M' → mkd M' a0 = 7 → R M' → mV E M' 0 0 0 [(0, .ref a0), (1, .int x1)] []) (hX59 : ∀ (M' : MM), mMo M M' → X59 M' → mV E M' 0 0 59 [] []) : mV E M 0 0 17 [(0, .ref a0), (1, .int x1)] [] := by
  unfold wb_X7_closesSums_17 at h
  refine r_iload_n C dX7_closesSums_17 (pc' := 18) rfl (j := 1) rfl ?_
  refine r_if_eq C dX7_closesSums_18 (pc' := 21) rfl (tgt := 59) (by decide) (fun c_5 => ?_) (fun c_5 => ?_)
  · have h := it_t h c_5
    refine r_sub (lv' := []) [] rfl ?_
    exact hX59 M mMo.rf h
  · have h := it_f h c_5
    refine r_aload_n C dX7_closesSums_21 (pc' := 22) rfl (j := 0) rfl ?_
    refine r_callVi (As := []) (rest := []) (Cn := RX7) (T := TX7) C k_a0 (by decide) vc_X7 (S_X7_waitTop k_a0 h) (lw_V q1486 q1488 qs65 q112 q1489) rfl hd_X7_waitTop rfl rfl (Nat.le_of_ble_eq_true rfl) (Nat.le_of_ble_eq_true rfl) (Nat.le_of_ble_eq_true rfl) rfl rfl (Nat.le_of_ble_eq_true rfl) (Nat.le_of_ble_eq_true rfl) dX7_closesSums_22 (pc' := 25) rfl (fun r_7 M_6 h m_8 => ?_)
    refine r_iconst C dX7_closesSums_25 (pc' := 26) rfl (v := 2) rfl ?_
    refine r_icmp_eq C dX7_closesSums_26 (pc' := 29) rfl (tgt := 37) (by decide) (fun c_9 => ?_) (fun c_9 => ?_)
    · have h := it_t h c_9
      refine r_sub (lv' := [(0, .ref a0), (1, .int x1)]) [0, 1] rfl ?_
      exact B_X7_closesSums_37 C hE (mMo.kd m_8 k_a0 (by decide)) h (fun M8 hm8 g0 h8 => hR M8 (mMo.tr m_8 hm8) g0 h8) (fun M9 hm9 h9 => hX59 M9 (mMo.tr m_8 hm9) h9)
    · have h := it_f h c_9
      refine r_aload_n C dX7_closesSums_29 (pc' := 30) rfl (j := 0) rfl ?_
      refine r_callVi (As := []) (rest := []) (Cn := RX7) (T := TX7) C (mMo.kd m_8 k_a0 (by decide)) (by decide) vc_X7 (S_X7_waitTop (mMo.kd m_8 k_a0 (by decide)) h) (lw_V q1486 q1488 qs65 q112 q1489) rfl hd_X7_waitTop rfl rfl (Nat.le_of_ble_eq_true rfl) (Nat.le_of_ble_eq_true rfl) (Nat.le_of_ble_eq_true rfl) rfl rfl (Nat.le_of_ble_eq_true rfl) (Nat.le_of_ble_eq_true rfl) dX7_closesSums_30 (pc' := 33) rfl (fun r_19 M_18 h m_20 => ?_)
      refine r_iconst C dX7_closesSums_33 (pc' := 34) rfl (v := 3) rfl ?_
      refine r_icmp_ne C dX7_closesSums_34 (pc' := 37) rfl (tgt := 59) (by decide) (fun c_21 => ?_) (fun c_21 => ?_)
      · have h := it_f h c_21
        refine r_sub (lv' := []) [] rfl ?_
        exact hX59 M_18 (mMo.tr m_8 m_20) h
      · have h := it_t h c_21
        refine r_sub (lv' := [(0, .ref a0), (1, .int x1)]) [0, 1] rfl ?_
        exact B_X7_closesSums_37 C hE (mMo.kd m_20 (mMo.kd m_8 k_a0 (by decide)) (by decide)) h (fun M8 hm8 g0 h8 => hR M8 (mMo.tr (mMo.tr m_8 m_20) hm8) g0 h8) (fun M9 hm9 h9 => hX59 M9 (mMo.tr (mMo.tr m_8 m_20) hm9) h9)
set_option maxHeartbeats 4000000 in
theorem B_X7_closesSums_0 {E : mE} {a0 : Nat} {x1 : Int32} {X59 : MM → Prop} {Post : MM → Prop} (C : mC E yX7_closesSums cX7_closesSums 2 (none) { frames := 1, cells := 0, slots := 0, locals := 22 }) (hE : mEnd E { frames := 1, cells := 0, slots := 0, locals := 22 } (pV_ Post)) : ∀ (n_ : Nat) (M : MM), mkd M a0 = 7 → wl_X7_closesSums_0 a0 x1 X59 n_ M → (∀ (M' : MM), mMo M M' → X59 M' → mV E M' 0 0 59 [] []) → mV E M 0 0 0 [(0, .ref a0), (1, .int x1)] [] := by
  intro n_
  induction n_ with
  | zero =>
    intro M k_a0 h hX59
    exact absurd h (by rw [wl_X7_closesSums_0]; exact fun q => q)
  | succ n_ ih =>
    intro M k_a0 h hX59
    rw [wl_X7_closesSums_0] at h
    refine r_aload_n C dX7_closesSums_0 (pc' := 1) rfl (j := 0) rfl ?_
    refine r_callVi (As := []) (rest := []) (Cn := RX7) (T := TX7) C k_a0 (by decide) vc_X7 (S_X7_waitTop k_a0 h) (lw_V q1486 q1488 qs65 q112 q1489) rfl hd_X7_waitTop rfl rfl (Nat.le_of_ble_eq_true rfl) (Nat.le_of_ble_eq_true rfl) (Nat.le_of_ble_eq_true rfl) rfl rfl (Nat.le_of_ble_eq_true rfl) (Nat.le_of_ble_eq_true rfl) dX7_closesSums_1 (pc' := 4) rfl (fun r_2 M_1 h m_3 => ?_)
    refine r_iconst C dX7_closesSums_4 (pc' := 5) rfl (v := 4) rfl ?_
    refine r_icmp_lt C dX7_closesSums_5 (pc' := 8) rfl (tgt := 17) (by decide) (fun c_4 => ?_) (fun c_4 => ?_)
    · have h := it_t h c_4
      refine r_sub (lv' := [(0, .ref a0), (1, .int x1)]) [0, 1] rfl ?_
      exact B_X7_closesSums_17 C hE (mMo.kd m_3 k_a0 (by decide)) h (fun M8 hm8 g0 h8 => ih M8 g0 h8 (fun M9 hm9 h9 => hX59 M9 (mMo.tr (mMo.tr m_3 hm8) hm9) h9)) (fun M9 hm9 h9 => hX59 M9 (mMo.tr m_3 hm9) h9)
    · have h := it_f h c_4
      refine r_aload_n C dX7_closesSums_8 (pc' := 9) rfl (j := 0) rfl ?_
      refine r_callVi (As := []) (rest := []) (Cn := RX7) (T := TX7) C (mMo.kd m_3 k_a0 (by decide)) (by decide) vc_X7 (S_X7_waitTop (mMo.kd m_3 k_a0 (by decide)) h) (lw_V q1486 q1488 qs65 q112 q1489) rfl hd_X7_waitTop rfl rfl (Nat.le_of_ble_eq_true rfl) (Nat.le_of_ble_eq_true rfl) (Nat.le_of_ble_eq_true rfl) rfl rfl (Nat.le_of_ble_eq_true rfl) (Nat.le_of_ble_eq_true rfl) dX7_closesSums_9 (pc' := 12) rfl (fun r_23 M_22 h m_24 => ?_)
      refine r_bipush C dX7_closesSums_12 (pc' := 14) rfl (v := 6) rfl ?_
      refine r_icmp_le C dX7_closesSums_14 (pc' := 17) rfl (tgt := 37) (by decide) (fun c_25 => ?_) (fun c_25 => ?_)
      · have h := it_t h c_25
        refine r_sub (lv' := [(0, .ref a0), (1, .int x1)]) [0, 1] rfl ?_
        exact B_X7_closesSums_37 C hE (mMo.kd m_24 (mMo.kd m_3 k_a0 (by decide)) (by decide)) h (fun M8 hm8 g0 h8 => ih M8 g0 h8 (fun M9 hm9 h9 => hX59 M9 (mMo.tr (mMo.tr (mMo.tr m_3 m_24) hm8) hm9) h9)) (fun M9 hm9 h9 => hX59 M9 (mMo.tr (mMo.tr m_3 m_24) hm9) h9)
      · have h := it_f h c_25
        refine r_sub (lv' := [(0, .ref a0), (1, .int x1)]) [0, 1] rfl ?_
        exact B_X7_closesSums_17 C hE (mMo.kd m_24 (mMo.kd m_3 k_a0 (by decide)) (by decide)) h (fun M8 hm8 g0 h8 => ih M8 g0 h8 (fun M9 hm9 h9 => hX59 M9 (mMo.tr (mMo.tr (mMo.tr m_3 m_24) hm8) hm9) h9)) (fun M9 hm9 h9 => hX59 M9 (mMo.tr (mMo.tr m_3 m_24) hm9) h9)
set_option maxHeartbeats 4000000 in
theorem S_X7_closesSums {D : DD} {l : Launch} {M : MM} {a0 : Nat} {x1 : Int32} {Post : MM → Prop} (k_a0 : mkd M a0 = 7) (h : wp_X7_closesSums M a0 x1 Post) : mMet D l yX7_closesSums cX7_closesSums 2 (none) { frames := 1, cells := 0, slots := 0, locals := 22 } M [.ref a0, .int x1] (pV_ Post) := by
  refine m_of2 [(0, .ref a0), (1, .int x1)] (by decide +kernel) (Nat.le_of_ble_eq_true rfl) rfl (fun E hED hEl C hE => ?_)
  subst hED
  subst hEl
  unfold wp_X7_closesSums at h
  obtain ⟨n_26, h⟩ := h
  refine r_sub (lv' := [(0, .ref a0), (1, .int x1)]) [0, 1] rfl ?_
  refine B_X7_closesSums_0 C hE n_26 M k_a0 h (fun M_27 m_28 h => ?_)
  exact r_vret C hE (Nat.le_of_ble_eq_true rfl) (Nat.le_of_ble_eq_true rfl) dX7_closesSums_59 ⟨rfl, h⟩
set_option maxHeartbeats 4000000 in
theorem B_X7_hasOpenSum_2 {E : mE} {a0 : Nat} {X24 : MM → Prop} {X32 : MM → Prop} {Post : Int32 → MM → Prop} (C : mC E yX7_hasOpenSum cX7_hasOpenSum 3 ((some .boolean)) { frames := 0, cells := 0, slots := 0, locals := 0 }) (hE : mEnd E { frames := 0, cells := 0, slots := 0, locals := 0 } (pI_ Post)) : ∀ (n_ : Nat) (M : MM) (x2 : Int32), mkd M a0 = 7 → wl_X7_hasOpenSum_2 a0 X24 X32 n_ M x2 → (∀ (M' : MM), mMo M M' → X24 M' → mV E M' 0 0 24 [] []) → (∀ (M' : MM), mMo M M' → X32 M' → mV E M' 0 0 32 [] []) → mV E M 0 0 2 [(0, .ref a0), (2, .int x2)] [] := by
  intro n_
  induction n_ with
  | zero =>
    intro M x2 k_a0 h hX24 hX32
    exact absurd h (by rw [wl_X7_hasOpenSum_2]; exact fun q => q)
  | succ n_ ih =>
    intro M x2 k_a0 h hX24 hX32
    rw [wl_X7_hasOpenSum_2] at h
    refine r_iload_n C dX7_hasOpenSum_2 (pc' := 3) rfl (j := 1) rfl ?_
    refine r_aload_n C dX7_hasOpenSum_3 (pc' := 4) rfl (j := 0) rfl ?_
    refine r_getf C (Cn := RX7) (T := TX7) 11 k_a0 (by decide) vc_X7 in_X7 (by decide) q1235 dX7_hasOpenSum_4 (pc' := 7) rfl (v := .int (mgI M a0 11)) rfl ?_
    refine r_icmp_ge C dX7_hasOpenSum_7 (pc' := 10) rfl (tgt := 32) (by decide) (fun c_1 => ?_) (fun c_1 => ?_)
    · have h := it_t h c_1
      refine r_sub (lv' := []) [] rfl ?_
      exact hX32 M mMo.rf h
    · have h := it_f h c_1
      refine r_aload_n C dX7_hasOpenSum_10 (pc' := 11) rfl (j := 0) rfl ?_
      refine r_getf C (Cn := RX7) (T := TX7) 14 k_a0 (by decide) vc_X7 in_X7 (by decide) q1238 dX7_hasOpenSum_11 (pc' := 14) rfl (v := va_rf (mgR M a0 14)) rfl ?_
      obtain ⟨b_2, e_3, k_4, h⟩ := h
      refine r_ref [] e_3 ?_
      refine r_iload_n C dX7_hasOpenSum_14 (pc' := 15) rfl (j := 1) rfl ?_
      obtain ⟨c_5, h⟩ := h
      refine r_iald C (j := (ix_ x2)) k_4 c_5 rfl dX7_hasOpenSum_15 (pc' := 16) rfl ?_
      refine r_ldc C dX7_hasOpenSum_16 (pc' := 18) rfl q1463 ?_
      refine r_idiv C dX7_hasOpenSum_18 (pc' := 19) rfl (by decide) ?_
      refine r_bipush C dX7_hasOpenSum_19 (pc' := 21) rfl (v := 14) rfl ?_
      refine r_icmp_ne C dX7_hasOpenSum_21 (pc' := 24) rfl (tgt := 26) (by decide) (fun c_6 => ?_) (fun c_6 => ?_)
      · have h := it_f h c_6
        obtain ⟨x2_7, e_8, h⟩ := bn_ h
        refine r_iinc C (lv' := [(2, .int x2_7), (0, .ref a0)]) dX7_hasOpenSum_26 (pc' := 29) rfl (j := 1) rfl x2_7 (by rw [e_8]; rfl) (Nat.le_of_ble_eq_true rfl) rfl ?_
        refine r_goto C dX7_hasOpenSum_29 (tgt := 2) (by decide) ?_
        refine r_sub (lv' := [(0, .ref a0), (2, .int x2_7)]) [1, 0] rfl ?_
        exact ih M x2_7 k_a0 h (fun M9 hm9 h9 => hX24 M9 hm9 h9) (fun M9 hm9 h9 => hX32 M9 hm9 h9)
      · have h := it_t h c_6
        refine r_sub (lv' := []) [] rfl ?_
        exact hX24 M mMo.rf h
set_option maxHeartbeats 4000000 in
theorem S_X7_hasOpenSum {D : DD} {l : Launch} {M : MM} {a0 : Nat} {x1 : Int32} {Post : Int32 → MM → Prop} (k_a0 : mkd M a0 = 7) (h : wp_X7_hasOpenSum M a0 x1 Post) : mMet D l yX7_hasOpenSum cX7_hasOpenSum 3 ((some .boolean)) { frames := 0, cells := 0, slots := 0, locals := 0 } M [.ref a0, .int x1] (pI_ Post) := by
  refine m_of2 [(0, .ref a0), (1, .int x1)] (by decide +kernel) (Nat.le_of_ble_eq_true rfl) rfl (fun E hED hEl C hE => ?_)
  subst hED
  subst hEl
  unfold wp_X7_hasOpenSum at h
  refine r_iload_n C dX7_hasOpenSum_0 (pc' := 1) rfl (j := 1) rfl ?_
  refine r_istore_n C (lv' := [(2, .int x1), (0, .ref a0), (1, .int x1)]) dX7_hasOpenSum_1 (pc' := 2) rfl rfl x1 rfl (Nat.le_of_ble_eq_true rfl) rfl ?_
  obtain ⟨n_9, h⟩ := h
  refine r_sub (lv' := [(0, .ref a0), (2, .int x1)]) [1, 0] rfl ?_
  refine B_X7_hasOpenSum_2 C hE n_9 M x1 k_a0 h (fun M_10 m_11 h => ?_) (fun M_12 m_13 h => ?_)
  · refine r_iconst C dX7_hasOpenSum_24 (pc' := 25) rfl (v := 1) rfl ?_
    exact r_zret C hE (Or.inr rfl) (Nat.le_of_ble_eq_true rfl) (Nat.le_of_ble_eq_true rfl) dX7_hasOpenSum_25 ⟨_, rfl, h⟩
  · refine r_iconst C dX7_hasOpenSum_32 (pc' := 33) rfl (v := 0) rfl ?_
    exact r_zret C hE (Or.inl rfl) (Nat.le_of_ble_eq_true rfl) (Nat.le_of_ble_eq_true rfl) dX7_hasOpenSum_33 ⟨_, rfl, h⟩
set_option maxHeartbeats 4000000 in
theorem S_X7_factOf {D : DD} {l : Launch} {M : MM} {x0 : Int32} {Post : Int32 → MM → Prop} (h : wp_X7_factOf M x0 Post) : mMet D l yX7_factOf cX7_factOf 1 ((some .int)) { frames := 0, cells := 0, slots := 0, locals := 0 } M [.int x0] (pI_ Post) := by
  refine m_of2 [(0, .int x0)] (by decide +kernel) (Nat.le_of_ble_eq_true rfl) rfl (fun E hED hEl C hE => ?_)
  subst hED
  subst hEl
  unfold wp_X7_factOf at h
  refine r_iload_n C dX7_factOf_0 (pc' := 1) rfl (j := 0) rfl ?_
  by_cases c_1 : x0 = 97
  · have h := it_t h c_1
    refine r_tsIn C dX7_factOf_1 (off := 146) (tgt := 147) (by rw [c_1]; decide) (by rw [c_1]; decide) (by rw [c_1]; decide) (by decide) ?_
    refine r_bipush C dX7_factOf_147 (pc' := 149) rfl (v := 11) rfl ?_
    exact r_iret C hE (Nat.le_of_ble_eq_true rfl) (Nat.le_of_ble_eq_true rfl) dX7_factOf_149 ⟨_, rfl, h⟩
  have h := it_f h c_1
  by_cases c_2 : x0 = 98
  · have h := it_t h c_2
    refine r_tsIn C dX7_factOf_1 (off := 152) (tgt := 153) (by rw [c_2]; decide) (by rw [c_2]; decide) (by rw [c_2]; decide) (by decide) ?_
    refine r_iconst C dX7_factOf_153 (pc' := 154) rfl (v := -1) rfl ?_
    exact r_iret C hE (Nat.le_of_ble_eq_true rfl) (Nat.le_of_ble_eq_true rfl) dX7_factOf_154 ⟨_, rfl, h⟩
  have h := it_f h c_2
  by_cases c_3 : x0 = 99
  · have h := it_t h c_3
    refine r_tsIn C dX7_factOf_1 (off := 152) (tgt := 153) (by rw [c_3]; decide) (by rw [c_3]; decide) (by rw [c_3]; decide) (by decide) ?_
    refine r_iconst C dX7_factOf_153 (pc' := 154) rfl (v := -1) rfl ?_
    exact r_iret C hE (Nat.le_of_ble_eq_true rfl) (Nat.le_of_ble_eq_true rfl) dX7_factOf_154 ⟨_, rfl, h⟩
  have h := it_f h c_3
  by_cases c_4 : x0 = 100
  · have h := it_t h c_4
    refine r_tsIn C dX7_factOf_1 (off := 119) (tgt := 120) (by rw [c_4]; decide) (by rw [c_4]; decide) (by rw [c_4]; decide) (by decide) ?_
    refine r_iconst C dX7_factOf_120 (pc' := 121) rfl (v := 0) rfl ?_
    exact r_iret C hE (Nat.le_of_ble_eq_true rfl) (Nat.le_of_ble_eq_true rfl) dX7_factOf_121 ⟨_, rfl, h⟩
  have h := it_f h c_4
  by_cases c_5 : x0 = 101
  · have h := it_t h c_5
    refine r_tsIn C dX7_factOf_1 (off := 152) (tgt := 153) (by rw [c_5]; decide) (by rw [c_5]; decide) (by rw [c_5]; decide) (by decide) ?_
    refine r_iconst C dX7_factOf_153 (pc' := 154) rfl (v := -1) rfl ?_
    exact r_iret C hE (Nat.le_of_ble_eq_true rfl) (Nat.le_of_ble_eq_true rfl) dX7_factOf_154 ⟨_, rfl, h⟩
  have h := it_f h c_5
  by_cases c_6 : x0 = 102
  · have h := it_t h c_6
    refine r_tsIn C dX7_factOf_1 (off := 127) (tgt := 128) (by rw [c_6]; decide) (by rw [c_6]; decide) (by rw [c_6]; decide) (by decide) ?_
    refine r_iconst C dX7_factOf_128 (pc' := 129) rfl (v := 4) rfl ?_
    exact r_iret C hE (Nat.le_of_ble_eq_true rfl) (Nat.le_of_ble_eq_true rfl) dX7_factOf_129 ⟨_, rfl, h⟩
  have h := it_f h c_6
  by_cases c_7 : x0 = 103
  · have h := it_t h c_7
    refine r_tsIn C dX7_factOf_1 (off := 152) (tgt := 153) (by rw [c_7]; decide) (by rw [c_7]; decide) (by rw [c_7]; decide) (by decide) ?_
    refine r_iconst C dX7_factOf_153 (pc' := 154) rfl (v := -1) rfl ?_
    exact r_iret C hE (Nat.le_of_ble_eq_true rfl) (Nat.le_of_ble_eq_true rfl) dX7_factOf_154 ⟨_, rfl, h⟩
  have h := it_f h c_7
  by_cases c_8 : x0 = 104
  · have h := it_t h c_8
    refine r_tsIn C dX7_factOf_1 (off := 152) (tgt := 153) (by rw [c_8]; decide) (by rw [c_8]; decide) (by rw [c_8]; decide) (by decide) ?_
    refine r_iconst C dX7_factOf_153 (pc' := 154) rfl (v := -1) rfl ?_
    exact r_iret C hE (Nat.le_of_ble_eq_true rfl) (Nat.le_of_ble_eq_true rfl) dX7_factOf_154 ⟨_, rfl, h⟩
  have h := it_f h c_8
  by_cases c_9 : x0 = 105
  · have h := it_t h c_9
    refine r_tsIn C dX7_factOf_1 (off := 152) (tgt := 153) (by rw [c_9]; decide) (by rw [c_9]; decide) (by rw [c_9]; decide) (by decide) ?_
    refine r_iconst C dX7_factOf_153 (pc' := 154) rfl (v := -1) rfl ?_
    exact r_iret C hE (Nat.le_of_ble_eq_true rfl) (Nat.le_of_ble_eq_true rfl) dX7_factOf_154 ⟨_, rfl, h⟩
  have h := it_f h c_9
  by_cases c_10 : x0 = 106
  · have h := it_t h c_10
    refine r_tsIn C dX7_factOf_1 (off := 152) (tgt := 153) (by rw [c_10]; decide) (by rw [c_10]; decide) (by rw [c_10]; decide) (by decide) ?_
    refine r_iconst C dX7_factOf_153 (pc' := 154) rfl (v := -1) rfl ?_
    exact r_iret C hE (Nat.le_of_ble_eq_true rfl) (Nat.le_of_ble_eq_true rfl) dX7_factOf_154 ⟨_, rfl, h⟩
  have h := it_f h c_10
  by_cases c_11 : x0 = 107
  · have h := it_t h c_11
    refine r_tsIn C dX7_factOf_1 (off := 152) (tgt := 153) (by rw [c_11]; decide) (by rw [c_11]; decide) (by rw [c_11]; decide) (by decide) ?_
    refine r_iconst C dX7_factOf_153 (pc' := 154) rfl (v := -1) rfl ?_
    exact r_iret C hE (Nat.le_of_ble_eq_true rfl) (Nat.le_of_ble_eq_true rfl) dX7_factOf_154 ⟨_, rfl, h⟩
  have h := it_f h c_11
  by_cases c_12 : x0 = 108
  · have h := it_t h c_12
    refine r_tsIn C dX7_factOf_1 (off := 123) (tgt := 124) (by rw [c_12]; decide) (by rw [c_12]; decide) (by rw [c_12]; decide) (by decide) ?_
    refine r_iconst C dX7_factOf_124 (pc' := 125) rfl (v := 2) rfl ?_
    exact r_iret C hE (Nat.le_of_ble_eq_true rfl) (Nat.le_of_ble_eq_true rfl) dX7_factOf_125 ⟨_, rfl, h⟩
  have h := it_f h c_12
  by_cases c_13 : x0 = 109
  · have h := it_t h c_13
    refine r_tsIn C dX7_factOf_1 (off := 152) (tgt := 153) (by rw [c_13]; decide) (by rw [c_13]; decide) (by rw [c_13]; decide) (by decide) ?_
    refine r_iconst C dX7_factOf_153 (pc' := 154) rfl (v := -1) rfl ?_
    exact r_iret C hE (Nat.le_of_ble_eq_true rfl) (Nat.le_of_ble_eq_true rfl) dX7_factOf_154 ⟨_, rfl, h⟩
  have h := it_f h c_13
  by_cases c_14 : x0 = 110
  · have h := it_t h c_14
    refine r_tsIn C dX7_factOf_1 (off := 143) (tgt := 144) (by rw [c_14]; decide) (by rw [c_14]; decide) (by rw [c_14]; decide) (by decide) ?_
    refine r_bipush C dX7_factOf_144 (pc' := 146) rfl (v := 10) rfl ?_
    exact r_iret C hE (Nat.le_of_ble_eq_true rfl) (Nat.le_of_ble_eq_true rfl) dX7_factOf_146 ⟨_, rfl, h⟩
  have h := it_f h c_14
  by_cases c_15 : x0 = 111
  · have h := it_t h c_15
    refine r_tsIn C dX7_factOf_1 (off := 125) (tgt := 126) (by rw [c_15]; decide) (by rw [c_15]; decide) (by rw [c_15]; decide) (by decide) ?_
    refine r_iconst C dX7_factOf_126 (pc' := 127) rfl (v := 3) rfl ?_
    exact r_iret C hE (Nat.le_of_ble_eq_true rfl) (Nat.le_of_ble_eq_true rfl) dX7_factOf_127 ⟨_, rfl, h⟩
  have h := it_f h c_15
  by_cases c_16 : x0 = 112
  · have h := it_t h c_16
    refine r_tsIn C dX7_factOf_1 (off := 137) (tgt := 138) (by rw [c_16]; decide) (by rw [c_16]; decide) (by rw [c_16]; decide) (by decide) ?_
    refine r_bipush C dX7_factOf_138 (pc' := 140) rfl (v := 8) rfl ?_
    exact r_iret C hE (Nat.le_of_ble_eq_true rfl) (Nat.le_of_ble_eq_true rfl) dX7_factOf_140 ⟨_, rfl, h⟩
  have h := it_f h c_16
  by_cases c_17 : x0 = 113
  · have h := it_t h c_17
    refine r_tsIn C dX7_factOf_1 (off := 149) (tgt := 150) (by rw [c_17]; decide) (by rw [c_17]; decide) (by rw [c_17]; decide) (by decide) ?_
    refine r_bipush C dX7_factOf_150 (pc' := 152) rfl (v := 12) rfl ?_
    exact r_iret C hE (Nat.le_of_ble_eq_true rfl) (Nat.le_of_ble_eq_true rfl) dX7_factOf_152 ⟨_, rfl, h⟩
  have h := it_f h c_17
  by_cases c_18 : x0 = 114
  · have h := it_t h c_18
    refine r_tsIn C dX7_factOf_1 (off := 152) (tgt := 153) (by rw [c_18]; decide) (by rw [c_18]; decide) (by rw [c_18]; decide) (by decide) ?_
    refine r_iconst C dX7_factOf_153 (pc' := 154) rfl (v := -1) rfl ?_
    exact r_iret C hE (Nat.le_of_ble_eq_true rfl) (Nat.le_of_ble_eq_true rfl) dX7_factOf_154 ⟨_, rfl, h⟩
  have h := it_f h c_18
  by_cases c_19 : x0 = 115
  · have h := it_t h c_19
    refine r_tsIn C dX7_factOf_1 (off := 129) (tgt := 130) (by rw [c_19]; decide) (by rw [c_19]; decide) (by rw [c_19]; decide) (by decide) ?_
    refine r_iconst C dX7_factOf_130 (pc' := 131) rfl (v := 5) rfl ?_
    exact r_iret C hE (Nat.le_of_ble_eq_true rfl) (Nat.le_of_ble_eq_true rfl) dX7_factOf_131 ⟨_, rfl, h⟩
  have h := it_f h c_19
  by_cases c_20 : x0 = 116
  · have h := it_t h c_20
    refine r_tsIn C dX7_factOf_1 (off := 140) (tgt := 141) (by rw [c_20]; decide) (by rw [c_20]; decide) (by rw [c_20]; decide) (by decide) ?_
    refine r_bipush C dX7_factOf_141 (pc' := 143) rfl (v := 9) rfl ?_
    exact r_iret C hE (Nat.le_of_ble_eq_true rfl) (Nat.le_of_ble_eq_true rfl) dX7_factOf_143 ⟨_, rfl, h⟩
  have h := it_f h c_20
  by_cases c_21 : x0 = 117
  · have h := it_t h c_21
    refine r_tsIn C dX7_factOf_1 (off := 152) (tgt := 153) (by rw [c_21]; decide) (by rw [c_21]; decide) (by rw [c_21]; decide) (by decide) ?_
    refine r_iconst C dX7_factOf_153 (pc' := 154) rfl (v := -1) rfl ?_
    exact r_iret C hE (Nat.le_of_ble_eq_true rfl) (Nat.le_of_ble_eq_true rfl) dX7_factOf_154 ⟨_, rfl, h⟩
  have h := it_f h c_21
  by_cases c_22 : x0 = 118
  · have h := it_t h c_22
    refine r_tsIn C dX7_factOf_1 (off := 152) (tgt := 153) (by rw [c_22]; decide) (by rw [c_22]; decide) (by rw [c_22]; decide) (by decide) ?_
    refine r_iconst C dX7_factOf_153 (pc' := 154) rfl (v := -1) rfl ?_
    exact r_iret C hE (Nat.le_of_ble_eq_true rfl) (Nat.le_of_ble_eq_true rfl) dX7_factOf_154 ⟨_, rfl, h⟩
  have h := it_f h c_22
  by_cases c_23 : x0 = 119
  · have h := it_t h c_23
    refine r_tsIn C dX7_factOf_1 (off := 121) (tgt := 122) (by rw [c_23]; decide) (by rw [c_23]; decide) (by rw [c_23]; decide) (by decide) ?_
    refine r_iconst C dX7_factOf_122 (pc' := 123) rfl (v := 1) rfl ?_
    exact r_iret C hE (Nat.le_of_ble_eq_true rfl) (Nat.le_of_ble_eq_true rfl) dX7_factOf_123 ⟨_, rfl, h⟩
  have h := it_f h c_23
  by_cases c_24 : x0 = 120
  · have h := it_t h c_24
    refine r_tsIn C dX7_factOf_1 (off := 152) (tgt := 153) (by rw [c_24]; decide) (by rw [c_24]; decide) (by rw [c_24]; decide) (by decide) ?_
    refine r_iconst C dX7_factOf_153 (pc' := 154) rfl (v := -1) rfl ?_
    exact r_iret C hE (Nat.le_of_ble_eq_true rfl) (Nat.le_of_ble_eq_true rfl) dX7_factOf_154 ⟨_, rfl, h⟩
  have h := it_f h c_24
  by_cases c_25 : x0 = 121
  · have h := it_t h c_25
    refine r_tsIn C dX7_factOf_1 (off := 131) (tgt := 132) (by rw [c_25]; decide) (by rw [c_25]; decide) (by rw [c_25]; decide) (by decide) ?_
    refine r_bipush C dX7_factOf_132 (pc' := 134) rfl (v := 6) rfl ?_
    exact r_iret C hE (Nat.le_of_ble_eq_true rfl) (Nat.le_of_ble_eq_true rfl) dX7_factOf_134 ⟨_, rfl, h⟩
  have h := it_f h c_25
  by_cases c_26 : x0 = 122
  · have h := it_t h c_26
    refine r_tsIn C dX7_factOf_1 (off := 134) (tgt := 135) (by rw [c_26]; decide) (by rw [c_26]; decide) (by rw [c_26]; decide) (by decide) ?_
    refine r_bipush C dX7_factOf_135 (pc' := 137) rfl (v := 7) rfl ?_
    exact r_iret C hE (Nat.le_of_ble_eq_true rfl) (Nat.le_of_ble_eq_true rfl) dX7_factOf_137 ⟨_, rfl, h⟩
  have h := it_f h c_26
  have c_1 := lv_neT c_1 (show ((97 : Int32)).toInt = 97 from by decide)
  have c_2 := lv_neT c_2 (show ((98 : Int32)).toInt = 98 from by decide)
  have c_3 := lv_neT c_3 (show ((99 : Int32)).toInt = 99 from by decide)
  have c_4 := lv_neT c_4 (show ((100 : Int32)).toInt = 100 from by decide)
  have c_5 := lv_neT c_5 (show ((101 : Int32)).toInt = 101 from by decide)
  have c_6 := lv_neT c_6 (show ((102 : Int32)).toInt = 102 from by decide)
  have c_7 := lv_neT c_7 (show ((103 : Int32)).toInt = 103 from by decide)
  have c_8 := lv_neT c_8 (show ((104 : Int32)).toInt = 104 from by decide)
  have c_9 := lv_neT c_9 (show ((105 : Int32)).toInt = 105 from by decide)
  have c_10 := lv_neT c_10 (show ((106 : Int32)).toInt = 106 from by decide)
  have c_11 := lv_neT c_11 (show ((107 : Int32)).toInt = 107 from by decide)
  have c_12 := lv_neT c_12 (show ((108 : Int32)).toInt = 108 from by decide)
  have c_13 := lv_neT c_13 (show ((109 : Int32)).toInt = 109 from by decide)
  have c_14 := lv_neT c_14 (show ((110 : Int32)).toInt = 110 from by decide)
  have c_15 := lv_neT c_15 (show ((111 : Int32)).toInt = 111 from by decide)
  have c_16 := lv_neT c_16 (show ((112 : Int32)).toInt = 112 from by decide)
  have c_17 := lv_neT c_17 (show ((113 : Int32)).toInt = 113 from by decide)
  have c_18 := lv_neT c_18 (show ((114 : Int32)).toInt = 114 from by decide)
  have c_19 := lv_neT c_19 (show ((115 : Int32)).toInt = 115 from by decide)
  have c_20 := lv_neT c_20 (show ((116 : Int32)).toInt = 116 from by decide)
  have c_21 := lv_neT c_21 (show ((117 : Int32)).toInt = 117 from by decide)
  have c_22 := lv_neT c_22 (show ((118 : Int32)).toInt = 118 from by decide)
  have c_23 := lv_neT c_23 (show ((119 : Int32)).toInt = 119 from by decide)
  have c_24 := lv_neT c_24 (show ((120 : Int32)).toInt = 120 from by decide)
  have c_25 := lv_neT c_25 (show ((121 : Int32)).toInt = 121 from by decide)
  have c_26 := lv_neT c_26 (show ((122 : Int32)).toInt = 122 from by decide)
  refine r_tsOut C dX7_factOf_1 (tgt := 153) (by omega) (by decide) ?_
  refine r_iconst C dX7_factOf_153 (pc' := 154) rfl (v := -1) rfl ?_
  exact r_iret C hE (Nat.le_of_ble_eq_true rfl) (Nat.le_of_ble_eq_true rfl) dX7_factOf_154 ⟨_, rfl, h⟩
set_option maxHeartbeats 4000000 in
theorem S_X7_isDigit {D : DD} {l : Launch} {M : MM} {a0 : Nat} {Post : Int32 → MM → Prop} (k_a0 : mkd M a0 = 7) (h : wp_X7_isDigit M a0 Post) : mMet D l yX7_isDigit cX7_isDigit 1 ((some .boolean)) { frames := 1, cells := 0, slots := 0, locals := 20 } M [.ref a0] (pI_ Post) := by
  refine m_of2 [(0, .ref a0)] (by decide +kernel) (Nat.le_of_ble_eq_true rfl) rfl (fun E hED hEl C hE => ?_)
  subst hED
  subst hEl
  unfold wp_X7_isDigit at h
  refine r_aload_n C dX7_isDigit_0 (pc' := 1) rfl (j := 0) rfl ?_
  refine r_callVi (As := []) (rest := []) (Cn := RX7) (T := TX7) C k_a0 (by decide) vc_X7 (S_X7_here k_a0 h) (lw_V q1440 q1442 qs56 q112 q1443) rfl hd_X7_here rfl rfl (Nat.le_of_ble_eq_true rfl) (Nat.le_of_ble_eq_true rfl) (Nat.le_of_ble_eq_true rfl) rfl rfl (Nat.le_of_ble_eq_true rfl) (Nat.le_of_ble_eq_true rfl) dX7_isDigit_1 (pc' := 4) rfl (fun r_2 M_1 h m_3 => ?_)
  refine r_bipush C dX7_isDigit_4 (pc' := 6) rfl (v := 48) rfl ?_
  refine r_icmp_lt C dX7_isDigit_6 (pc' := 9) rfl (tgt := 22) (by decide) (fun c_4 => ?_) (fun c_4 => ?_)
  · have h := it_t h c_4
    refine r_iconst C dX7_isDigit_22 (pc' := 23) rfl (v := 0) rfl ?_
    exact r_zret C hE (Or.inl rfl) (Nat.le_of_ble_eq_true rfl) (Nat.le_of_ble_eq_true rfl) dX7_isDigit_23 ⟨_, rfl, h⟩
  · have h := it_f h c_4
    refine r_aload_n C dX7_isDigit_9 (pc' := 10) rfl (j := 0) rfl ?_
    refine r_callVi (As := []) (rest := []) (Cn := RX7) (T := TX7) C (mMo.kd m_3 k_a0 (by decide)) (by decide) vc_X7 (S_X7_here (mMo.kd m_3 k_a0 (by decide)) h) (lw_V q1440 q1442 qs56 q112 q1443) rfl hd_X7_here rfl rfl (Nat.le_of_ble_eq_true rfl) (Nat.le_of_ble_eq_true rfl) (Nat.le_of_ble_eq_true rfl) rfl rfl (Nat.le_of_ble_eq_true rfl) (Nat.le_of_ble_eq_true rfl) dX7_isDigit_10 (pc' := 13) rfl (fun r_6 M_5 h m_7 => ?_)
    refine r_bipush C dX7_isDigit_13 (pc' := 15) rfl (v := 57) rfl ?_
    refine r_icmp_gt C dX7_isDigit_15 (pc' := 18) rfl (tgt := 22) (by decide) (fun c_8 => ?_) (fun c_8 => ?_)
    · have h := it_t h c_8
      refine r_iconst C dX7_isDigit_22 (pc' := 23) rfl (v := 0) rfl ?_
      exact r_zret C hE (Or.inl rfl) (Nat.le_of_ble_eq_true rfl) (Nat.le_of_ble_eq_true rfl) dX7_isDigit_23 ⟨_, rfl, h⟩
    · have h := it_f h c_8
      refine r_iconst C dX7_isDigit_18 (pc' := 19) rfl (v := 1) rfl ?_
      refine r_goto C dX7_isDigit_19 (tgt := 23) (by decide) ?_
      exact r_zret C hE (Or.inr rfl) (Nat.le_of_ble_eq_true rfl) (Nat.le_of_ble_eq_true rfl) dX7_isDigit_23 ⟨_, rfl, h⟩
set_option maxHeartbeats 4000000 in
theorem B_X7_readsNumber_10 {E : mE} {a0 : Nat} {x1 : Int32} {X27 : MM → Prop} {X69 : MM → Prop} {Post : Int32 → MM → Prop} (C : mC E yX7_readsNumber cX7_readsNumber 2 ((some .boolean)) { frames := 2, cells := 0, slots := 0, locals := 40 }) (hE : mEnd E { frames := 2, cells := 0, slots := 0, locals := 40 } (pI_ Post)) : ∀ (n_ : Nat) (M : MM), mkd M a0 = 7 → wl_X7_readsNumber_10 a0 x1 X27 X69 n_ M → (∀ (M' : MM), mMo M M' → X27 M' → mV E M' 0 0 27 [(0, .ref a0)] []) → (∀ (M' : MM), mMo M M' → X69 M' → mV E M' 0 0 69 [] []) → mV E M 0 0 10 [(0, .ref a0), (1, .int x1)] [] := by
  intro n_
  induction n_ with
  | zero =>
    intro M k_a0 h hX27 hX69
    exact absurd h (by rw [wl_X7_readsNumber_10]; exact fun q => q)
  | succ n_ ih =>
    intro M k_a0 h hX27 hX69
    rw [wl_X7_readsNumber_10] at h
    refine r_aload_n C dX7_readsNumber_10 (pc' := 11) rfl (j := 0) rfl ?_
    refine r_callVi (As := []) (rest := []) (Cn := RX7) (T := TX7) C k_a0 (by decide) vc_X7 (S_X7_isDigit k_a0 h) (lw_V q1464 q1466 qs61 q112 q1467) rfl hd_X7_isDigit rfl rfl (Nat.le_of_ble_eq_true rfl) (Nat.le_of_ble_eq_true rfl) (Nat.le_of_ble_eq_true rfl) rfl rfl (Nat.le_of_ble_eq_true rfl) (Nat.le_of_ble_eq_true rfl) dX7_readsNumber_11 (pc' := 14) rfl (fun r_6 M_5 h m_7 => ?_)
    refine r_if_eq C dX7_readsNumber_14 (pc' := 17) rfl (tgt := 69) (by decide) (fun c_8 => ?_) (fun c_8 => ?_)
    · have h := it_t h c_8
      refine r_sub (lv' := []) [] rfl ?_
      exact hX69 M_5 m_7 h
    · have h := it_f h c_8
      refine r_aload_n C dX7_readsNumber_17 (pc' := 18) rfl (j := 0) rfl ?_
      refine r_getf C (Cn := RX7) (T := TX7) 5 (mMo.kd m_7 k_a0 (by decide)) (by decide) vc_X7 in_X7 (by decide) q1229 dX7_readsNumber_18 (pc' := 21) rfl (v := .int (mgI M_5 a0 5)) rfl ?_
      refine r_iload_n C dX7_readsNumber_21 (pc' := 22) rfl (j := 1) rfl ?_
      refine r_iconst C dX7_readsNumber_22 (pc' := 23) rfl (v := 5) rfl ?_
      refine r_iadd C dX7_readsNumber_23 (pc' := 24) rfl ?_
      refine r_icmp_ne C dX7_readsNumber_24 (pc' := 27) rfl (tgt := 37) (by decide) (fun c_9 => ?_) (fun c_9 => ?_)
      · have h := it_f h c_9
        refine r_aload_n C dX7_readsNumber_37 (pc' := 38) rfl (j := 0) rfl ?_
        refine r_bipush C dX7_readsNumber_38 (pc' := 40) rfl (v := 10) rfl ?_
        refine r_aload_n C dX7_readsNumber_40 (pc' := 41) rfl (j := 0) rfl ?_
        refine r_getf C (Cn := RX7) (T := TX7) 8 (mMo.kd m_7 k_a0 (by decide)) (by decide) vc_X7 in_X7 (by decide) q1232 dX7_readsNumber_41 (pc' := 44) rfl (v := .int (mgI M_5 a0 8)) rfl ?_
        refine r_imul C dX7_readsNumber_44 (pc' := 45) rfl ?_
        refine r_aload_n C dX7_readsNumber_45 (pc' := 46) rfl (j := 0) rfl ?_
        refine r_callVi (As := []) (rest := [.int ((10 : Int32) * (mgI M_5 a0 8)), .ref a0]) (Cn := RX7) (T := TX7) C (mMo.kd m_7 k_a0 (by decide)) (by decide) vc_X7 (S_X7_here (mMo.kd m_7 k_a0 (by decide)) h) (lw_V q1440 q1442 qs56 q112 q1443) rfl hd_X7_here rfl rfl (Nat.le_of_ble_eq_true rfl) (Nat.le_of_ble_eq_true rfl) (Nat.le_of_ble_eq_true rfl) rfl rfl (Nat.le_of_ble_eq_true rfl) (Nat.le_of_ble_eq_true rfl) dX7_readsNumber_46 (pc' := 49) rfl (fun r_11 M_10 h m_12 => ?_)
        refine r_iadd C dX7_readsNumber_49 (pc' := 50) rfl ?_
        refine r_bipush C dX7_readsNumber_50 (pc' := 52) rfl (v := 48) rfl ?_
        refine r_isub C dX7_readsNumber_52 (pc' := 53) rfl ?_
        obtain ⟨M_13, e_14, h⟩ := bn_ h
        refine r_putI C (Cn := RX7) (T := TX7) tyX7 8 (mMo.kd m_12 (mMo.kd m_7 k_a0 (by decide)) (by decide)) (by decide) vc_X7 in_X7 tyX7_ok nmX7 (by decide) q1232 rfl rfl dX7_readsNumber_53 (pc' := 56) rfl rfl rfl M_13 e_14 ?_
        refine r_aload_n C dX7_readsNumber_56 (pc' := 57) rfl (j := 0) rfl ?_
        refine r_aload_n C dX7_readsNumber_57 (pc' := 58) rfl (j := 0) rfl ?_
        refine r_getf C (Cn := RX7) (T := TX7) 5 (mMo.kd (mo_I e_14) (mMo.kd m_12 (mMo.kd m_7 k_a0 (by decide)) (by decide)) (by decide)) (by decide) vc_X7 in_X7 (by decide) q1229 dX7_readsNumber_58 (pc' := 61) rfl (v := .int (mgI M_13 a0 5)) rfl ?_
        refine r_iconst C dX7_readsNumber_61 (pc' := 62) rfl (v := 1) rfl ?_
        refine r_iadd C dX7_readsNumber_62 (pc' := 63) rfl ?_
        obtain ⟨M_15, e_16, h⟩ := bn_ h
        refine r_putI C (Cn := RX7) (T := TX7) tyX7 5 (mMo.kd (mo_I e_14) (mMo.kd m_12 (mMo.kd m_7 k_a0 (by decide)) (by decide)) (by decide)) (by decide) vc_X7 in_X7 tyX7_ok nmX7 (by decide) q1229 rfl rfl dX7_readsNumber_63 (pc' := 66) rfl rfl rfl M_15 e_16 ?_
        refine r_goto C dX7_readsNumber_66 (tgt := 10) (by decide) ?_
        refine r_sub (lv' := [(0, .ref a0), (1, .int x1)]) [0, 1] rfl ?_
        exact ih M_15 (mMo.kd (mo_I e_16) (mMo.kd (mo_I e_14) (mMo.kd m_12 (mMo.kd m_7 k_a0 (by decide)) (by decide)) (by decide)) (by decide)) h (fun M9 hm9 h9 => hX27 M9 (mMo.tr (mMo.tr (mMo.tr (mMo.tr m_7 m_12) (mo_I e_14)) (mo_I e_16)) hm9) h9) (fun M9 hm9 h9 => hX69 M9 (mMo.tr (mMo.tr (mMo.tr (mMo.tr m_7 m_12) (mo_I e_14)) (mo_I e_16)) hm9) h9)
      · have h := it_t h c_9
        refine r_sub (lv' := [(0, .ref a0)]) [0] rfl ?_
        exact hX27 M_5 m_7 h
set_option maxHeartbeats 4000000 in
theorem S_X7_readsNumber {D : DD} {l : Launch} {M : MM} {a0 : Nat} {Post : Int32 → MM → Prop} (k_a0 : mkd M a0 = 7) (h : wp_X7_readsNumber M a0 Post) : mMet D l yX7_readsNumber cX7_readsNumber 2 ((some .boolean)) { frames := 2, cells := 0, slots := 0, locals := 40 } M [.ref a0] (pI_ Post) := by
  refine m_of2 [(0, .ref a0)] (by decide +kernel) (Nat.le_of_ble_eq_true rfl) rfl (fun E hED hEl C hE => ?_)
  subst hED
  subst hEl
  unfold wp_X7_readsNumber at h
  refine r_aload_n C dX7_readsNumber_0 (pc' := 1) rfl (j := 0) rfl ?_
  refine r_getf C (Cn := RX7) (T := TX7) 5 k_a0 (by decide) vc_X7 in_X7 (by decide) q1229 dX7_readsNumber_1 (pc' := 4) rfl (v := .int (mgI M a0 5)) rfl ?_
  obtain ⟨x1_1, e_2, h⟩ := bn_ h
  refine r_istore_n C (lv' := [(1, .int x1_1), (0, .ref a0)]) dX7_readsNumber_4 (pc' := 5) rfl rfl x1_1 e_2 (Nat.le_of_ble_eq_true rfl) rfl ?_
  refine r_aload_n C dX7_readsNumber_5 (pc' := 6) rfl (j := 1) rfl ?_
  refine r_iconst C dX7_readsNumber_6 (pc' := 7) rfl (v := 0) rfl ?_
  obtain ⟨M_3, e_4, h⟩ := bn_ h
  refine r_putI C (Cn := RX7) (T := TX7) tyX7 8 k_a0 (by decide) vc_X7 in_X7 tyX7_ok nmX7 (by decide) q1232 rfl rfl dX7_readsNumber_7 (pc' := 10) rfl rfl rfl M_3 e_4 ?_
  obtain ⟨n_17, h⟩ := h
  refine r_sub (lv' := [(0, .ref a0), (1, .int x1_1)]) [1, 0] rfl ?_
  refine B_X7_readsNumber_10 C hE n_17 M_3 (mMo.kd (mo_I e_4) k_a0 (by decide)) h (fun M_18 m_19 h => ?_) (fun M_24 m_25 h => ?_)
  · refine r_aload_n C dX7_readsNumber_27 (pc' := 28) rfl (j := 0) rfl ?_
    refine r_iconst C dX7_readsNumber_28 (pc' := 29) rfl (v := 2) rfl ?_
    refine r_aload_n C dX7_readsNumber_29 (pc' := 30) rfl (j := 0) rfl ?_
    refine r_getf C (Cn := RX7) (T := TX7) 5 (mMo.kd m_19 (mMo.kd (mo_I e_4) k_a0 (by decide)) (by decide)) (by decide) vc_X7 in_X7 (by decide) q1229 dX7_readsNumber_30 (pc' := 33) rfl (v := .int (mgI M_18 a0 5)) rfl ?_
    refine r_callVi (As := [.int (2 : Int32), .int (mgI M_18 a0 5)]) (rest := []) (Cn := RX7) (T := TX7) C (mMo.kd m_19 (mMo.kd (mo_I e_4) k_a0 (by decide)) (by decide)) (by decide) vc_X7 (S_X7_wrongAt (mMo.kd m_19 (mMo.kd (mo_I e_4) k_a0 (by decide)) (by decide)) h) (lw_V q1447 q1449 qs57 q112 q1450) rfl hd_X7_wrongAt rfl rfl (Nat.le_of_ble_eq_true rfl) (Nat.le_of_ble_eq_true rfl) (Nat.le_of_ble_eq_true rfl) rfl rfl (Nat.le_of_ble_eq_true rfl) (Nat.le_of_ble_eq_true rfl) dX7_readsNumber_33 (pc' := 36) rfl (fun r_21 M_20 h m_22 => ?_)
    obtain ⟨c_23, h⟩ := h
    exact r_zret C hE c_23 (Nat.le_of_ble_eq_true rfl) (Nat.le_of_ble_eq_true rfl) dX7_readsNumber_36 ⟨_, rfl, h⟩
  · refine r_iconst C dX7_readsNumber_69 (pc' := 70) rfl (v := 1) rfl ?_
    exact r_zret C hE (Or.inr rfl) (Nat.le_of_ble_eq_true rfl) (Nat.le_of_ble_eq_true rfl) dX7_readsNumber_70 ⟨_, rfl, h⟩
set_option maxHeartbeats 4000000 in
theorem B_X7_readsFactor_0 {E : mE} {a0 : Nat} {X18 : MM → Prop} {X20 : MM → Prop} {Post : Int32 → MM → Prop} (C : mC E yX7_readsFactor cX7_readsFactor 2 ((some .boolean)) { frames := 3, cells := 0, slots := 0, locals := 61 }) (hE : mEnd E { frames := 3, cells := 0, slots := 0, locals := 61 } (pI_ Post)) : ∀ (n_ : Nat) (M : MM), mkd M a0 = 7 → wl_X7_readsFactor_0 a0 X18 X20 n_ M → (∀ (M' : MM), mMo M M' → X18 M' → mV E M' 0 0 18 [] []) → (∀ (M' : MM), mMo M M' → X20 M' → mV E M' 0 0 20 [(0, .ref a0)] []) → mV E M 0 0 0 [(0, .ref a0)] [] := by
  intro n_
  induction n_ with
  | zero =>
    intro M k_a0 h hX18 hX20
    exact absurd h (by rw [wl_X7_readsFactor_0]; exact fun q => q)
  | succ n_ ih =>
    intro M k_a0 h hX18 hX20
    rw [wl_X7_readsFactor_0] at h
    refine r_aload_n C dX7_readsFactor_0 (pc' := 1) rfl (j := 0) rfl ?_
    refine r_callVi (As := []) (rest := []) (Cn := RX7) (T := TX7) C k_a0 (by decide) vc_X7 (S_X7_here k_a0 h) (lw_V q1440 q1442 qs56 q112 q1443) rfl hd_X7_here rfl rfl (Nat.le_of_ble_eq_true rfl) (Nat.le_of_ble_eq_true rfl) (Nat.le_of_ble_eq_true rfl) rfl rfl (Nat.le_of_ble_eq_true rfl) (Nat.le_of_ble_eq_true rfl) dX7_readsFactor_1 (pc' := 4) rfl (fun r_2 M_1 h m_3 => ?_)
    refine r_bipush C dX7_readsFactor_4 (pc' := 6) rfl (v := 91) rfl ?_
    refine r_icmp_ne C dX7_readsFactor_6 (pc' := 9) rfl (tgt := 20) (by decide) (fun c_4 => ?_) (fun c_4 => ?_)
    · have h := it_f h c_4
      refine r_sub (lv' := [(0, .ref a0)]) [0] rfl ?_
      exact hX20 M_1 m_3 h
    · have h := it_t h c_4
      refine r_aload_n C dX7_readsFactor_9 (pc' := 10) rfl (j := 0) rfl ?_
      refine r_bipush C dX7_readsFactor_10 (pc' := 12) rfl (v := 14) rfl ?_
      refine r_callVi (As := [.int (14 : Int32)]) (rest := []) (Cn := RX7) (T := TX7) C (mMo.kd m_3 k_a0 (by decide)) (by decide) vc_X7 (S_X7_opens (mMo.kd m_3 k_a0 (by decide)) h) (lw_V q1459 q1461 qs60 q112 q1462) rfl hd_X7_opens rfl rfl (Nat.le_of_ble_eq_true rfl) (Nat.le_of_ble_eq_true rfl) (Nat.le_of_ble_eq_true rfl) rfl rfl (Nat.le_of_ble_eq_true rfl) (Nat.le_of_ble_eq_true rfl) dX7_readsFactor_12 (pc' := 15) rfl (fun r_6 M_5 h m_7 => ?_)
      refine r_if_ne C dX7_readsFactor_15 (pc' := 18) rfl (tgt := 0) (by decide) (fun c_8 => ?_) (fun c_8 => ?_)
      · have h := it_f h c_8
        refine r_sub (lv' := [(0, .ref a0)]) [0] rfl ?_
        exact ih M_5 (mMo.kd m_7 (mMo.kd m_3 k_a0 (by decide)) (by decide)) h (fun M9 hm9 h9 => hX18 M9 (mMo.tr (mMo.tr m_3 m_7) hm9) h9) (fun M9 hm9 h9 => hX20 M9 (mMo.tr (mMo.tr m_3 m_7) hm9) h9)
      · have h := it_t h c_8
        refine r_sub (lv' := []) [] rfl ?_
        exact hX18 M_5 (mMo.tr m_3 m_7) h
set_option maxHeartbeats 4000000 in
theorem S_X7_readsFactor {D : DD} {l : Launch} {M : MM} {a0 : Nat} {Post : Int32 → MM → Prop} (k_a0 : mkd M a0 = 7) (h : wp_X7_readsFactor M a0 Post) : mMet D l yX7_readsFactor cX7_readsFactor 2 ((some .boolean)) { frames := 3, cells := 0, slots := 0, locals := 61 } M [.ref a0] (pI_ Post) := by
  refine m_of2 [(0, .ref a0)] (by decide +kernel) (Nat.le_of_ble_eq_true rfl) rfl (fun E hED hEl C hE => ?_)
  subst hED
  subst hEl
  unfold wp_X7_readsFactor at h
  obtain ⟨n_9, h⟩ := h
  refine r_sub (lv' := [(0, .ref a0)]) [0] rfl ?_
  refine B_X7_readsFactor_0 C hE n_9 M k_a0 h (fun M_10 m_11 h => ?_) (fun M_12 m_13 h => ?_)
  · refine r_iconst C dX7_readsFactor_18 (pc' := 19) rfl (v := 0) rfl ?_
    exact r_zret C hE (Or.inl rfl) (Nat.le_of_ble_eq_true rfl) (Nat.le_of_ble_eq_true rfl) dX7_readsFactor_19 ⟨_, rfl, h⟩
  · refine r_aload_n C dX7_readsFactor_20 (pc' := 21) rfl (j := 0) rfl ?_
    refine r_callVi (As := []) (rest := []) (Cn := RX7) (T := TX7) C (mMo.kd m_13 k_a0 (by decide)) (by decide) vc_X7 (S_X7_isDigit (mMo.kd m_13 k_a0 (by decide)) h) (lw_V q1464 q1466 qs61 q112 q1467) rfl hd_X7_isDigit rfl rfl (Nat.le_of_ble_eq_true rfl) (Nat.le_of_ble_eq_true rfl) (Nat.le_of_ble_eq_true rfl) rfl rfl (Nat.le_of_ble_eq_true rfl) (Nat.le_of_ble_eq_true rfl) dX7_readsFactor_21 (pc' := 24) rfl (fun r_15 M_14 h m_16 => ?_)
    refine r_if_eq C dX7_readsFactor_24 (pc' := 27) rfl (tgt := 47) (by decide) (fun c_17 => ?_) (fun c_17 => ?_)
    · have h := it_t h c_17
      refine r_aload_n C dX7_readsFactor_47 (pc' := 48) rfl (j := 0) rfl ?_
      refine r_callVi (As := []) (rest := []) (Cn := RX7) (T := TX7) C (mMo.kd m_16 (mMo.kd m_13 k_a0 (by decide)) (by decide)) (by decide) vc_X7 (S_X7_here (mMo.kd m_16 (mMo.kd m_13 k_a0 (by decide)) (by decide)) h) (lw_V q1440 q1442 qs56 q112 q1443) rfl hd_X7_here rfl rfl (Nat.le_of_ble_eq_true rfl) (Nat.le_of_ble_eq_true rfl) (Nat.le_of_ble_eq_true rfl) rfl rfl (Nat.le_of_ble_eq_true rfl) (Nat.le_of_ble_eq_true rfl) dX7_readsFactor_48 (pc' := 51) rfl (fun r_19 M_18 h m_20 => ?_)
      refine r_callSi (As := [.int r_19]) (rest := []) C (S_X7_factOf h) (lw_S q1476 q1477 q112 q1478) hd_X7_factOf rfl rfl (Nat.le_of_ble_eq_true rfl) (Nat.le_of_ble_eq_true rfl) (Nat.le_of_ble_eq_true rfl) rfl rfl (Nat.le_of_ble_eq_true rfl) (Nat.le_of_ble_eq_true rfl) dX7_readsFactor_51 (pc' := 54) rfl (fun r_22 M_21 h m_23 => ?_)
      refine r_istore_n C (lv' := [(1, .int r_22), (0, .ref a0)]) dX7_readsFactor_54 (pc' := 55) rfl rfl r_22 rfl (Nat.le_of_ble_eq_true rfl) rfl ?_
      refine r_iload_n C dX7_readsFactor_55 (pc' := 56) rfl (j := 0) rfl ?_
      refine r_iconst C dX7_readsFactor_56 (pc' := 57) rfl (v := -1) rfl ?_
      refine r_icmp_ne C dX7_readsFactor_57 (pc' := 60) rfl (tgt := 70) (by decide) (fun c_24 => ?_) (fun c_24 => ?_)
      · have h := it_f h c_24
        refine r_aload_n C dX7_readsFactor_70 (pc' := 71) rfl (j := 1) rfl ?_
        refine r_iconst C dX7_readsFactor_71 (pc' := 72) rfl (v := 1) rfl ?_
        refine r_iload_n C dX7_readsFactor_72 (pc' := 73) rfl (j := 0) rfl ?_
        refine r_callVv (As := [.int (1 : Int32), .int r_22]) (rest := []) (Cn := RX7) (T := TX7) C (mMo.kd m_23 (mMo.kd m_20 (mMo.kd m_16 (mMo.kd m_13 k_a0 (by decide)) (by decide)) (by decide)) (by decide)) (by decide) vc_X7 (S_X7_notes (mMo.kd m_23 (mMo.kd m_20 (mMo.kd m_16 (mMo.kd m_13 k_a0 (by decide)) (by decide)) (by decide)) (by decide)) h) (lw_V q1472 q1474 qs63 q112 q1475) rfl hd_X7_notes rfl rfl (Nat.le_of_ble_eq_true rfl) (Nat.le_of_ble_eq_true rfl) (Nat.le_of_ble_eq_true rfl) rfl rfl (Nat.le_of_ble_eq_true rfl) (Nat.le_of_ble_eq_true rfl) dX7_readsFactor_73 (pc' := 76) rfl (fun M_25 h m_27 => ?_)
        refine r_aload_n C dX7_readsFactor_76 (pc' := 77) rfl (j := 1) rfl ?_
        refine r_aload_n C dX7_readsFactor_77 (pc' := 78) rfl (j := 1) rfl ?_
        refine r_getf C (Cn := RX7) (T := TX7) 5 (mMo.kd m_27 (mMo.kd m_23 (mMo.kd m_20 (mMo.kd m_16 (mMo.kd m_13 k_a0 (by decide)) (by decide)) (by decide)) (by decide)) (by decide)) (by decide) vc_X7 in_X7 (by decide) q1229 dX7_readsFactor_78 (pc' := 81) rfl (v := .int (mgI M_25 a0 5)) rfl ?_
        refine r_iconst C dX7_readsFactor_81 (pc' := 82) rfl (v := 1) rfl ?_
        refine r_iadd C dX7_readsFactor_82 (pc' := 83) rfl ?_
        obtain ⟨M_28, e_29, h⟩ := bn_ h
        refine r_putI C (Cn := RX7) (T := TX7) tyX7 5 (mMo.kd m_27 (mMo.kd m_23 (mMo.kd m_20 (mMo.kd m_16 (mMo.kd m_13 k_a0 (by decide)) (by decide)) (by decide)) (by decide)) (by decide)) (by decide) vc_X7 in_X7 tyX7_ok nmX7 (by decide) q1229 rfl rfl dX7_readsFactor_83 (pc' := 86) rfl rfl rfl M_28 e_29 ?_
        refine r_iconst C dX7_readsFactor_86 (pc' := 87) rfl (v := 1) rfl ?_
        exact r_zret C hE (Or.inr rfl) (Nat.le_of_ble_eq_true rfl) (Nat.le_of_ble_eq_true rfl) dX7_readsFactor_87 ⟨_, rfl, h⟩
      · have h := it_t h c_24
        refine r_aload_n C dX7_readsFactor_60 (pc' := 61) rfl (j := 1) rfl ?_
        refine r_iconst C dX7_readsFactor_61 (pc' := 62) rfl (v := 1) rfl ?_
        refine r_aload_n C dX7_readsFactor_62 (pc' := 63) rfl (j := 1) rfl ?_
        refine r_getf C (Cn := RX7) (T := TX7) 5 (mMo.kd m_23 (mMo.kd m_20 (mMo.kd m_16 (mMo.kd m_13 k_a0 (by decide)) (by decide)) (by decide)) (by decide)) (by decide) vc_X7 in_X7 (by decide) q1229 dX7_readsFactor_63 (pc' := 66) rfl (v := .int (mgI M_21 a0 5)) rfl ?_
        refine r_callVi (As := [.int (1 : Int32), .int (mgI M_21 a0 5)]) (rest := []) (Cn := RX7) (T := TX7) C (mMo.kd m_23 (mMo.kd m_20 (mMo.kd m_16 (mMo.kd m_13 k_a0 (by decide)) (by decide)) (by decide)) (by decide)) (by decide) vc_X7 (S_X7_wrongAt (mMo.kd m_23 (mMo.kd m_20 (mMo.kd m_16 (mMo.kd m_13 k_a0 (by decide)) (by decide)) (by decide)) (by decide)) h) (lw_V q1447 q1449 qs57 q112 q1450) rfl hd_X7_wrongAt rfl rfl (Nat.le_of_ble_eq_true rfl) (Nat.le_of_ble_eq_true rfl) (Nat.le_of_ble_eq_true rfl) rfl rfl (Nat.le_of_ble_eq_true rfl) (Nat.le_of_ble_eq_true rfl) dX7_readsFactor_66 (pc' := 69) rfl (fun r_31 M_30 h m_32 => ?_)
        obtain ⟨c_33, h⟩ := h
        exact r_zret C hE c_33 (Nat.le_of_ble_eq_true rfl) (Nat.le_of_ble_eq_true rfl) dX7_readsFactor_69 ⟨_, rfl, h⟩
    · have h := it_f h c_17
      refine r_aload_n C dX7_readsFactor_27 (pc' := 28) rfl (j := 0) rfl ?_
      refine r_callVi (As := []) (rest := []) (Cn := RX7) (T := TX7) C (mMo.kd m_16 (mMo.kd m_13 k_a0 (by decide)) (by decide)) (by decide) vc_X7 (S_X7_readsNumber (mMo.kd m_16 (mMo.kd m_13 k_a0 (by decide)) (by decide)) h) (lw_V q1468 q1470 qs62 q112 q1471) rfl hd_X7_readsNumber rfl rfl (Nat.le_of_ble_eq_true rfl) (Nat.le_of_ble_eq_true rfl) (Nat.le_of_ble_eq_true rfl) rfl rfl (Nat.le_of_ble_eq_true rfl) (Nat.le_of_ble_eq_true rfl) dX7_readsFactor_28 (pc' := 31) rfl (fun r_35 M_34 h m_36 => ?_)
      refine r_if_ne C dX7_readsFactor_31 (pc' := 34) rfl (tgt := 36) (by decide) (fun c_37 => ?_) (fun c_37 => ?_)
      · have h := it_f h c_37
        refine r_aload_n C dX7_readsFactor_36 (pc' := 37) rfl (j := 0) rfl ?_
        refine r_iconst C dX7_readsFactor_37 (pc' := 38) rfl (v := 0) rfl ?_
        refine r_aload_n C dX7_readsFactor_38 (pc' := 39) rfl (j := 0) rfl ?_
        refine r_getf C (Cn := RX7) (T := TX7) 8 (mMo.kd m_36 (mMo.kd m_16 (mMo.kd m_13 k_a0 (by decide)) (by decide)) (by decide)) (by decide) vc_X7 in_X7 (by decide) q1232 dX7_readsFactor_39 (pc' := 42) rfl (v := .int (mgI M_34 a0 8)) rfl ?_
        refine r_callVv (As := [.int (0 : Int32), .int (mgI M_34 a0 8)]) (rest := []) (Cn := RX7) (T := TX7) C (mMo.kd m_36 (mMo.kd m_16 (mMo.kd m_13 k_a0 (by decide)) (by decide)) (by decide)) (by decide) vc_X7 (S_X7_notes (mMo.kd m_36 (mMo.kd m_16 (mMo.kd m_13 k_a0 (by decide)) (by decide)) (by decide)) h) (lw_V q1472 q1474 qs63 q112 q1475) rfl hd_X7_notes rfl rfl (Nat.le_of_ble_eq_true rfl) (Nat.le_of_ble_eq_true rfl) (Nat.le_of_ble_eq_true rfl) rfl rfl (Nat.le_of_ble_eq_true rfl) (Nat.le_of_ble_eq_true rfl) dX7_readsFactor_42 (pc' := 45) rfl (fun M_38 h m_40 => ?_)
        refine r_iconst C dX7_readsFactor_45 (pc' := 46) rfl (v := 1) rfl ?_
        exact r_zret C hE (Or.inr rfl) (Nat.le_of_ble_eq_true rfl) (Nat.le_of_ble_eq_true rfl) dX7_readsFactor_46 ⟨_, rfl, h⟩
      · have h := it_t h c_37
        refine r_iconst C dX7_readsFactor_34 (pc' := 35) rfl (v := 0) rfl ?_
        exact r_zret C hE (Or.inl rfl) (Nat.le_of_ble_eq_true rfl) (Nat.le_of_ble_eq_true rfl) dX7_readsFactor_35 ⟨_, rfl, h⟩
set_option maxHeartbeats 4000000 in
theorem S_X7_sumSign {D : DD} {l : Launch} {M : MM} {x0 : Int32} {Post : Int32 → MM → Prop} (h : wp_X7_sumSign M x0 Post) : mMet D l yX7_sumSign cX7_sumSign 1 ((some .int)) { frames := 0, cells := 0, slots := 0, locals := 0 } M [.int x0] (pI_ Post) := by
  refine m_of2 [(0, .int x0)] (by decide +kernel) (Nat.le_of_ble_eq_true rfl) rfl (fun E hED hEl C hE => ?_)
  subst hED
  subst hEl
  unfold wp_X7_sumSign at h
  refine r_iload_n C dX7_sumSign_0 (pc' := 1) rfl (j := 0) rfl ?_
  refine r_bipush C dX7_sumSign_1 (pc' := 3) rfl (v := 43) rfl ?_
  refine r_icmp_ne C dX7_sumSign_3 (pc' := 6) rfl (tgt := 10) (by decide) (fun c_1 => ?_) (fun c_1 => ?_)
  · have h := it_f h c_1
    refine r_iload_n C dX7_sumSign_10 (pc' := 11) rfl (j := 0) rfl ?_
    refine r_bipush C dX7_sumSign_11 (pc' := 13) rfl (v := 45) rfl ?_
    refine r_icmp_ne C dX7_sumSign_13 (pc' := 16) rfl (tgt := 20) (by decide) (fun c_2 => ?_) (fun c_2 => ?_)
    · have h := it_f h c_2
      refine r_iload_n C dX7_sumSign_20 (pc' := 21) rfl (j := 0) rfl ?_
      refine r_bipush C dX7_sumSign_21 (pc' := 23) rfl (v := 42) rfl ?_
      refine r_icmp_ne C dX7_sumSign_23 (pc' := 26) rfl (tgt := 30) (by decide) (fun c_3 => ?_) (fun c_3 => ?_)
      · have h := it_f h c_3
        refine r_iload_n C dX7_sumSign_30 (pc' := 31) rfl (j := 0) rfl ?_
        refine r_bipush C dX7_sumSign_31 (pc' := 33) rfl (v := 47) rfl ?_
        refine r_icmp_ne C dX7_sumSign_33 (pc' := 36) rfl (tgt := 40) (by decide) (fun c_4 => ?_) (fun c_4 => ?_)
        · have h := it_f h c_4
          refine r_iload_n C dX7_sumSign_40 (pc' := 41) rfl (j := 0) rfl ?_
          refine r_bipush C dX7_sumSign_41 (pc' := 43) rfl (v := 37) rfl ?_
          refine r_icmp_ne C dX7_sumSign_43 (pc' := 46) rfl (tgt := 51) (by decide) (fun c_5 => ?_) (fun c_5 => ?_)
          · have h := it_f h c_5
            refine r_iconst C dX7_sumSign_51 (pc' := 52) rfl (v := -1) rfl ?_
            exact r_iret C hE (Nat.le_of_ble_eq_true rfl) (Nat.le_of_ble_eq_true rfl) dX7_sumSign_52 ⟨_, rfl, h⟩
          · have h := it_t h c_5
            refine r_bipush C dX7_sumSign_46 (pc' := 48) rfl (v := 6) rfl ?_
            refine r_goto C dX7_sumSign_48 (tgt := 52) (by decide) ?_
            exact r_iret C hE (Nat.le_of_ble_eq_true rfl) (Nat.le_of_ble_eq_true rfl) dX7_sumSign_52 ⟨_, rfl, h⟩
        · have h := it_t h c_4
          refine r_iconst C dX7_sumSign_36 (pc' := 37) rfl (v := 5) rfl ?_
          refine r_goto C dX7_sumSign_37 (tgt := 52) (by decide) ?_
          exact r_iret C hE (Nat.le_of_ble_eq_true rfl) (Nat.le_of_ble_eq_true rfl) dX7_sumSign_52 ⟨_, rfl, h⟩
      · have h := it_t h c_3
        refine r_iconst C dX7_sumSign_26 (pc' := 27) rfl (v := 4) rfl ?_
        refine r_goto C dX7_sumSign_27 (tgt := 52) (by decide) ?_
        exact r_iret C hE (Nat.le_of_ble_eq_true rfl) (Nat.le_of_ble_eq_true rfl) dX7_sumSign_52 ⟨_, rfl, h⟩
    · have h := it_t h c_2
      refine r_iconst C dX7_sumSign_16 (pc' := 17) rfl (v := 3) rfl ?_
      refine r_goto C dX7_sumSign_17 (tgt := 52) (by decide) ?_
      exact r_iret C hE (Nat.le_of_ble_eq_true rfl) (Nat.le_of_ble_eq_true rfl) dX7_sumSign_52 ⟨_, rfl, h⟩
  · have h := it_t h c_1
    refine r_iconst C dX7_sumSign_6 (pc' := 7) rfl (v := 2) rfl ?_
    refine r_goto C dX7_sumSign_7 (tgt := 52) (by decide) ?_
    exact r_iret C hE (Nat.le_of_ble_eq_true rfl) (Nat.le_of_ble_eq_true rfl) dX7_sumSign_52 ⟨_, rfl, h⟩
set_option maxHeartbeats 4000000 in
theorem B_X7_readsSum_38 {E : mE} {M : MM} {a0 : Nat} {x1 : Int32} {x2 : Int32} {as0 : Nat} {xs1 : Int32} {R : MM → Prop} {X81 : MM → Prop} {X138 : MM → Prop} {Post : Int32 → MM → Prop} (C : mC E yX7_readsSum cX7_readsSum 3 ((some .boolean)) { frames := 4, cells := 0, slots := 0, locals := 82 }) (hE : mEnd E { frames := 4, cells := 0, slots := 0, locals := 82 } (pI_ Post)) (k_a0 : mkd M a0 = 7) (k_as0 : mkd M as0 = 7) (h : wb_X7_readsSum_38 M a0 x1 x2 as0 xs1 R X81 X138) (hR : ∀ (M' : MM), mMo M M' → mkd M' a0 = 7 → R M' → mV E M' 0 0 14 [(0, .ref a0), (1, .int x1)] []) (hX81 : ∀ (M' : MM), mMo M M' → X81 M' → mV E M' 0 0 81 [] []) (hX138 : ∀ (M' : MM), mMo M M' → X138 M' → mV E M' 0 0 138 [(0, .ref a0), (1, .int x1)] []) : mV E M 0 0 38 [(0, .ref a0), (1, .int x1), (2, .int x2)] [.int xs1, .ref as0] := by
  unfold wb_X7_readsSum_38 at h
  refine r_callVv (As := [.int xs1]) (rest := []) (Cn := RX7) (T := TX7) C k_as0 (by decide) vc_X7 (S_X7_closesSums k_as0 h) (lw_V q1482 q1484 qs64 q112 q1485) rfl hd_X7_closesSums rfl rfl (Nat.le_of_ble_eq_true rfl) (Nat.le_of_ble_eq_true rfl) (Nat.le_of_ble_eq_true rfl) rfl rfl (Nat.le_of_ble_eq_true rfl) (Nat.le_of_ble_eq_true rfl) dX7_readsSum_38 (pc' := 41) rfl (fun M_32 h m_34 => ?_)
  refine r_aload_n C dX7_readsSum_41 (pc' := 42) rfl (j := 0) rfl ?_
  refine r_getf C (Cn := RX7) (T := TX7) 14 (mMo.kd m_34 k_a0 (by decide)) (by decide) vc_X7 in_X7 (by decide) q1238 dX7_readsSum_42 (pc' := 45) rfl (v := va_rf (mgR M_32 a0 14)) rfl ?_
  obtain ⟨b_35, e_36, k_37, h⟩ := h
  refine r_ref [] e_36 ?_
  refine r_aload_n C dX7_readsSum_45 (pc' := 46) rfl (j := 0) rfl ?_
  refine r_getf C (Cn := RX7) (T := TX7) 11 (mMo.kd m_34 k_a0 (by decide)) (by decide) vc_X7 in_X7 (by decide) q1235 dX7_readsSum_46 (pc' := 49) rfl (v := .int (mgI M_32 a0 11)) rfl ?_
  refine r_ldc C dX7_readsSum_49 (pc' := 51) rfl q1463 ?_
  refine r_iload_n C dX7_readsSum_51 (pc' := 52) rfl (j := 2) rfl ?_
  refine r_imul C dX7_readsSum_52 (pc' := 53) rfl ?_
  obtain ⟨c_38, h⟩ := h
  obtain ⟨M_39, e_40, h⟩ := bn_ h
  refine r_iast C (j := (ix_ (mgI M_32 a0 11))) k_37 c_38 rfl dX7_readsSum_53 (pc' := 54) rfl M_39 e_40 ?_
  refine r_aload_n C dX7_readsSum_54 (pc' := 55) rfl (j := 0) rfl ?_
  refine r_aload_n C dX7_readsSum_55 (pc' := 56) rfl (j := 0) rfl ?_
  refine r_getf C (Cn := RX7) (T := TX7) 11 (mMo.kd (mo_I e_40) (mMo.kd m_34 k_a0 (by decide)) (by decide)) (by decide) vc_X7 in_X7 (by decide) q1235 dX7_readsSum_56 (pc' := 59) rfl (v := .int (mgI M_39 a0 11)) rfl ?_
  refine r_iconst C dX7_readsSum_59 (pc' := 60) rfl (v := 1) rfl ?_
  refine r_iadd C dX7_readsSum_60 (pc' := 61) rfl ?_
  obtain ⟨M_41, e_42, h⟩ := bn_ h
  refine r_putI C (Cn := RX7) (T := TX7) tyX7 11 (mMo.kd (mo_I e_40) (mMo.kd m_34 k_a0 (by decide)) (by decide)) (by decide) vc_X7 in_X7 tyX7_ok nmX7 (by decide) q1235 rfl rfl dX7_readsSum_61 (pc' := 64) rfl rfl rfl M_41 e_42 ?_
  refine r_aload_n C dX7_readsSum_64 (pc' := 65) rfl (j := 0) rfl ?_
  refine r_aload_n C dX7_readsSum_65 (pc' := 66) rfl (j := 0) rfl ?_
  refine r_getf C (Cn := RX7) (T := TX7) 5 (mMo.kd (mo_I e_42) (mMo.kd (mo_I e_40) (mMo.kd m_34 k_a0 (by decide)) (by decide)) (by decide)) (by decide) vc_X7 in_X7 (by decide) q1229 dX7_readsSum_66 (pc' := 69) rfl (v := .int (mgI M_41 a0 5)) rfl ?_
  refine r_iconst C dX7_readsSum_69 (pc' := 70) rfl (v := 1) rfl ?_
  refine r_iadd C dX7_readsSum_70 (pc' := 71) rfl ?_
  obtain ⟨M_43, e_44, h⟩ := bn_ h
  refine r_putI C (Cn := RX7) (T := TX7) tyX7 5 (mMo.kd (mo_I e_42) (mMo.kd (mo_I e_40) (mMo.kd m_34 k_a0 (by decide)) (by decide)) (by decide)) (by decide) vc_X7 in_X7 tyX7_ok nmX7 (by decide) q1229 rfl rfl dX7_readsSum_71 (pc' := 74) rfl rfl rfl M_43 e_44 ?_
  refine r_aload_n C dX7_readsSum_74 (pc' := 75) rfl (j := 0) rfl ?_
  refine r_callVi (As := []) (rest := []) (Cn := RX7) (T := TX7) C (mMo.kd (mo_I e_44) (mMo.kd (mo_I e_42) (mMo.kd (mo_I e_40) (mMo.kd m_34 k_a0 (by decide)) (by decide)) (by decide)) (by decide)) (by decide) vc_X7 (S_X7_readsFactor (mMo.kd (mo_I e_44) (mMo.kd (mo_I e_42) (mMo.kd (mo_I e_40) (mMo.kd m_34 k_a0 (by decide)) (by decide)) (by decide)) (by decide)) h) (lw_V q1455 q1457 qs59 q112 q1458) rfl hd_X7_readsFactor rfl rfl (Nat.le_of_ble_eq_true rfl) (Nat.le_of_ble_eq_true rfl) (Nat.le_of_ble_eq_true rfl) rfl rfl (Nat.le_of_ble_eq_true rfl) (Nat.le_of_ble_eq_true rfl) dX7_readsSum_75 (pc' := 78) rfl (fun r_46 M_45 h m_47 => ?_)
  refine r_if_ne C dX7_readsSum_78 (pc' := 81) rfl (tgt := 163) (by decide) (fun c_48 => ?_) (fun c_48 => ?_)
  · have h := it_f h c_48
    refine r_goto C dX7_readsSum_163 (tgt := 14) (by decide) ?_
    refine r_sub (lv' := [(0, .ref a0), (1, .int x1)]) [0, 1] rfl ?_
    exact hR M_45 (mMo.tr (mMo.tr (mMo.tr (mMo.tr m_34 (mo_I e_40)) (mo_I e_42)) (mo_I e_44)) m_47) (mMo.kd m_47 (mMo.kd (mo_I e_44) (mMo.kd (mo_I e_42) (mMo.kd (mo_I e_40) (mMo.kd m_34 k_a0 (by decide)) (by decide)) (by decide)) (by decide)) (by decide)) h
  · have h := it_t h c_48
    refine r_sub (lv' := []) [] rfl ?_
    exact hX81 M_45 (mMo.tr (mMo.tr (mMo.tr (mMo.tr m_34 (mo_I e_40)) (mo_I e_42)) (mo_I e_44)) m_47) h
set_option maxHeartbeats 4000000 in
theorem B_X7_readsSum_14 {E : mE} {a0 : Nat} {x1 : Int32} {X81 : MM → Prop} {X138 : MM → Prop} {Post : Int32 → MM → Prop} (C : mC E yX7_readsSum cX7_readsSum 3 ((some .boolean)) { frames := 4, cells := 0, slots := 0, locals := 82 }) (hE : mEnd E { frames := 4, cells := 0, slots := 0, locals := 82 } (pI_ Post)) : ∀ (n_ : Nat) (M : MM), mkd M a0 = 7 → wl_X7_readsSum_14 a0 x1 X81 X138 n_ M → (∀ (M' : MM), mMo M M' → X81 M' → mV E M' 0 0 81 [] []) → (∀ (M' : MM), mMo M M' → X138 M' → mV E M' 0 0 138 [(0, .ref a0), (1, .int x1)] []) → mV E M 0 0 14 [(0, .ref a0), (1, .int x1)] [] := by
  intro n_
  induction n_ with
  | zero =>
    intro M k_a0 h hX81 hX138
    exact absurd h (by rw [wl_X7_readsSum_14]; exact fun q => q)
  | succ n_ ih =>
    intro M k_a0 h hX81 hX138
    rw [wl_X7_readsSum_14] at h
    refine r_aload_n C dX7_readsSum_14 (pc' := 15) rfl (j := 0) rfl ?_
    refine r_callVi (As := []) (rest := []) (Cn := RX7) (T := TX7) C k_a0 (by decide) vc_X7 (S_X7_here k_a0 h) (lw_V q1440 q1442 qs56 q112 q1443) rfl hd_X7_here rfl rfl (Nat.le_of_ble_eq_true rfl) (Nat.le_of_ble_eq_true rfl) (Nat.le_of_ble_eq_true rfl) rfl rfl (Nat.le_of_ble_eq_true rfl) (Nat.le_of_ble_eq_true rfl) dX7_readsSum_15 (pc' := 18) rfl (fun r_8 M_7 h m_9 => ?_)
    refine r_callSi (As := [.int r_8]) (rest := []) C (S_X7_sumSign h) (lw_S q1479 q1480 q112 q1481) hd_X7_sumSign rfl rfl (Nat.le_of_ble_eq_true rfl) (Nat.le_of_ble_eq_true rfl) (Nat.le_of_ble_eq_true rfl) rfl rfl (Nat.le_of_ble_eq_true rfl) (Nat.le_of_ble_eq_true rfl) dX7_readsSum_18 (pc' := 21) rfl (fun r_11 M_10 h m_12 => ?_)
    refine r_istore_n C (lv' := [(2, .int r_11), (0, .ref a0), (1, .int x1)]) dX7_readsSum_21 (pc' := 22) rfl rfl r_11 rfl (Nat.le_of_ble_eq_true rfl) rfl ?_
    refine r_iload_n C dX7_readsSum_22 (pc' := 23) rfl (j := 0) rfl ?_
    refine r_iconst C dX7_readsSum_23 (pc' := 24) rfl (v := -1) rfl ?_
    refine r_icmp_eq C dX7_readsSum_24 (pc' := 27) rfl (tgt := 83) (by decide) (fun c_13 => ?_) (fun c_13 => ?_)
    · have h := it_t h c_13
      refine r_aload_n C dX7_readsSum_83 (pc' := 84) rfl (j := 1) rfl ?_
      refine r_callVi (As := []) (rest := []) (Cn := RX7) (T := TX7) C (mMo.kd m_12 (mMo.kd m_9 k_a0 (by decide)) (by decide)) (by decide) vc_X7 (S_X7_here (mMo.kd m_12 (mMo.kd m_9 k_a0 (by decide)) (by decide)) h) (lw_V q1440 q1442 qs56 q112 q1443) rfl hd_X7_here rfl rfl (Nat.le_of_ble_eq_true rfl) (Nat.le_of_ble_eq_true rfl) (Nat.le_of_ble_eq_true rfl) rfl rfl (Nat.le_of_ble_eq_true rfl) (Nat.le_of_ble_eq_true rfl) dX7_readsSum_84 (pc' := 87) rfl (fun r_15 M_14 h m_16 => ?_)
      refine r_bipush C dX7_readsSum_87 (pc' := 89) rfl (v := 93) rfl ?_
      refine r_icmp_ne C dX7_readsSum_89 (pc' := 92) rfl (tgt := 138) (by decide) (fun c_17 => ?_) (fun c_17 => ?_)
      · have h := it_f h c_17
        refine r_sub (lv' := [(0, .ref a0), (1, .int x1)]) [1, 2] rfl ?_
        exact hX138 M_14 (mMo.tr (mMo.tr m_9 m_12) m_16) h
      · have h := it_t h c_17
        refine r_aload_n C dX7_readsSum_92 (pc' := 93) rfl (j := 1) rfl ?_
        refine r_iload_n C dX7_readsSum_93 (pc' := 94) rfl (j := 2) rfl ?_
        refine r_callVi (As := [.int x1]) (rest := []) (Cn := RX7) (T := TX7) C (mMo.kd m_16 (mMo.kd m_12 (mMo.kd m_9 k_a0 (by decide)) (by decide)) (by decide)) (by decide) vc_X7 (S_X7_hasOpenSum (mMo.kd m_16 (mMo.kd m_12 (mMo.kd m_9 k_a0 (by decide)) (by decide)) (by decide)) h) (lw_V q1490 q1492 qs66 q112 q1493) rfl hd_X7_hasOpenSum rfl rfl (Nat.le_of_ble_eq_true rfl) (Nat.le_of_ble_eq_true rfl) (Nat.le_of_ble_eq_true rfl) rfl rfl (Nat.le_of_ble_eq_true rfl) (Nat.le_of_ble_eq_true rfl) dX7_readsSum_94 (pc' := 97) rfl (fun r_19 M_18 h m_20 => ?_)
        refine r_if_eq C dX7_readsSum_97 (pc' := 100) rfl (tgt := 138) (by decide) (fun c_21 => ?_) (fun c_21 => ?_)
        · have h := it_t h c_21
          refine r_sub (lv' := [(0, .ref a0), (1, .int x1)]) [1, 2] rfl ?_
          exact hX138 M_18 (mMo.tr (mMo.tr (mMo.tr m_9 m_12) m_16) m_20) h
        · have h := it_f h c_21
          refine r_aload_n C dX7_readsSum_100 (pc' := 101) rfl (j := 1) rfl ?_
          refine r_iconst C dX7_readsSum_101 (pc' := 102) rfl (v := 1) rfl ?_
          refine r_callVv (As := [.int (1 : Int32)]) (rest := []) (Cn := RX7) (T := TX7) C (mMo.kd m_20 (mMo.kd m_16 (mMo.kd m_12 (mMo.kd m_9 k_a0 (by decide)) (by decide)) (by decide)) (by decide)) (by decide) vc_X7 (S_X7_closesSums (mMo.kd m_20 (mMo.kd m_16 (mMo.kd m_12 (mMo.kd m_9 k_a0 (by decide)) (by decide)) (by decide)) (by decide)) h) (lw_V q1482 q1484 qs64 q112 q1485) rfl hd_X7_closesSums rfl rfl (Nat.le_of_ble_eq_true rfl) (Nat.le_of_ble_eq_true rfl) (Nat.le_of_ble_eq_true rfl) rfl rfl (Nat.le_of_ble_eq_true rfl) (Nat.le_of_ble_eq_true rfl) dX7_readsSum_102 (pc' := 105) rfl (fun M_22 h m_24 => ?_)
          refine r_aload_n C dX7_readsSum_105 (pc' := 106) rfl (j := 1) rfl ?_
          refine r_aload_n C dX7_readsSum_106 (pc' := 107) rfl (j := 1) rfl ?_
          refine r_getf C (Cn := RX7) (T := TX7) 11 (mMo.kd m_24 (mMo.kd m_20 (mMo.kd m_16 (mMo.kd m_12 (mMo.kd m_9 k_a0 (by decide)) (by decide)) (by decide)) (by decide)) (by decide)) (by decide) vc_X7 in_X7 (by decide) q1235 dX7_readsSum_107 (pc' := 110) rfl (v := .int (mgI M_22 a0 11)) rfl ?_
          refine r_iconst C dX7_readsSum_110 (pc' := 111) rfl (v := 1) rfl ?_
          refine r_isub C dX7_readsSum_111 (pc' := 112) rfl ?_
          obtain ⟨M_25, e_26, h⟩ := bn_ h
          refine r_putI C (Cn := RX7) (T := TX7) tyX7 11 (mMo.kd m_24 (mMo.kd m_20 (mMo.kd m_16 (mMo.kd m_12 (mMo.kd m_9 k_a0 (by decide)) (by decide)) (by decide)) (by decide)) (by decide)) (by decide) vc_X7 in_X7 tyX7_ok nmX7 (by decide) q1235 rfl rfl dX7_readsSum_112 (pc' := 115) rfl rfl rfl M_25 e_26 ?_
          refine r_aload_n C dX7_readsSum_115 (pc' := 116) rfl (j := 1) rfl ?_
          refine r_aload_n C dX7_readsSum_116 (pc' := 117) rfl (j := 1) rfl ?_
          refine r_getf C (Cn := RX7) (T := TX7) 9 (mMo.kd (mo_I e_26) (mMo.kd m_24 (mMo.kd m_20 (mMo.kd m_16 (mMo.kd m_12 (mMo.kd m_9 k_a0 (by decide)) (by decide)) (by decide)) (by decide)) (by decide)) (by decide)) (by decide) vc_X7 in_X7 (by decide) q1233 dX7_readsSum_117 (pc' := 120) rfl (v := .int (mgI M_25 a0 9)) rfl ?_
          refine r_iconst C dX7_readsSum_120 (pc' := 121) rfl (v := 1) rfl ?_
          refine r_isub C dX7_readsSum_121 (pc' := 122) rfl ?_
          obtain ⟨M_27, e_28, h⟩ := bn_ h
          refine r_putI C (Cn := RX7) (T := TX7) tyX7 9 (mMo.kd (mo_I e_26) (mMo.kd m_24 (mMo.kd m_20 (mMo.kd m_16 (mMo.kd m_12 (mMo.kd m_9 k_a0 (by decide)) (by decide)) (by decide)) (by decide)) (by decide)) (by decide)) (by decide) vc_X7 in_X7 tyX7_ok nmX7 (by decide) q1233 rfl rfl dX7_readsSum_122 (pc' := 125) rfl rfl rfl M_27 e_28 ?_
          refine r_aload_n C dX7_readsSum_125 (pc' := 126) rfl (j := 1) rfl ?_
          refine r_aload_n C dX7_readsSum_126 (pc' := 127) rfl (j := 1) rfl ?_
          refine r_getf C (Cn := RX7) (T := TX7) 5 (mMo.kd (mo_I e_28) (mMo.kd (mo_I e_26) (mMo.kd m_24 (mMo.kd m_20 (mMo.kd m_16 (mMo.kd m_12 (mMo.kd m_9 k_a0 (by decide)) (by decide)) (by decide)) (by decide)) (by decide)) (by decide)) (by decide)) (by decide) vc_X7 in_X7 (by decide) q1229 dX7_readsSum_127 (pc' := 130) rfl (v := .int (mgI M_27 a0 5)) rfl ?_
          refine r_iconst C dX7_readsSum_130 (pc' := 131) rfl (v := 1) rfl ?_
          refine r_iadd C dX7_readsSum_131 (pc' := 132) rfl ?_
          obtain ⟨M_29, e_30, h⟩ := bn_ h
          refine r_putI C (Cn := RX7) (T := TX7) tyX7 5 (mMo.kd (mo_I e_28) (mMo.kd (mo_I e_26) (mMo.kd m_24 (mMo.kd m_20 (mMo.kd m_16 (mMo.kd m_12 (mMo.kd m_9 k_a0 (by decide)) (by decide)) (by decide)) (by decide)) (by decide)) (by decide)) (by decide)) (by decide) vc_X7 in_X7 tyX7_ok nmX7 (by decide) q1229 rfl rfl dX7_readsSum_132 (pc' := 135) rfl rfl rfl M_29 e_30 ?_
          refine r_goto C dX7_readsSum_135 (tgt := 163) (by decide) ?_
          refine r_goto C dX7_readsSum_163 (tgt := 14) (by decide) ?_
          refine r_sub (lv' := [(0, .ref a0), (1, .int x1)]) [1, 2] rfl ?_
          exact ih M_29 (mMo.kd (mo_I e_30) (mMo.kd (mo_I e_28) (mMo.kd (mo_I e_26) (mMo.kd m_24 (mMo.kd m_20 (mMo.kd m_16 (mMo.kd m_12 (mMo.kd m_9 k_a0 (by decide)) (by decide)) (by decide)) (by decide)) (by decide)) (by decide)) (by decide)) (by decide)) h (fun M9 hm9 h9 => hX81 M9 (mMo.tr (mMo.tr (mMo.tr (mMo.tr (mMo.tr (mMo.tr (mMo.tr (mMo.tr m_9 m_12) m_16) m_20) m_24) (mo_I e_26)) (mo_I e_28)) (mo_I e_30)) hm9) h9) (fun M9 hm9 h9 => hX138 M9 (mMo.tr (mMo.tr (mMo.tr (mMo.tr (mMo.tr (mMo.tr (mMo.tr (mMo.tr m_9 m_12) m_16) m_20) m_24) (mo_I e_26)) (mo_I e_28)) (mo_I e_30)) hm9) h9)
    · have h := it_f h c_13
      refine r_aload_n C dX7_readsSum_27 (pc' := 28) rfl (j := 1) rfl ?_
      refine r_iload_n C dX7_readsSum_28 (pc' := 29) rfl (j := 0) rfl ?_
      refine r_iconst C dX7_readsSum_29 (pc' := 30) rfl (v := 4) rfl ?_
      refine r_icmp_ge C dX7_readsSum_30 (pc' := 33) rfl (tgt := 37) (by decide) (fun c_31 => ?_) (fun c_31 => ?_)
      · have h := it_t h c_31
        refine r_iconst C dX7_readsSum_37 (pc' := 38) rfl (v := 0) rfl ?_
        refine r_sub (lv' := [(0, .ref a0), (1, .int x1), (2, .int r_11)]) [1, 2, 0] rfl ?_
        exact B_X7_readsSum_38 C hE (mMo.kd m_12 (mMo.kd m_9 k_a0 (by decide)) (by decide)) (mMo.kd m_12 (mMo.kd m_9 k_a0 (by decide)) (by decide)) h (fun M8 hm8 g0 h8 => ih M8 g0 h8 (fun M9 hm9 h9 => hX81 M9 (mMo.tr (mMo.tr (mMo.tr m_9 m_12) hm8) hm9) h9) (fun M9 hm9 h9 => hX138 M9 (mMo.tr (mMo.tr (mMo.tr m_9 m_12) hm8) hm9) h9)) (fun M9 hm9 h9 => hX81 M9 (mMo.tr (mMo.tr m_9 m_12) hm9) h9) (fun M9 hm9 h9 => hX138 M9 (mMo.tr (mMo.tr m_9 m_12) hm9) h9)
      · have h := it_f h c_31
        refine r_iconst C dX7_readsSum_33 (pc' := 34) rfl (v := 1) rfl ?_
        refine r_goto C dX7_readsSum_34 (tgt := 38) (by decide) ?_
        refine r_sub (lv' := [(0, .ref a0), (1, .int x1), (2, .int r_11)]) [1, 2, 0] rfl ?_
        exact B_X7_readsSum_38 C hE (mMo.kd m_12 (mMo.kd m_9 k_a0 (by decide)) (by decide)) (mMo.kd m_12 (mMo.kd m_9 k_a0 (by decide)) (by decide)) h (fun M8 hm8 g0 h8 => ih M8 g0 h8 (fun M9 hm9 h9 => hX81 M9 (mMo.tr (mMo.tr (mMo.tr m_9 m_12) hm8) hm9) h9) (fun M9 hm9 h9 => hX138 M9 (mMo.tr (mMo.tr (mMo.tr m_9 m_12) hm8) hm9) h9)) (fun M9 hm9 h9 => hX81 M9 (mMo.tr (mMo.tr m_9 m_12) hm9) h9) (fun M9 hm9 h9 => hX138 M9 (mMo.tr (mMo.tr m_9 m_12) hm9) h9)
set_option maxHeartbeats 4000000 in
theorem B_X7_readsSum_138 {E : mE} {M : MM} {a0 : Nat} {x1 : Int32} {Post : Int32 → MM → Prop} (C : mC E yX7_readsSum cX7_readsSum 3 ((some .boolean)) { frames := 4, cells := 0, slots := 0, locals := 82 }) (hE : mEnd E { frames := 4, cells := 0, slots := 0, locals := 82 } (pI_ Post)) (k_a0 : mkd M a0 = 7) (h : wb_X7_readsSum_138 M a0 x1 Post) : mV E M 0 0 138 [(0, .ref a0), (1, .int x1)] [] := by
  unfold wb_X7_readsSum_138 at h
  refine r_aload_n C dX7_readsSum_138 (pc' := 139) rfl (j := 0) rfl ?_
  refine r_iload_n C dX7_readsSum_139 (pc' := 140) rfl (j := 1) rfl ?_
  refine r_callVi (As := [.int x1]) (rest := []) (Cn := RX7) (T := TX7) C k_a0 (by decide) vc_X7 (S_X7_hasOpenSum k_a0 h) (lw_V q1490 q1492 qs66 q112 q1493) rfl hd_X7_hasOpenSum rfl rfl (Nat.le_of_ble_eq_true rfl) (Nat.le_of_ble_eq_true rfl) (Nat.le_of_ble_eq_true rfl) rfl rfl (Nat.le_of_ble_eq_true rfl) (Nat.le_of_ble_eq_true rfl) dX7_readsSum_140 (pc' := 143) rfl (fun r_55 M_54 h m_56 => ?_)
  refine r_if_eq C dX7_readsSum_143 (pc' := 146) rfl (tgt := 156) (by decide) (fun c_57 => ?_) (fun c_57 => ?_)
  · have h := it_t h c_57
    refine r_aload_n C dX7_readsSum_156 (pc' := 157) rfl (j := 0) rfl ?_
    refine r_iconst C dX7_readsSum_157 (pc' := 158) rfl (v := 1) rfl ?_
    refine r_callVv (As := [.int (1 : Int32)]) (rest := []) (Cn := RX7) (T := TX7) C (mMo.kd m_56 k_a0 (by decide)) (by decide) vc_X7 (S_X7_closesSums (mMo.kd m_56 k_a0 (by decide)) h) (lw_V q1482 q1484 qs64 q112 q1485) rfl hd_X7_closesSums rfl rfl (Nat.le_of_ble_eq_true rfl) (Nat.le_of_ble_eq_true rfl) (Nat.le_of_ble_eq_true rfl) rfl rfl (Nat.le_of_ble_eq_true rfl) (Nat.le_of_ble_eq_true rfl) dX7_readsSum_158 (pc' := 161) rfl (fun M_58 h m_60 => ?_)
    refine r_iconst C dX7_readsSum_161 (pc' := 162) rfl (v := 1) rfl ?_
    exact r_zret C hE (Or.inr rfl) (Nat.le_of_ble_eq_true rfl) (Nat.le_of_ble_eq_true rfl) dX7_readsSum_162 ⟨_, rfl, h⟩
  · have h := it_f h c_57
    refine r_aload_n C dX7_readsSum_146 (pc' := 147) rfl (j := 0) rfl ?_
    refine r_iconst C dX7_readsSum_147 (pc' := 148) rfl (v := 1) rfl ?_
    refine r_aload_n C dX7_readsSum_148 (pc' := 149) rfl (j := 0) rfl ?_
    refine r_getf C (Cn := RX7) (T := TX7) 5 (mMo.kd m_56 k_a0 (by decide)) (by decide) vc_X7 in_X7 (by decide) q1229 dX7_readsSum_149 (pc' := 152) rfl (v := .int (mgI M_54 a0 5)) rfl ?_
    refine r_callVi (As := [.int (1 : Int32), .int (mgI M_54 a0 5)]) (rest := []) (Cn := RX7) (T := TX7) C (mMo.kd m_56 k_a0 (by decide)) (by decide) vc_X7 (S_X7_wrongAt (mMo.kd m_56 k_a0 (by decide)) h) (lw_V q1447 q1449 qs57 q112 q1450) rfl hd_X7_wrongAt rfl rfl (Nat.le_of_ble_eq_true rfl) (Nat.le_of_ble_eq_true rfl) (Nat.le_of_ble_eq_true rfl) rfl rfl (Nat.le_of_ble_eq_true rfl) (Nat.le_of_ble_eq_true rfl) dX7_readsSum_152 (pc' := 155) rfl (fun r_62 M_61 h m_63 => ?_)
    obtain ⟨c_64, h⟩ := h
    exact r_zret C hE c_64 (Nat.le_of_ble_eq_true rfl) (Nat.le_of_ble_eq_true rfl) dX7_readsSum_155 ⟨_, rfl, h⟩
set_option maxHeartbeats 4000000 in
theorem S_X7_readsSum {D : DD} {l : Launch} {M : MM} {a0 : Nat} {Post : Int32 → MM → Prop} (k_a0 : mkd M a0 = 7) (h : wp_X7_readsSum M a0 Post) : mMet D l yX7_readsSum cX7_readsSum 3 ((some .boolean)) { frames := 4, cells := 0, slots := 0, locals := 82 } M [.ref a0] (pI_ Post) := by
  refine m_of2 [(0, .ref a0)] (by decide +kernel) (Nat.le_of_ble_eq_true rfl) rfl (fun E hED hEl C hE => ?_)
  subst hED
  subst hEl
  unfold wp_X7_readsSum at h
  refine r_aload_n C dX7_readsSum_0 (pc' := 1) rfl (j := 0) rfl ?_
  refine r_getf C (Cn := RX7) (T := TX7) 11 k_a0 (by decide) vc_X7 in_X7 (by decide) q1235 dX7_readsSum_1 (pc' := 4) rfl (v := .int (mgI M a0 11)) rfl ?_
  obtain ⟨x1_1, e_2, h⟩ := bn_ h
  refine r_istore_n C (lv' := [(1, .int x1_1), (0, .ref a0)]) dX7_readsSum_4 (pc' := 5) rfl rfl x1_1 e_2 (Nat.le_of_ble_eq_true rfl) rfl ?_
  refine r_aload_n C dX7_readsSum_5 (pc' := 6) rfl (j := 1) rfl ?_
  refine r_callVi (As := []) (rest := []) (Cn := RX7) (T := TX7) C k_a0 (by decide) vc_X7 (S_X7_readsFactor k_a0 h) (lw_V q1455 q1457 qs59 q112 q1458) rfl hd_X7_readsFactor rfl rfl (Nat.le_of_ble_eq_true rfl) (Nat.le_of_ble_eq_true rfl) (Nat.le_of_ble_eq_true rfl) rfl rfl (Nat.le_of_ble_eq_true rfl) (Nat.le_of_ble_eq_true rfl) dX7_readsSum_6 (pc' := 9) rfl (fun r_4 M_3 h m_5 => ?_)
  refine r_if_ne C dX7_readsSum_9 (pc' := 12) rfl (tgt := 14) (by decide) (fun c_6 => ?_) (fun c_6 => ?_)
  · have h := it_f h c_6
    obtain ⟨n_49, h⟩ := h
    refine r_sub (lv' := [(0, .ref a0), (1, .int x1_1)]) [1, 0] rfl ?_
    refine B_X7_readsSum_14 C hE n_49 M_3 (mMo.kd m_5 k_a0 (by decide)) h (fun M_50 m_51 h => ?_) (fun M_52 m_53 h => ?_)
    · refine r_iconst C dX7_readsSum_81 (pc' := 82) rfl (v := 0) rfl ?_
      exact r_zret C hE (Or.inl rfl) (Nat.le_of_ble_eq_true rfl) (Nat.le_of_ble_eq_true rfl) dX7_readsSum_82 ⟨_, rfl, h⟩
    · refine r_sub (lv' := [(0, .ref a0), (1, .int x1_1)]) [0, 1] rfl ?_
      exact B_X7_readsSum_138 C hE (mMo.kd m_53 (mMo.kd m_5 k_a0 (by decide)) (by decide)) h
  · have h := it_t h c_6
    refine r_iconst C dX7_readsSum_12 (pc' := 13) rfl (v := 0) rfl ?_
    exact r_zret C hE (Or.inl rfl) (Nat.le_of_ble_eq_true rfl) (Nat.le_of_ble_eq_true rfl) dX7_readsSum_13 ⟨_, rfl, h⟩
set_option maxHeartbeats 4000000 in
theorem B_X7_readsCompared_52 {E : mE} {M : MM} {a0 : Nat} {xs0 : Int32} {Post : Int32 → MM → Prop} (C : mC E yX7_readsCompared cX7_readsCompared 2 ((some .boolean)) { frames := 5, cells := 0, slots := 0, locals := 104 }) (hE : mEnd E { frames := 5, cells := 0, slots := 0, locals := 104 } (pI_ Post)) (k_a0 : mkd M a0 = 7) (h : wb_X7_readsCompared_52 M a0 xs0 Post) : mV E M 0 0 52 [(0, .ref a0)] [.int xs0] := by
  unfold wb_X7_readsCompared_52 at h
  refine r_istore_n C (lv' := [(1, .int xs0), (0, .ref a0)]) dX7_readsCompared_52 (pc' := 53) rfl rfl xs0 rfl (Nat.le_of_ble_eq_true rfl) rfl ?_
  refine r_iload_n C dX7_readsCompared_53 (pc' := 54) rfl (j := 0) rfl ?_
  refine r_iconst C dX7_readsCompared_54 (pc' := 55) rfl (v := -1) rfl ?_
  refine r_icmp_ne C dX7_readsCompared_55 (pc' := 58) rfl (tgt := 68) (by decide) (fun c_17 => ?_) (fun c_17 => ?_)
  · have h := it_f h c_17
    refine r_aload_n C dX7_readsCompared_68 (pc' := 69) rfl (j := 1) rfl ?_
    refine r_aload_n C dX7_readsCompared_69 (pc' := 70) rfl (j := 1) rfl ?_
    refine r_getf C (Cn := RX7) (T := TX7) 5 k_a0 (by decide) vc_X7 in_X7 (by decide) q1229 dX7_readsCompared_70 (pc' := 73) rfl (v := .int (mgI M a0 5)) rfl ?_
    refine r_iconst C dX7_readsCompared_73 (pc' := 74) rfl (v := 1) rfl ?_
    refine r_iadd C dX7_readsCompared_74 (pc' := 75) rfl ?_
    obtain ⟨M_18, e_19, h⟩ := bn_ h
    refine r_putI C (Cn := RX7) (T := TX7) tyX7 5 k_a0 (by decide) vc_X7 in_X7 tyX7_ok nmX7 (by decide) q1229 rfl rfl dX7_readsCompared_75 (pc' := 78) rfl rfl rfl M_18 e_19 ?_
    refine r_aload_n C dX7_readsCompared_78 (pc' := 79) rfl (j := 1) rfl ?_
    refine r_callVi (As := []) (rest := []) (Cn := RX7) (T := TX7) C (mMo.kd (mo_I e_19) k_a0 (by decide)) (by decide) vc_X7 (S_X7_readsSum (mMo.kd (mo_I e_19) k_a0 (by decide)) h) (lw_V q1451 q1453 qs58 q112 q1454) rfl hd_X7_readsSum rfl rfl (Nat.le_of_ble_eq_true rfl) (Nat.le_of_ble_eq_true rfl) (Nat.le_of_ble_eq_true rfl) rfl rfl (Nat.le_of_ble_eq_true rfl) (Nat.le_of_ble_eq_true rfl) dX7_readsCompared_79 (pc' := 82) rfl (fun r_21 M_20 h m_22 => ?_)
    refine r_if_ne C dX7_readsCompared_82 (pc' := 85) rfl (tgt := 87) (by decide) (fun c_23 => ?_) (fun c_23 => ?_)
    · have h := it_f h c_23
      refine r_aload_n C dX7_readsCompared_87 (pc' := 88) rfl (j := 1) rfl ?_
      refine r_iload_n C dX7_readsCompared_88 (pc' := 89) rfl (j := 0) rfl ?_
      refine r_iconst C dX7_readsCompared_89 (pc' := 90) rfl (v := 0) rfl ?_
      refine r_callVv (As := [.int xs0, .int (0 : Int32)]) (rest := []) (Cn := RX7) (T := TX7) C (mMo.kd m_22 (mMo.kd (mo_I e_19) k_a0 (by decide)) (by decide)) (by decide) vc_X7 (S_X7_notes (mMo.kd m_22 (mMo.kd (mo_I e_19) k_a0 (by decide)) (by decide)) h) (lw_V q1472 q1474 qs63 q112 q1475) rfl hd_X7_notes rfl rfl (Nat.le_of_ble_eq_true rfl) (Nat.le_of_ble_eq_true rfl) (Nat.le_of_ble_eq_true rfl) rfl rfl (Nat.le_of_ble_eq_true rfl) (Nat.le_of_ble_eq_true rfl) dX7_readsCompared_90 (pc' := 93) rfl (fun M_24 h m_26 => ?_)
      refine r_aload_n C dX7_readsCompared_93 (pc' := 94) rfl (j := 1) rfl ?_
      refine r_callVv (As := []) (rest := []) (Cn := RX7) (T := TX7) C (mMo.kd m_26 (mMo.kd m_22 (mMo.kd (mo_I e_19) k_a0 (by decide)) (by decide)) (by decide)) (by decide) vc_X7 (S_X7_endsPiece (mMo.kd m_26 (mMo.kd m_22 (mMo.kd (mo_I e_19) k_a0 (by decide)) (by decide)) (by decide)) h) (lw_V q1502 q1504 qs69 q112 q1505) rfl hd_X7_endsPiece rfl rfl (Nat.le_of_ble_eq_true rfl) (Nat.le_of_ble_eq_true rfl) (Nat.le_of_ble_eq_true rfl) rfl rfl (Nat.le_of_ble_eq_true rfl) (Nat.le_of_ble_eq_true rfl) dX7_readsCompared_94 (pc' := 97) rfl (fun M_27 h m_29 => ?_)
      refine r_iconst C dX7_readsCompared_97 (pc' := 98) rfl (v := 1) rfl ?_
      exact r_zret C hE (Or.inr rfl) (Nat.le_of_ble_eq_true rfl) (Nat.le_of_ble_eq_true rfl) dX7_readsCompared_98 ⟨_, rfl, h⟩
    · have h := it_t h c_23
      refine r_iconst C dX7_readsCompared_85 (pc' := 86) rfl (v := 0) rfl ?_
      exact r_zret C hE (Or.inl rfl) (Nat.le_of_ble_eq_true rfl) (Nat.le_of_ble_eq_true rfl) dX7_readsCompared_86 ⟨_, rfl, h⟩
  · have h := it_t h c_17
    refine r_aload_n C dX7_readsCompared_58 (pc' := 59) rfl (j := 1) rfl ?_
    refine r_iconst C dX7_readsCompared_59 (pc' := 60) rfl (v := 1) rfl ?_
    refine r_aload_n C dX7_readsCompared_60 (pc' := 61) rfl (j := 1) rfl ?_
    refine r_getf C (Cn := RX7) (T := TX7) 5 k_a0 (by decide) vc_X7 in_X7 (by decide) q1229 dX7_readsCompared_61 (pc' := 64) rfl (v := .int (mgI M a0 5)) rfl ?_
    refine r_callVi (As := [.int (1 : Int32), .int (mgI M a0 5)]) (rest := []) (Cn := RX7) (T := TX7) C k_a0 (by decide) vc_X7 (S_X7_wrongAt k_a0 h) (lw_V q1447 q1449 qs57 q112 q1450) rfl hd_X7_wrongAt rfl rfl (Nat.le_of_ble_eq_true rfl) (Nat.le_of_ble_eq_true rfl) (Nat.le_of_ble_eq_true rfl) rfl rfl (Nat.le_of_ble_eq_true rfl) (Nat.le_of_ble_eq_true rfl) dX7_readsCompared_64 (pc' := 67) rfl (fun r_31 M_30 h m_32 => ?_)
    obtain ⟨c_33, h⟩ := h
    exact r_zret C hE c_33 (Nat.le_of_ble_eq_true rfl) (Nat.le_of_ble_eq_true rfl) dX7_readsCompared_67 ⟨_, rfl, h⟩
set_option maxHeartbeats 4000000 in
theorem S_X7_readsCompared {D : DD} {l : Launch} {M : MM} {a0 : Nat} {Post : Int32 → MM → Prop} (k_a0 : mkd M a0 = 7) (h : wp_X7_readsCompared M a0 Post) : mMet D l yX7_readsCompared cX7_readsCompared 2 ((some .boolean)) { frames := 5, cells := 0, slots := 0, locals := 104 } M [.ref a0] (pI_ Post) := by
  refine m_of2 [(0, .ref a0)] (by decide +kernel) (Nat.le_of_ble_eq_true rfl) rfl (fun E hED hEl C hE => ?_)
  subst hED
  subst hEl
  unfold wp_X7_readsCompared at h
  refine r_aload_n C dX7_readsCompared_0 (pc' := 1) rfl (j := 0) rfl ?_
  refine r_callVi (As := []) (rest := []) (Cn := RX7) (T := TX7) C k_a0 (by decide) vc_X7 (S_X7_readsSum k_a0 h) (lw_V q1451 q1453 qs58 q112 q1454) rfl hd_X7_readsSum rfl rfl (Nat.le_of_ble_eq_true rfl) (Nat.le_of_ble_eq_true rfl) (Nat.le_of_ble_eq_true rfl) rfl rfl (Nat.le_of_ble_eq_true rfl) (Nat.le_of_ble_eq_true rfl) dX7_readsCompared_1 (pc' := 4) rfl (fun r_2 M_1 h m_3 => ?_)
  refine r_if_ne C dX7_readsCompared_4 (pc' := 7) rfl (tgt := 9) (by decide) (fun c_4 => ?_) (fun c_4 => ?_)
  · have h := it_f h c_4
    refine r_aload_n C dX7_readsCompared_9 (pc' := 10) rfl (j := 0) rfl ?_
    refine r_callVi (As := []) (rest := []) (Cn := RX7) (T := TX7) C (mMo.kd m_3 k_a0 (by decide)) (by decide) vc_X7 (S_X7_here (mMo.kd m_3 k_a0 (by decide)) h) (lw_V q1440 q1442 qs56 q112 q1443) rfl hd_X7_here rfl rfl (Nat.le_of_ble_eq_true rfl) (Nat.le_of_ble_eq_true rfl) (Nat.le_of_ble_eq_true rfl) rfl rfl (Nat.le_of_ble_eq_true rfl) (Nat.le_of_ble_eq_true rfl) dX7_readsCompared_10 (pc' := 13) rfl (fun r_6 M_5 h m_7 => ?_)
    refine r_bipush C dX7_readsCompared_13 (pc' := 15) rfl (v := 60) rfl ?_
    refine r_icmp_ne C dX7_readsCompared_15 (pc' := 18) rfl (tgt := 23) (by decide) (fun c_8 => ?_) (fun c_8 => ?_)
    · have h := it_f h c_8
      refine r_aload_n C dX7_readsCompared_23 (pc' := 24) rfl (j := 0) rfl ?_
      refine r_callVi (As := []) (rest := []) (Cn := RX7) (T := TX7) C (mMo.kd m_7 (mMo.kd m_3 k_a0 (by decide)) (by decide)) (by decide) vc_X7 (S_X7_here (mMo.kd m_7 (mMo.kd m_3 k_a0 (by decide)) (by decide)) h) (lw_V q1440 q1442 qs56 q112 q1443) rfl hd_X7_here rfl rfl (Nat.le_of_ble_eq_true rfl) (Nat.le_of_ble_eq_true rfl) (Nat.le_of_ble_eq_true rfl) rfl rfl (Nat.le_of_ble_eq_true rfl) (Nat.le_of_ble_eq_true rfl) dX7_readsCompared_24 (pc' := 27) rfl (fun r_10 M_9 h m_11 => ?_)
      refine r_bipush C dX7_readsCompared_27 (pc' := 29) rfl (v := 62) rfl ?_
      refine r_icmp_ne C dX7_readsCompared_29 (pc' := 32) rfl (tgt := 37) (by decide) (fun c_12 => ?_) (fun c_12 => ?_)
      · have h := it_f h c_12
        refine r_aload_n C dX7_readsCompared_37 (pc' := 38) rfl (j := 0) rfl ?_
        refine r_callVi (As := []) (rest := []) (Cn := RX7) (T := TX7) C (mMo.kd m_11 (mMo.kd m_7 (mMo.kd m_3 k_a0 (by decide)) (by decide)) (by decide)) (by decide) vc_X7 (S_X7_here (mMo.kd m_11 (mMo.kd m_7 (mMo.kd m_3 k_a0 (by decide)) (by decide)) (by decide)) h) (lw_V q1440 q1442 qs56 q112 q1443) rfl hd_X7_here rfl rfl (Nat.le_of_ble_eq_true rfl) (Nat.le_of_ble_eq_true rfl) (Nat.le_of_ble_eq_true rfl) rfl rfl (Nat.le_of_ble_eq_true rfl) (Nat.le_of_ble_eq_true rfl) dX7_readsCompared_38 (pc' := 41) rfl (fun r_14 M_13 h m_15 => ?_)
        refine r_bipush C dX7_readsCompared_41 (pc' := 43) rfl (v := 61) rfl ?_
        refine r_icmp_ne C dX7_readsCompared_43 (pc' := 46) rfl (tgt := 51) (by decide) (fun c_16 => ?_) (fun c_16 => ?_)
        · have h := it_f h c_16
          refine r_iconst C dX7_readsCompared_51 (pc' := 52) rfl (v := -1) rfl ?_
          refine r_sub (lv' := [(0, .ref a0)]) [0] rfl ?_
          exact B_X7_readsCompared_52 C hE (mMo.kd m_15 (mMo.kd m_11 (mMo.kd m_7 (mMo.kd m_3 k_a0 (by decide)) (by decide)) (by decide)) (by decide)) h
        · have h := it_t h c_16
          refine r_bipush C dX7_readsCompared_46 (pc' := 48) rfl (v := 9) rfl ?_
          refine r_goto C dX7_readsCompared_48 (tgt := 52) (by decide) ?_
          refine r_sub (lv' := [(0, .ref a0)]) [0] rfl ?_
          exact B_X7_readsCompared_52 C hE (mMo.kd m_15 (mMo.kd m_11 (mMo.kd m_7 (mMo.kd m_3 k_a0 (by decide)) (by decide)) (by decide)) (by decide)) h
      · have h := it_t h c_12
        refine r_bipush C dX7_readsCompared_32 (pc' := 34) rfl (v := 8) rfl ?_
        refine r_goto C dX7_readsCompared_34 (tgt := 52) (by decide) ?_
        refine r_sub (lv' := [(0, .ref a0)]) [0] rfl ?_
        exact B_X7_readsCompared_52 C hE (mMo.kd m_11 (mMo.kd m_7 (mMo.kd m_3 k_a0 (by decide)) (by decide)) (by decide)) h
    · have h := it_t h c_8
      refine r_bipush C dX7_readsCompared_18 (pc' := 20) rfl (v := 7) rfl ?_
      refine r_goto C dX7_readsCompared_20 (tgt := 52) (by decide) ?_
      refine r_sub (lv' := [(0, .ref a0)]) [0] rfl ?_
      exact B_X7_readsCompared_52 C hE (mMo.kd m_7 (mMo.kd m_3 k_a0 (by decide)) (by decide)) h
  · have h := it_t h c_4
    refine r_iconst C dX7_readsCompared_7 (pc' := 8) rfl (v := 0) rfl ?_
    exact r_zret C hE (Or.inl rfl) (Nat.le_of_ble_eq_true rfl) (Nat.le_of_ble_eq_true rfl) dX7_readsCompared_8 ⟨_, rfl, h⟩
set_option maxHeartbeats 4000000 in
theorem B_X7_readsCondition_75 {E : mE} {M : MM} {a0 : Nat} {as0 : Nat} {xs1 : Int32} {R : MM → Prop} {X81 : MM → Prop} {X90 : MM → Prop} {X143 : MM → Prop} {X170 : MM → Prop} {Post : Int32 → MM → Prop} (C : mC E yX7_readsCondition cX7_readsCondition 1 ((some .boolean)) { frames := 6, cells := 0, slots := 0, locals := 125 }) (hE : mEnd E { frames := 6, cells := 0, slots := 0, locals := 125 } (pI_ Post)) (k_a0 : mkd M a0 = 7) (k_as0 : mkd M as0 = 7) (h : wb_X7_readsCondition_75 M a0 as0 xs1 R X81 X90 X143 X170) (hR : ∀ (M' : MM), mMo M M' → mkd M' a0 = 7 → R M' → mV E M' 0 0 40 [(0, .ref a0)] []) (hX81 : ∀ (M' : MM), mMo M M' → X81 M' → mV E M' 0 0 81 [] []) (hX90 : ∀ (M' : MM), mMo M M' → X90 M' → mV E M' 0 0 90 [] []) (hX143 : ∀ (M' : MM), mMo M M' → X143 M' → mV E M' 0 0 143 [] []) (hX170 : ∀ (M' : MM), mMo M M' → X170 M' → mV E M' 0 0 170 [(0, .ref a0)] []) : mV E M 0 0 75 [(0, .ref a0)] [.int xs1, .ref as0] := by
  unfold wb_X7_readsCondition_75 at h
  refine r_callVi (As := [.int xs1]) (rest := []) (Cn := RX7) (T := TX7) C k_as0 (by decide) vc_X7 (S_X7_opens k_as0 h) (lw_V q1459 q1461 qs60 q112 q1462) rfl hd_X7_opens rfl rfl (Nat.le_of_ble_eq_true rfl) (Nat.le_of_ble_eq_true rfl) (Nat.le_of_ble_eq_true rfl) rfl rfl (Nat.le_of_ble_eq_true rfl) (Nat.le_of_ble_eq_true rfl) dX7_readsCondition_75 (pc' := 78) rfl (fun r_22 M_21 h m_23 => ?_)
  refine r_if_ne C dX7_readsCondition_78 (pc' := 81) rfl (tgt := 40) (by decide) (fun c_24 => ?_) (fun c_24 => ?_)
  · have h := it_f h c_24
    refine r_sub (lv' := [(0, .ref a0)]) [0] rfl ?_
    exact hR M_21 m_23 (mMo.kd m_23 k_a0 (by decide)) h
  · have h := it_t h c_24
    refine r_sub (lv' := []) [] rfl ?_
    exact hX81 M_21 m_23 h
set_option maxHeartbeats 4000000 in
theorem B_X7_readsCondition_58 {E : mE} {M : MM} {a0 : Nat} {R : MM → Prop} {X81 : MM → Prop} {X90 : MM → Prop} {X143 : MM → Prop} {X170 : MM → Prop} {Post : Int32 → MM → Prop} (C : mC E yX7_readsCondition cX7_readsCondition 1 ((some .boolean)) { frames := 6, cells := 0, slots := 0, locals := 125 }) (hE : mEnd E { frames := 6, cells := 0, slots := 0, locals := 125 } (pI_ Post)) (k_a0 : mkd M a0 = 7) (h : wb_X7_readsCondition_58 M a0 R X81 X90 X143 X170) (hR : ∀ (M' : MM), mMo M M' → mkd M' a0 = 7 → R M' → mV E M' 0 0 40 [(0, .ref a0)] []) (hX81 : ∀ (M' : MM), mMo M M' → X81 M' → mV E M' 0 0 81 [] []) (hX90 : ∀ (M' : MM), mMo M M' → X90 M' → mV E M' 0 0 90 [] []) (hX143 : ∀ (M' : MM), mMo M M' → X143 M' → mV E M' 0 0 143 [] []) (hX170 : ∀ (M' : MM), mMo M M' → X170 M' → mV E M' 0 0 170 [(0, .ref a0)] []) : mV E M 0 0 58 [(0, .ref a0)] [] := by
  unfold wb_X7_readsCondition_58 at h
  refine r_aload_n C dX7_readsCondition_58 (pc' := 59) rfl (j := 0) rfl ?_
  refine r_aload_n C dX7_readsCondition_59 (pc' := 60) rfl (j := 0) rfl ?_
  refine r_callVi (As := []) (rest := [.ref a0]) (Cn := RX7) (T := TX7) C k_a0 (by decide) vc_X7 (S_X7_here k_a0 h) (lw_V q1440 q1442 qs56 q112 q1443) rfl hd_X7_here rfl rfl (Nat.le_of_ble_eq_true rfl) (Nat.le_of_ble_eq_true rfl) (Nat.le_of_ble_eq_true rfl) rfl rfl (Nat.le_of_ble_eq_true rfl) (Nat.le_of_ble_eq_true rfl) dX7_readsCondition_60 (pc' := 63) rfl (fun r_18 M_17 h m_19 => ?_)
  refine r_bipush C dX7_readsCondition_63 (pc' := 65) rfl (v := 33) rfl ?_
  refine r_icmp_ne C dX7_readsCondition_65 (pc' := 68) rfl (tgt := 73) (by decide) (fun c_20 => ?_) (fun c_20 => ?_)
  · have h := it_f h c_20
    refine r_bipush C dX7_readsCondition_73 (pc' := 75) rfl (v := 13) rfl ?_
    refine r_sub (lv' := [(0, .ref a0)]) [0] rfl ?_
    exact B_X7_readsCondition_75 C hE (mMo.kd m_19 k_a0 (by decide)) (mMo.kd m_19 k_a0 (by decide)) h (fun M8 hm8 g0 h8 => hR M8 (mMo.tr m_19 hm8) g0 h8) (fun M9 hm9 h9 => hX81 M9 (mMo.tr m_19 hm9) h9) (fun M9 hm9 h9 => hX90 M9 (mMo.tr m_19 hm9) h9) (fun M9 hm9 h9 => hX143 M9 (mMo.tr m_19 hm9) h9) (fun M9 hm9 h9 => hX170 M9 (mMo.tr m_19 hm9) h9)
  · have h := it_t h c_20
    refine r_bipush C dX7_readsCondition_68 (pc' := 70) rfl (v := 10) rfl ?_
    refine r_goto C dX7_readsCondition_70 (tgt := 75) (by decide) ?_
    refine r_sub (lv' := [(0, .ref a0)]) [0] rfl ?_
    exact B_X7_readsCondition_75 C hE (mMo.kd m_19 k_a0 (by decide)) (mMo.kd m_19 k_a0 (by decide)) h (fun M8 hm8 g0 h8 => hR M8 (mMo.tr m_19 hm8) g0 h8) (fun M9 hm9 h9 => hX81 M9 (mMo.tr m_19 hm9) h9) (fun M9 hm9 h9 => hX90 M9 (mMo.tr m_19 hm9) h9) (fun M9 hm9 h9 => hX143 M9 (mMo.tr m_19 hm9) h9) (fun M9 hm9 h9 => hX170 M9 (mMo.tr m_19 hm9) h9)
set_option maxHeartbeats 4000000 in
theorem B_X7_readsCondition_92 {E : mE} {a0 : Nat} {X143 : MM → Prop} {X152 : MM → Prop} {Post : Int32 → MM → Prop} (C : mC E yX7_readsCondition cX7_readsCondition 1 ((some .boolean)) { frames := 6, cells := 0, slots := 0, locals := 125 }) (hE : mEnd E { frames := 6, cells := 0, slots := 0, locals := 125 } (pI_ Post)) : ∀ (n_ : Nat) (M : MM), mkd M a0 = 7 → wl_X7_readsCondition_92 a0 X143 X152 n_ M → (∀ (M' : MM), mMo M M' → X143 M' → mV E M' 0 0 143 [] []) → (∀ (M' : MM), mMo M M' → X152 M' → mV E M' 0 0 152 [(0, .ref a0)] []) → mV E M 0 0 92 [(0, .ref a0)] [] := by
  intro n_
  induction n_ with
  | zero =>
    intro M k_a0 h hX143 hX152
    exact absurd h (by rw [wl_X7_readsCondition_92]; exact fun q => q)
  | succ n_ ih =>
    intro M k_a0 h hX143 hX152
    rw [wl_X7_readsCondition_92] at h
    refine r_aload_n C dX7_readsCondition_92 (pc' := 93) rfl (j := 0) rfl ?_
    refine r_callVi (As := []) (rest := []) (Cn := RX7) (T := TX7) C k_a0 (by decide) vc_X7 (S_X7_here k_a0 h) (lw_V q1440 q1442 qs56 q112 q1443) rfl hd_X7_here rfl rfl (Nat.le_of_ble_eq_true rfl) (Nat.le_of_ble_eq_true rfl) (Nat.le_of_ble_eq_true rfl) rfl rfl (Nat.le_of_ble_eq_true rfl) (Nat.le_of_ble_eq_true rfl) dX7_readsCondition_93 (pc' := 96) rfl (fun r_34 M_33 h m_35 => ?_)
    refine r_bipush C dX7_readsCondition_96 (pc' := 98) rfl (v := 41) rfl ?_
    refine r_icmp_ne C dX7_readsCondition_98 (pc' := 101) rfl (tgt := 152) (by decide) (fun c_36 => ?_) (fun c_36 => ?_)
    · have h := it_f h c_36
      refine r_sub (lv' := [(0, .ref a0)]) [0] rfl ?_
      exact hX152 M_33 m_35 h
    · have h := it_t h c_36
      refine r_aload_n C dX7_readsCondition_101 (pc' := 102) rfl (j := 0) rfl ?_
      refine r_iconst C dX7_readsCondition_102 (pc' := 103) rfl (v := 1) rfl ?_
      refine r_callVv (As := [.int (1 : Int32)]) (rest := []) (Cn := RX7) (T := TX7) C (mMo.kd m_35 k_a0 (by decide)) (by decide) vc_X7 (S_X7_lands (mMo.kd m_35 k_a0 (by decide)) h) (lw_V q1506 q1508 qs70 q112 q1509) rfl hd_X7_lands rfl rfl (Nat.le_of_ble_eq_true rfl) (Nat.le_of_ble_eq_true rfl) (Nat.le_of_ble_eq_true rfl) rfl rfl (Nat.le_of_ble_eq_true rfl) (Nat.le_of_ble_eq_true rfl) dX7_readsCondition_103 (pc' := 106) rfl (fun M_37 h m_39 => ?_)
      refine r_aload_n C dX7_readsCondition_106 (pc' := 107) rfl (j := 0) rfl ?_
      refine r_aload_n C dX7_readsCondition_107 (pc' := 108) rfl (j := 0) rfl ?_
      refine r_getf C (Cn := RX7) (T := TX7) 11 (mMo.kd m_39 (mMo.kd m_35 k_a0 (by decide)) (by decide)) (by decide) vc_X7 in_X7 (by decide) q1235 dX7_readsCondition_108 (pc' := 111) rfl (v := .int (mgI M_37 a0 11)) rfl ?_
      refine r_iconst C dX7_readsCondition_111 (pc' := 112) rfl (v := 1) rfl ?_
      refine r_isub C dX7_readsCondition_112 (pc' := 113) rfl ?_
      obtain ⟨M_40, e_41, h⟩ := bn_ h
      refine r_putI C (Cn := RX7) (T := TX7) tyX7 11 (mMo.kd m_39 (mMo.kd m_35 k_a0 (by decide)) (by decide)) (by decide) vc_X7 in_X7 tyX7_ok nmX7 (by decide) q1235 rfl rfl dX7_readsCondition_113 (pc' := 116) rfl rfl rfl M_40 e_41 ?_
      refine r_aload_n C dX7_readsCondition_116 (pc' := 117) rfl (j := 0) rfl ?_
      refine r_aload_n C dX7_readsCondition_117 (pc' := 118) rfl (j := 0) rfl ?_
      refine r_getf C (Cn := RX7) (T := TX7) 9 (mMo.kd (mo_I e_41) (mMo.kd m_39 (mMo.kd m_35 k_a0 (by decide)) (by decide)) (by decide)) (by decide) vc_X7 in_X7 (by decide) q1233 dX7_readsCondition_118 (pc' := 121) rfl (v := .int (mgI M_40 a0 9)) rfl ?_
      refine r_iconst C dX7_readsCondition_121 (pc' := 122) rfl (v := 1) rfl ?_
      refine r_isub C dX7_readsCondition_122 (pc' := 123) rfl ?_
      obtain ⟨M_42, e_43, h⟩ := bn_ h
      refine r_putI C (Cn := RX7) (T := TX7) tyX7 9 (mMo.kd (mo_I e_41) (mMo.kd m_39 (mMo.kd m_35 k_a0 (by decide)) (by decide)) (by decide)) (by decide) vc_X7 in_X7 tyX7_ok nmX7 (by decide) q1233 rfl rfl dX7_readsCondition_123 (pc' := 126) rfl rfl rfl M_42 e_43 ?_
      refine r_aload_n C dX7_readsCondition_126 (pc' := 127) rfl (j := 0) rfl ?_
      refine r_aload_n C dX7_readsCondition_127 (pc' := 128) rfl (j := 0) rfl ?_
      refine r_getf C (Cn := RX7) (T := TX7) 5 (mMo.kd (mo_I e_43) (mMo.kd (mo_I e_41) (mMo.kd m_39 (mMo.kd m_35 k_a0 (by decide)) (by decide)) (by decide)) (by decide)) (by decide) vc_X7 in_X7 (by decide) q1229 dX7_readsCondition_128 (pc' := 131) rfl (v := .int (mgI M_42 a0 5)) rfl ?_
      refine r_iconst C dX7_readsCondition_131 (pc' := 132) rfl (v := 1) rfl ?_
      refine r_iadd C dX7_readsCondition_132 (pc' := 133) rfl ?_
      obtain ⟨M_44, e_45, h⟩ := bn_ h
      refine r_putI C (Cn := RX7) (T := TX7) tyX7 5 (mMo.kd (mo_I e_43) (mMo.kd (mo_I e_41) (mMo.kd m_39 (mMo.kd m_35 k_a0 (by decide)) (by decide)) (by decide)) (by decide)) (by decide) vc_X7 in_X7 tyX7_ok nmX7 (by decide) q1229 rfl rfl dX7_readsCondition_133 (pc' := 136) rfl rfl rfl M_44 e_45 ?_
      refine r_aload_n C dX7_readsCondition_136 (pc' := 137) rfl (j := 0) rfl ?_
      refine r_getf C (Cn := RX7) (T := TX7) 11 (mMo.kd (mo_I e_45) (mMo.kd (mo_I e_43) (mMo.kd (mo_I e_41) (mMo.kd m_39 (mMo.kd m_35 k_a0 (by decide)) (by decide)) (by decide)) (by decide)) (by decide)) (by decide) vc_X7 in_X7 (by decide) q1235 dX7_readsCondition_137 (pc' := 140) rfl (v := .int (mgI M_44 a0 11)) rfl ?_
      refine r_if_ne C dX7_readsCondition_140 (pc' := 143) rfl (tgt := 145) (by decide) (fun c_46 => ?_) (fun c_46 => ?_)
      · have h := it_f h c_46
        refine r_aload_n C dX7_readsCondition_145 (pc' := 146) rfl (j := 0) rfl ?_
        refine r_callVv (As := []) (rest := []) (Cn := RX7) (T := TX7) C (mMo.kd (mo_I e_45) (mMo.kd (mo_I e_43) (mMo.kd (mo_I e_41) (mMo.kd m_39 (mMo.kd m_35 k_a0 (by decide)) (by decide)) (by decide)) (by decide)) (by decide)) (by decide) vc_X7 (S_X7_endsPiece (mMo.kd (mo_I e_45) (mMo.kd (mo_I e_43) (mMo.kd (mo_I e_41) (mMo.kd m_39 (mMo.kd m_35 k_a0 (by decide)) (by decide)) (by decide)) (by decide)) (by decide)) h) (lw_V q1502 q1504 qs69 q112 q1505) rfl hd_X7_endsPiece rfl rfl (Nat.le_of_ble_eq_true rfl) (Nat.le_of_ble_eq_true rfl) (Nat.le_of_ble_eq_true rfl) rfl rfl (Nat.le_of_ble_eq_true rfl) (Nat.le_of_ble_eq_true rfl) dX7_readsCondition_146 (pc' := 149) rfl (fun M_47 h m_49 => ?_)
        refine r_goto C dX7_readsCondition_149 (tgt := 92) (by decide) ?_
        refine r_sub (lv' := [(0, .ref a0)]) [0] rfl ?_
        exact ih M_47 (mMo.kd m_49 (mMo.kd (mo_I e_45) (mMo.kd (mo_I e_43) (mMo.kd (mo_I e_41) (mMo.kd m_39 (mMo.kd m_35 k_a0 (by decide)) (by decide)) (by decide)) (by decide)) (by decide)) (by decide)) h (fun M9 hm9 h9 => hX143 M9 (mMo.tr (mMo.tr (mMo.tr (mMo.tr (mMo.tr (mMo.tr m_35 m_39) (mo_I e_41)) (mo_I e_43)) (mo_I e_45)) m_49) hm9) h9) (fun M9 hm9 h9 => hX152 M9 (mMo.tr (mMo.tr (mMo.tr (mMo.tr (mMo.tr (mMo.tr m_35 m_39) (mo_I e_41)) (mo_I e_43)) (mo_I e_45)) m_49) hm9) h9)
      · have h := it_t h c_46
        refine r_sub (lv' := []) [] rfl ?_
        exact hX143 M_44 (mMo.tr (mMo.tr (mMo.tr (mMo.tr m_35 m_39) (mo_I e_41)) (mo_I e_43)) (mo_I e_45)) h
set_option maxHeartbeats 4000000 in
theorem B_X7_readsCondition_215 {E : mE} {M : MM} {a0 : Nat} {as0 : Nat} {xs1 : Int32} {R : MM → Prop} {X81 : MM → Prop} {X90 : MM → Prop} {X143 : MM → Prop} {X170 : MM → Prop} {Post : Int32 → MM → Prop} (C : mC E yX7_readsCondition cX7_readsCondition 1 ((some .boolean)) { frames := 6, cells := 0, slots := 0, locals := 125 }) (hE : mEnd E { frames := 6, cells := 0, slots := 0, locals := 125 } (pI_ Post)) (k_a0 : mkd M a0 = 7) (k_as0 : mkd M as0 = 7) (h : wb_X7_readsCondition_215 M a0 as0 xs1 R X81 X90 X143 X170) (hR : ∀ (M' : MM), mMo M M' → mkd M' a0 = 7 → R M' → mV E M' 0 0 40 [(0, .ref a0)] []) (hX81 : ∀ (M' : MM), mMo M M' → X81 M' → mV E M' 0 0 81 [] []) (hX90 : ∀ (M' : MM), mMo M M' → X90 M' → mV E M' 0 0 90 [] []) (hX143 : ∀ (M' : MM), mMo M M' → X143 M' → mV E M' 0 0 143 [] []) (hX170 : ∀ (M' : MM), mMo M M' → X170 M' → mV E M' 0 0 170 [(0, .ref a0)] []) : mV E M 0 0 215 [(0, .ref a0)] [.int xs1, .ref as0] := by
  unfold wb_X7_readsCondition_215 at h
  refine r_callVv (As := [.int xs1]) (rest := []) (Cn := RX7) (T := TX7) C k_as0 (by decide) vc_X7 (S_X7_jumps k_as0 h) (lw_V q1510 q1512 qs71 q112 q1513) rfl hd_X7_jumps rfl rfl (Nat.le_of_ble_eq_true rfl) (Nat.le_of_ble_eq_true rfl) (Nat.le_of_ble_eq_true rfl) rfl rfl (Nat.le_of_ble_eq_true rfl) (Nat.le_of_ble_eq_true rfl) dX7_readsCondition_215 (pc' := 218) rfl (fun M_70 h m_72 => ?_)
  refine r_goto C dX7_readsCondition_218 (tgt := 40) (by decide) ?_
  refine r_sub (lv' := [(0, .ref a0)]) [0] rfl ?_
  exact hR M_70 m_72 (mMo.kd m_72 k_a0 (by decide)) h
set_option maxHeartbeats 4000000 in
theorem B_X7_readsCondition_195 {E : mE} {M : MM} {a0 : Nat} {as0 : Nat} {xs1 : Int32} {R : MM → Prop} {X81 : MM → Prop} {X90 : MM → Prop} {X143 : MM → Prop} {X170 : MM → Prop} {Post : Int32 → MM → Prop} (C : mC E yX7_readsCondition cX7_readsCondition 1 ((some .boolean)) { frames := 6, cells := 0, slots := 0, locals := 125 }) (hE : mEnd E { frames := 6, cells := 0, slots := 0, locals := 125 } (pI_ Post)) (k_a0 : mkd M a0 = 7) (k_as0 : mkd M as0 = 7) (h : wb_X7_readsCondition_195 M a0 as0 xs1 R X81 X90 X143 X170) (hR : ∀ (M' : MM), mMo M M' → mkd M' a0 = 7 → R M' → mV E M' 0 0 40 [(0, .ref a0)] []) (hX81 : ∀ (M' : MM), mMo M M' → X81 M' → mV E M' 0 0 81 [] []) (hX90 : ∀ (M' : MM), mMo M M' → X90 M' → mV E M' 0 0 90 [] []) (hX143 : ∀ (M' : MM), mMo M M' → X143 M' → mV E M' 0 0 143 [] []) (hX170 : ∀ (M' : MM), mMo M M' → X170 M' → mV E M' 0 0 170 [(0, .ref a0)] []) : mV E M 0 0 195 [(0, .ref a0)] [.int xs1, .ref as0] := by
  unfold wb_X7_readsCondition_195 at h
  refine r_callVv (As := [.int xs1]) (rest := []) (Cn := RX7) (T := TX7) C k_as0 (by decide) vc_X7 (S_X7_lands k_as0 h) (lw_V q1506 q1508 qs70 q112 q1509) rfl hd_X7_lands rfl rfl (Nat.le_of_ble_eq_true rfl) (Nat.le_of_ble_eq_true rfl) (Nat.le_of_ble_eq_true rfl) rfl rfl (Nat.le_of_ble_eq_true rfl) (Nat.le_of_ble_eq_true rfl) dX7_readsCondition_195 (pc' := 198) rfl (fun M_63 h m_65 => ?_)
  refine r_aload_n C dX7_readsCondition_198 (pc' := 199) rfl (j := 0) rfl ?_
  refine r_aload_n C dX7_readsCondition_199 (pc' := 200) rfl (j := 0) rfl ?_
  refine r_callVi (As := []) (rest := [.ref a0]) (Cn := RX7) (T := TX7) C (mMo.kd m_65 k_a0 (by decide)) (by decide) vc_X7 (S_X7_here (mMo.kd m_65 k_a0 (by decide)) h) (lw_V q1440 q1442 qs56 q112 q1443) rfl hd_X7_here rfl rfl (Nat.le_of_ble_eq_true rfl) (Nat.le_of_ble_eq_true rfl) (Nat.le_of_ble_eq_true rfl) rfl rfl (Nat.le_of_ble_eq_true rfl) (Nat.le_of_ble_eq_true rfl) dX7_readsCondition_200 (pc' := 203) rfl (fun r_67 M_66 h m_68 => ?_)
  refine r_bipush C dX7_readsCondition_203 (pc' := 205) rfl (v := 38) rfl ?_
  refine r_icmp_ne C dX7_readsCondition_205 (pc' := 208) rfl (tgt := 213) (by decide) (fun c_69 => ?_) (fun c_69 => ?_)
  · have h := it_f h c_69
    refine r_bipush C dX7_readsCondition_213 (pc' := 215) rfl (v := 12) rfl ?_
    refine r_sub (lv' := [(0, .ref a0)]) [0] rfl ?_
    exact B_X7_readsCondition_215 C hE (mMo.kd m_68 (mMo.kd m_65 k_a0 (by decide)) (by decide)) (mMo.kd m_68 (mMo.kd m_65 k_a0 (by decide)) (by decide)) h (fun M8 hm8 g0 h8 => hR M8 (mMo.tr (mMo.tr m_65 m_68) hm8) g0 h8) (fun M9 hm9 h9 => hX81 M9 (mMo.tr (mMo.tr m_65 m_68) hm9) h9) (fun M9 hm9 h9 => hX90 M9 (mMo.tr (mMo.tr m_65 m_68) hm9) h9) (fun M9 hm9 h9 => hX143 M9 (mMo.tr (mMo.tr m_65 m_68) hm9) h9) (fun M9 hm9 h9 => hX170 M9 (mMo.tr (mMo.tr m_65 m_68) hm9) h9)
  · have h := it_t h c_69
    refine r_bipush C dX7_readsCondition_208 (pc' := 210) rfl (v := 11) rfl ?_
    refine r_goto C dX7_readsCondition_210 (tgt := 215) (by decide) ?_
    refine r_sub (lv' := [(0, .ref a0)]) [0] rfl ?_
    exact B_X7_readsCondition_215 C hE (mMo.kd m_68 (mMo.kd m_65 k_a0 (by decide)) (by decide)) (mMo.kd m_68 (mMo.kd m_65 k_a0 (by decide)) (by decide)) h (fun M8 hm8 g0 h8 => hR M8 (mMo.tr (mMo.tr m_65 m_68) hm8) g0 h8) (fun M9 hm9 h9 => hX81 M9 (mMo.tr (mMo.tr m_65 m_68) hm9) h9) (fun M9 hm9 h9 => hX90 M9 (mMo.tr (mMo.tr m_65 m_68) hm9) h9) (fun M9 hm9 h9 => hX143 M9 (mMo.tr (mMo.tr m_65 m_68) hm9) h9) (fun M9 hm9 h9 => hX170 M9 (mMo.tr (mMo.tr m_65 m_68) hm9) h9)
set_option maxHeartbeats 4000000 in
theorem B_X7_readsCondition_180 {E : mE} {M : MM} {a0 : Nat} {R : MM → Prop} {X81 : MM → Prop} {X90 : MM → Prop} {X143 : MM → Prop} {X170 : MM → Prop} {Post : Int32 → MM → Prop} (C : mC E yX7_readsCondition cX7_readsCondition 1 ((some .boolean)) { frames := 6, cells := 0, slots := 0, locals := 125 }) (hE : mEnd E { frames := 6, cells := 0, slots := 0, locals := 125 } (pI_ Post)) (k_a0 : mkd M a0 = 7) (h : wb_X7_readsCondition_180 M a0 R X81 X90 X143 X170) (hR : ∀ (M' : MM), mMo M M' → mkd M' a0 = 7 → R M' → mV E M' 0 0 40 [(0, .ref a0)] []) (hX81 : ∀ (M' : MM), mMo M M' → X81 M' → mV E M' 0 0 81 [] []) (hX90 : ∀ (M' : MM), mMo M M' → X90 M' → mV E M' 0 0 90 [] []) (hX143 : ∀ (M' : MM), mMo M M' → X143 M' → mV E M' 0 0 143 [] []) (hX170 : ∀ (M' : MM), mMo M M' → X170 M' → mV E M' 0 0 170 [(0, .ref a0)] []) : mV E M 0 0 180 [(0, .ref a0)] [] := by
  unfold wb_X7_readsCondition_180 at h
  refine r_aload_n C dX7_readsCondition_180 (pc' := 181) rfl (j := 0) rfl ?_
  refine r_aload_n C dX7_readsCondition_181 (pc' := 182) rfl (j := 0) rfl ?_
  refine r_callVi (As := []) (rest := [.ref a0]) (Cn := RX7) (T := TX7) C k_a0 (by decide) vc_X7 (S_X7_here k_a0 h) (lw_V q1440 q1442 qs56 q112 q1443) rfl hd_X7_here rfl rfl (Nat.le_of_ble_eq_true rfl) (Nat.le_of_ble_eq_true rfl) (Nat.le_of_ble_eq_true rfl) rfl rfl (Nat.le_of_ble_eq_true rfl) (Nat.le_of_ble_eq_true rfl) dX7_readsCondition_182 (pc' := 185) rfl (fun r_60 M_59 h m_61 => ?_)
  refine r_bipush C dX7_readsCondition_185 (pc' := 187) rfl (v := 124) rfl ?_
  refine r_icmp_ne C dX7_readsCondition_187 (pc' := 190) rfl (tgt := 194) (by decide) (fun c_62 => ?_) (fun c_62 => ?_)
  · have h := it_f h c_62
    refine r_iconst C dX7_readsCondition_194 (pc' := 195) rfl (v := 0) rfl ?_
    refine r_sub (lv' := [(0, .ref a0)]) [0] rfl ?_
    exact B_X7_readsCondition_195 C hE (mMo.kd m_61 k_a0 (by decide)) (mMo.kd m_61 k_a0 (by decide)) h (fun M8 hm8 g0 h8 => hR M8 (mMo.tr m_61 hm8) g0 h8) (fun M9 hm9 h9 => hX81 M9 (mMo.tr m_61 hm9) h9) (fun M9 hm9 h9 => hX90 M9 (mMo.tr m_61 hm9) h9) (fun M9 hm9 h9 => hX143 M9 (mMo.tr m_61 hm9) h9) (fun M9 hm9 h9 => hX170 M9 (mMo.tr m_61 hm9) h9)
  · have h := it_t h c_62
    refine r_iconst C dX7_readsCondition_190 (pc' := 191) rfl (v := 1) rfl ?_
    refine r_goto C dX7_readsCondition_191 (tgt := 195) (by decide) ?_
    refine r_sub (lv' := [(0, .ref a0)]) [0] rfl ?_
    exact B_X7_readsCondition_195 C hE (mMo.kd m_61 k_a0 (by decide)) (mMo.kd m_61 k_a0 (by decide)) h (fun M8 hm8 g0 h8 => hR M8 (mMo.tr m_61 hm8) g0 h8) (fun M9 hm9 h9 => hX81 M9 (mMo.tr m_61 hm9) h9) (fun M9 hm9 h9 => hX90 M9 (mMo.tr m_61 hm9) h9) (fun M9 hm9 h9 => hX143 M9 (mMo.tr m_61 hm9) h9) (fun M9 hm9 h9 => hX170 M9 (mMo.tr m_61 hm9) h9)
set_option maxHeartbeats 4000000 in
theorem B_X7_readsCondition_40 {E : mE} {a0 : Nat} {X81 : MM → Prop} {X90 : MM → Prop} {X143 : MM → Prop} {X170 : MM → Prop} {Post : Int32 → MM → Prop} (C : mC E yX7_readsCondition cX7_readsCondition 1 ((some .boolean)) { frames := 6, cells := 0, slots := 0, locals := 125 }) (hE : mEnd E { frames := 6, cells := 0, slots := 0, locals := 125 } (pI_ Post)) : ∀ (n_ : Nat) (M : MM), mkd M a0 = 7 → wl_X7_readsCondition_40 a0 X81 X90 X143 X170 n_ M → (∀ (M' : MM), mMo M M' → X81 M' → mV E M' 0 0 81 [] []) → (∀ (M' : MM), mMo M M' → X90 M' → mV E M' 0 0 90 [] []) → (∀ (M' : MM), mMo M M' → X143 M' → mV E M' 0 0 143 [] []) → (∀ (M' : MM), mMo M M' → X170 M' → mV E M' 0 0 170 [(0, .ref a0)] []) → mV E M 0 0 40 [(0, .ref a0)] [] := by
  intro n_
  induction n_ with
  | zero =>
    intro M k_a0 h hX81 hX90 hX143 hX170
    exact absurd h (by rw [wl_X7_readsCondition_40]; exact fun q => q)
  | succ n_ ih =>
    intro M k_a0 h hX81 hX90 hX143 hX170
    rw [wl_X7_readsCondition_40] at h
    refine r_aload_n C dX7_readsCondition_40 (pc' := 41) rfl (j := 0) rfl ?_
    refine r_callVi (As := []) (rest := []) (Cn := RX7) (T := TX7) C k_a0 (by decide) vc_X7 (S_X7_here k_a0 h) (lw_V q1440 q1442 qs56 q112 q1443) rfl hd_X7_here rfl rfl (Nat.le_of_ble_eq_true rfl) (Nat.le_of_ble_eq_true rfl) (Nat.le_of_ble_eq_true rfl) rfl rfl (Nat.le_of_ble_eq_true rfl) (Nat.le_of_ble_eq_true rfl) dX7_readsCondition_41 (pc' := 44) rfl (fun r_14 M_13 h m_15 => ?_)
    refine r_bipush C dX7_readsCondition_44 (pc' := 46) rfl (v := 33) rfl ?_
    refine r_icmp_eq C dX7_readsCondition_46 (pc' := 49) rfl (tgt := 58) (by decide) (fun c_16 => ?_) (fun c_16 => ?_)
    · have h := it_t h c_16
      refine r_sub (lv' := [(0, .ref a0)]) [0] rfl ?_
      exact B_X7_readsCondition_58 C hE (mMo.kd m_15 k_a0 (by decide)) h (fun M8 hm8 g0 h8 => ih M8 g0 h8 (fun M9 hm9 h9 => hX81 M9 (mMo.tr (mMo.tr m_15 hm8) hm9) h9) (fun M9 hm9 h9 => hX90 M9 (mMo.tr (mMo.tr m_15 hm8) hm9) h9) (fun M9 hm9 h9 => hX143 M9 (mMo.tr (mMo.tr m_15 hm8) hm9) h9) (fun M9 hm9 h9 => hX170 M9 (mMo.tr (mMo.tr m_15 hm8) hm9) h9)) (fun M9 hm9 h9 => hX81 M9 (mMo.tr m_15 hm9) h9) (fun M9 hm9 h9 => hX90 M9 (mMo.tr m_15 hm9) h9) (fun M9 hm9 h9 => hX143 M9 (mMo.tr m_15 hm9) h9) (fun M9 hm9 h9 => hX170 M9 (mMo.tr m_15 hm9) h9)
    · have h := it_f h c_16
      refine r_aload_n C dX7_readsCondition_49 (pc' := 50) rfl (j := 0) rfl ?_
      refine r_callVi (As := []) (rest := []) (Cn := RX7) (T := TX7) C (mMo.kd m_15 k_a0 (by decide)) (by decide) vc_X7 (S_X7_here (mMo.kd m_15 k_a0 (by decide)) h) (lw_V q1440 q1442 qs56 q112 q1443) rfl hd_X7_here rfl rfl (Nat.le_of_ble_eq_true rfl) (Nat.le_of_ble_eq_true rfl) (Nat.le_of_ble_eq_true rfl) rfl rfl (Nat.le_of_ble_eq_true rfl) (Nat.le_of_ble_eq_true rfl) dX7_readsCondition_50 (pc' := 53) rfl (fun r_26 M_25 h m_27 => ?_)
      refine r_bipush C dX7_readsCondition_53 (pc' := 55) rfl (v := 40) rfl ?_
      refine r_icmp_ne C dX7_readsCondition_55 (pc' := 58) rfl (tgt := 83) (by decide) (fun c_28 => ?_) (fun c_28 => ?_)
      · have h := it_f h c_28
        refine r_aload_n C dX7_readsCondition_83 (pc' := 84) rfl (j := 0) rfl ?_
        refine r_callVi (As := []) (rest := []) (Cn := RX7) (T := TX7) C (mMo.kd m_27 (mMo.kd m_15 k_a0 (by decide)) (by decide)) (by decide) vc_X7 (S_X7_readsCompared (mMo.kd m_27 (mMo.kd m_15 k_a0 (by decide)) (by decide)) h) (lw_V q1498 q1500 qs68 q112 q1501) rfl hd_X7_readsCompared rfl rfl (Nat.le_of_ble_eq_true rfl) (Nat.le_of_ble_eq_true rfl) (Nat.le_of_ble_eq_true rfl) rfl rfl (Nat.le_of_ble_eq_true rfl) (Nat.le_of_ble_eq_true rfl) dX7_readsCondition_84 (pc' := 87) rfl (fun r_30 M_29 h m_31 => ?_)
        refine r_if_ne C dX7_readsCondition_87 (pc' := 90) rfl (tgt := 92) (by decide) (fun c_32 => ?_) (fun c_32 => ?_)
        · have h := it_f h c_32
          obtain ⟨n_50, h⟩ := h
          refine r_sub (lv' := [(0, .ref a0)]) [0] rfl ?_
          refine B_X7_readsCondition_92 C hE n_50 M_29 (mMo.kd m_31 (mMo.kd m_27 (mMo.kd m_15 k_a0 (by decide)) (by decide)) (by decide)) h (fun M_51 m_52 h => ?_) (fun M_53 m_54 h => ?_)
          · refine r_sub (lv' := []) [] rfl ?_
            exact hX143 M_51 (mMo.tr (mMo.tr (mMo.tr m_15 m_27) m_31) m_52) h
          · refine r_aload_n C dX7_readsCondition_152 (pc' := 153) rfl (j := 0) rfl ?_
            refine r_callVi (As := []) (rest := []) (Cn := RX7) (T := TX7) C (mMo.kd m_54 (mMo.kd m_31 (mMo.kd m_27 (mMo.kd m_15 k_a0 (by decide)) (by decide)) (by decide)) (by decide)) (by decide) vc_X7 (S_X7_here (mMo.kd m_54 (mMo.kd m_31 (mMo.kd m_27 (mMo.kd m_15 k_a0 (by decide)) (by decide)) (by decide)) (by decide)) h) (lw_V q1440 q1442 qs56 q112 q1443) rfl hd_X7_here rfl rfl (Nat.le_of_ble_eq_true rfl) (Nat.le_of_ble_eq_true rfl) (Nat.le_of_ble_eq_true rfl) rfl rfl (Nat.le_of_ble_eq_true rfl) (Nat.le_of_ble_eq_true rfl) dX7_readsCondition_153 (pc' := 156) rfl (fun r_56 M_55 h m_57 => ?_)
            refine r_bipush C dX7_readsCondition_156 (pc' := 158) rfl (v := 38) rfl ?_
            refine r_icmp_eq C dX7_readsCondition_158 (pc' := 161) rfl (tgt := 180) (by decide) (fun c_58 => ?_) (fun c_58 => ?_)
            · have h := it_t h c_58
              refine r_sub (lv' := [(0, .ref a0)]) [0] rfl ?_
              exact B_X7_readsCondition_180 C hE (mMo.kd m_57 (mMo.kd m_54 (mMo.kd m_31 (mMo.kd m_27 (mMo.kd m_15 k_a0 (by decide)) (by decide)) (by decide)) (by decide)) (by decide)) h (fun M8 hm8 g0 h8 => ih M8 g0 h8 (fun M9 hm9 h9 => hX81 M9 (mMo.tr (mMo.tr (mMo.tr (mMo.tr (mMo.tr (mMo.tr m_15 m_27) m_31) m_54) m_57) hm8) hm9) h9) (fun M9 hm9 h9 => hX90 M9 (mMo.tr (mMo.tr (mMo.tr (mMo.tr (mMo.tr (mMo.tr m_15 m_27) m_31) m_54) m_57) hm8) hm9) h9) (fun M9 hm9 h9 => hX143 M9 (mMo.tr (mMo.tr (mMo.tr (mMo.tr (mMo.tr (mMo.tr m_15 m_27) m_31) m_54) m_57) hm8) hm9) h9) (fun M9 hm9 h9 => hX170 M9 (mMo.tr (mMo.tr (mMo.tr (mMo.tr (mMo.tr (mMo.tr m_15 m_27) m_31) m_54) m_57) hm8) hm9) h9)) (fun M9 hm9 h9 => hX81 M9 (mMo.tr (mMo.tr (mMo.tr (mMo.tr (mMo.tr m_15 m_27) m_31) m_54) m_57) hm9) h9) (fun M9 hm9 h9 => hX90 M9 (mMo.tr (mMo.tr (mMo.tr (mMo.tr (mMo.tr m_15 m_27) m_31) m_54) m_57) hm9) h9) (fun M9 hm9 h9 => hX143 M9 (mMo.tr (mMo.tr (mMo.tr (mMo.tr (mMo.tr m_15 m_27) m_31) m_54) m_57) hm9) h9) (fun M9 hm9 h9 => hX170 M9 (mMo.tr (mMo.tr (mMo.tr (mMo.tr (mMo.tr m_15 m_27) m_31) m_54) m_57) hm9) h9)
            · have h := it_f h c_58
              refine r_aload_n C dX7_readsCondition_161 (pc' := 162) rfl (j := 0) rfl ?_
              refine r_callVi (As := []) (rest := []) (Cn := RX7) (T := TX7) C (mMo.kd m_57 (mMo.kd m_54 (mMo.kd m_31 (mMo.kd m_27 (mMo.kd m_15 k_a0 (by decide)) (by decide)) (by decide)) (by decide)) (by decide)) (by decide) vc_X7 (S_X7_here (mMo.kd m_57 (mMo.kd m_54 (mMo.kd m_31 (mMo.kd m_27 (mMo.kd m_15 k_a0 (by decide)) (by decide)) (by decide)) (by decide)) (by decide)) h) (lw_V q1440 q1442 qs56 q112 q1443) rfl hd_X7_here rfl rfl (Nat.le_of_ble_eq_true rfl) (Nat.le_of_ble_eq_true rfl) (Nat.le_of_ble_eq_true rfl) rfl rfl (Nat.le_of_ble_eq_true rfl) (Nat.le_of_ble_eq_true rfl) dX7_readsCondition_162 (pc' := 165) rfl (fun r_74 M_73 h m_75 => ?_)
              refine r_bipush C dX7_readsCondition_165 (pc' := 167) rfl (v := 124) rfl ?_
              refine r_icmp_eq C dX7_readsCondition_167 (pc' := 170) rfl (tgt := 180) (by decide) (fun c_76 => ?_) (fun c_76 => ?_)
              · have h := it_t h c_76
                refine r_sub (lv' := [(0, .ref a0)]) [0] rfl ?_
                exact B_X7_readsCondition_180 C hE (mMo.kd m_75 (mMo.kd m_57 (mMo.kd m_54 (mMo.kd m_31 (mMo.kd m_27 (mMo.kd m_15 k_a0 (by decide)) (by decide)) (by decide)) (by decide)) (by decide)) (by decide)) h (fun M8 hm8 g0 h8 => ih M8 g0 h8 (fun M9 hm9 h9 => hX81 M9 (mMo.tr (mMo.tr (mMo.tr (mMo.tr (mMo.tr (mMo.tr (mMo.tr m_15 m_27) m_31) m_54) m_57) m_75) hm8) hm9) h9) (fun M9 hm9 h9 => hX90 M9 (mMo.tr (mMo.tr (mMo.tr (mMo.tr (mMo.tr (mMo.tr (mMo.tr m_15 m_27) m_31) m_54) m_57) m_75) hm8) hm9) h9) (fun M9 hm9 h9 => hX143 M9 (mMo.tr (mMo.tr (mMo.tr (mMo.tr (mMo.tr (mMo.tr (mMo.tr m_15 m_27) m_31) m_54) m_57) m_75) hm8) hm9) h9) (fun M9 hm9 h9 => hX170 M9 (mMo.tr (mMo.tr (mMo.tr (mMo.tr (mMo.tr (mMo.tr (mMo.tr m_15 m_27) m_31) m_54) m_57) m_75) hm8) hm9) h9)) (fun M9 hm9 h9 => hX81 M9 (mMo.tr (mMo.tr (mMo.tr (mMo.tr (mMo.tr (mMo.tr m_15 m_27) m_31) m_54) m_57) m_75) hm9) h9) (fun M9 hm9 h9 => hX90 M9 (mMo.tr (mMo.tr (mMo.tr (mMo.tr (mMo.tr (mMo.tr m_15 m_27) m_31) m_54) m_57) m_75) hm9) h9) (fun M9 hm9 h9 => hX143 M9 (mMo.tr (mMo.tr (mMo.tr (mMo.tr (mMo.tr (mMo.tr m_15 m_27) m_31) m_54) m_57) m_75) hm9) h9) (fun M9 hm9 h9 => hX170 M9 (mMo.tr (mMo.tr (mMo.tr (mMo.tr (mMo.tr (mMo.tr m_15 m_27) m_31) m_54) m_57) m_75) hm9) h9)
              · have h := it_f h c_76
                refine r_sub (lv' := [(0, .ref a0)]) [0] rfl ?_
                exact hX170 M_73 (mMo.tr (mMo.tr (mMo.tr (mMo.tr (mMo.tr m_15 m_27) m_31) m_54) m_57) m_75) h
        · have h := it_t h c_32
          refine r_sub (lv' := []) [] rfl ?_
          exact hX90 M_29 (mMo.tr (mMo.tr m_15 m_27) m_31) h
      · have h := it_t h c_28
        refine r_sub (lv' := [(0, .ref a0)]) [0] rfl ?_
        exact B_X7_readsCondition_58 C hE (mMo.kd m_27 (mMo.kd m_15 k_a0 (by decide)) (by decide)) h (fun M8 hm8 g0 h8 => ih M8 g0 h8 (fun M9 hm9 h9 => hX81 M9 (mMo.tr (mMo.tr (mMo.tr m_15 m_27) hm8) hm9) h9) (fun M9 hm9 h9 => hX90 M9 (mMo.tr (mMo.tr (mMo.tr m_15 m_27) hm8) hm9) h9) (fun M9 hm9 h9 => hX143 M9 (mMo.tr (mMo.tr (mMo.tr m_15 m_27) hm8) hm9) h9) (fun M9 hm9 h9 => hX170 M9 (mMo.tr (mMo.tr (mMo.tr m_15 m_27) hm8) hm9) h9)) (fun M9 hm9 h9 => hX81 M9 (mMo.tr (mMo.tr m_15 m_27) hm9) h9) (fun M9 hm9 h9 => hX90 M9 (mMo.tr (mMo.tr m_15 m_27) hm9) h9) (fun M9 hm9 h9 => hX143 M9 (mMo.tr (mMo.tr m_15 m_27) hm9) h9) (fun M9 hm9 h9 => hX170 M9 (mMo.tr (mMo.tr m_15 m_27) hm9) h9)
set_option maxHeartbeats 4000000 in
theorem S_X7_readsCondition {D : DD} {l : Launch} {M : MM} {a0 : Nat} {Post : Int32 → MM → Prop} (k_a0 : mkd M a0 = 7) (h : wp_X7_readsCondition M a0 Post) : mMet D l yX7_readsCondition cX7_readsCondition 1 ((some .boolean)) { frames := 6, cells := 0, slots := 0, locals := 125 } M [.ref a0] (pI_ Post) := by
  refine m_of2 [(0, .ref a0)] (by decide +kernel) (Nat.le_of_ble_eq_true rfl) rfl (fun E hED hEl C hE => ?_)
  subst hED
  subst hEl
  unfold wp_X7_readsCondition at h
  refine r_aload_n C dX7_readsCondition_0 (pc' := 1) rfl (j := 0) rfl ?_
  refine r_callVi (As := []) (rest := []) (Cn := RX7) (T := TX7) C k_a0 (by decide) vc_X7 (S_X7_here k_a0 h) (lw_V q1440 q1442 qs56 q112 q1443) rfl hd_X7_here rfl rfl (Nat.le_of_ble_eq_true rfl) (Nat.le_of_ble_eq_true rfl) (Nat.le_of_ble_eq_true rfl) rfl rfl (Nat.le_of_ble_eq_true rfl) (Nat.le_of_ble_eq_true rfl) dX7_readsCondition_1 (pc' := 4) rfl (fun r_2 M_1 h m_3 => ?_)
  refine r_bipush C dX7_readsCondition_4 (pc' := 6) rfl (v := 40) rfl ?_
  refine r_icmp_eq C dX7_readsCondition_6 (pc' := 9) rfl (tgt := 19) (by decide) (fun c_4 => ?_) (fun c_4 => ?_)
  · have h := it_t h c_4
    refine r_aload_n C dX7_readsCondition_19 (pc' := 20) rfl (j := 0) rfl ?_
    refine r_iconst C dX7_readsCondition_20 (pc' := 21) rfl (v := 0) rfl ?_
    obtain ⟨M_5, e_6, h⟩ := bn_ h
    refine r_putI C (Cn := RX7) (T := TX7) tyX7 9 (mMo.kd m_3 k_a0 (by decide)) (by decide) vc_X7 in_X7 tyX7_ok nmX7 (by decide) q1233 rfl rfl dX7_readsCondition_21 (pc' := 24) rfl rfl rfl M_5 e_6 ?_
    refine r_aload_n C dX7_readsCondition_24 (pc' := 25) rfl (j := 0) rfl ?_
    refine r_iconst C dX7_readsCondition_25 (pc' := 26) rfl (v := 0) rfl ?_
    obtain ⟨M_7, e_8, h⟩ := bn_ h
    refine r_putI C (Cn := RX7) (T := TX7) tyX7 11 (mMo.kd (mo_I e_6) (mMo.kd m_3 k_a0 (by decide)) (by decide)) (by decide) vc_X7 in_X7 tyX7_ok nmX7 (by decide) q1235 rfl rfl dX7_readsCondition_26 (pc' := 29) rfl rfl rfl M_7 e_8 ?_
    refine r_aload_n C dX7_readsCondition_29 (pc' := 30) rfl (j := 0) rfl ?_
    refine r_bipush C dX7_readsCondition_30 (pc' := 32) rfl (v := 13) rfl ?_
    refine r_callVi (As := [.int (13 : Int32)]) (rest := []) (Cn := RX7) (T := TX7) C (mMo.kd (mo_I e_8) (mMo.kd (mo_I e_6) (mMo.kd m_3 k_a0 (by decide)) (by decide)) (by decide)) (by decide) vc_X7 (S_X7_opens (mMo.kd (mo_I e_8) (mMo.kd (mo_I e_6) (mMo.kd m_3 k_a0 (by decide)) (by decide)) (by decide)) h) (lw_V q1459 q1461 qs60 q112 q1462) rfl hd_X7_opens rfl rfl (Nat.le_of_ble_eq_true rfl) (Nat.le_of_ble_eq_true rfl) (Nat.le_of_ble_eq_true rfl) rfl rfl (Nat.le_of_ble_eq_true rfl) (Nat.le_of_ble_eq_true rfl) dX7_readsCondition_32 (pc' := 35) rfl (fun r_10 M_9 h m_11 => ?_)
    refine r_if_ne C dX7_readsCondition_35 (pc' := 38) rfl (tgt := 40) (by decide) (fun c_12 => ?_) (fun c_12 => ?_)
    · have h := it_f h c_12
      obtain ⟨n_77, h⟩ := h
      refine r_sub (lv' := [(0, .ref a0)]) [0] rfl ?_
      refine B_X7_readsCondition_40 C hE n_77 M_9 (mMo.kd m_11 (mMo.kd (mo_I e_8) (mMo.kd (mo_I e_6) (mMo.kd m_3 k_a0 (by decide)) (by decide)) (by decide)) (by decide)) h (fun M_78 m_79 h => ?_) (fun M_80 m_81 h => ?_) (fun M_82 m_83 h => ?_) (fun M_84 m_85 h => ?_)
      · refine r_iconst C dX7_readsCondition_81 (pc' := 82) rfl (v := 0) rfl ?_
        exact r_zret C hE (Or.inl rfl) (Nat.le_of_ble_eq_true rfl) (Nat.le_of_ble_eq_true rfl) dX7_readsCondition_82 ⟨_, rfl, h⟩
      · refine r_iconst C dX7_readsCondition_90 (pc' := 91) rfl (v := 0) rfl ?_
        exact r_zret C hE (Or.inl rfl) (Nat.le_of_ble_eq_true rfl) (Nat.le_of_ble_eq_true rfl) dX7_readsCondition_91 ⟨_, rfl, h⟩
      · refine r_iconst C dX7_readsCondition_143 (pc' := 144) rfl (v := 1) rfl ?_
        exact r_zret C hE (Or.inr rfl) (Nat.le_of_ble_eq_true rfl) (Nat.le_of_ble_eq_true rfl) dX7_readsCondition_144 ⟨_, rfl, h⟩
      · refine r_aload_n C dX7_readsCondition_170 (pc' := 171) rfl (j := 0) rfl ?_
        refine r_iconst C dX7_readsCondition_171 (pc' := 172) rfl (v := 1) rfl ?_
        refine r_aload_n C dX7_readsCondition_172 (pc' := 173) rfl (j := 0) rfl ?_
        refine r_getf C (Cn := RX7) (T := TX7) 5 (mMo.kd m_85 (mMo.kd m_11 (mMo.kd (mo_I e_8) (mMo.kd (mo_I e_6) (mMo.kd m_3 k_a0 (by decide)) (by decide)) (by decide)) (by decide)) (by decide)) (by decide) vc_X7 in_X7 (by decide) q1229 dX7_readsCondition_173 (pc' := 176) rfl (v := .int (mgI M_84 a0 5)) rfl ?_
        refine r_callVi (As := [.int (1 : Int32), .int (mgI M_84 a0 5)]) (rest := []) (Cn := RX7) (T := TX7) C (mMo.kd m_85 (mMo.kd m_11 (mMo.kd (mo_I e_8) (mMo.kd (mo_I e_6) (mMo.kd m_3 k_a0 (by decide)) (by decide)) (by decide)) (by decide)) (by decide)) (by decide) vc_X7 (S_X7_wrongAt (mMo.kd m_85 (mMo.kd m_11 (mMo.kd (mo_I e_8) (mMo.kd (mo_I e_6) (mMo.kd m_3 k_a0 (by decide)) (by decide)) (by decide)) (by decide)) (by decide)) h) (lw_V q1447 q1449 qs57 q112 q1450) rfl hd_X7_wrongAt rfl rfl (Nat.le_of_ble_eq_true rfl) (Nat.le_of_ble_eq_true rfl) (Nat.le_of_ble_eq_true rfl) rfl rfl (Nat.le_of_ble_eq_true rfl) (Nat.le_of_ble_eq_true rfl) dX7_readsCondition_176 (pc' := 179) rfl (fun r_87 M_86 h m_88 => ?_)
        obtain ⟨c_89, h⟩ := h
        exact r_zret C hE c_89 (Nat.le_of_ble_eq_true rfl) (Nat.le_of_ble_eq_true rfl) dX7_readsCondition_179 ⟨_, rfl, h⟩
    · have h := it_t h c_12
      refine r_iconst C dX7_readsCondition_38 (pc' := 39) rfl (v := 0) rfl ?_
      exact r_zret C hE (Or.inl rfl) (Nat.le_of_ble_eq_true rfl) (Nat.le_of_ble_eq_true rfl) dX7_readsCondition_39 ⟨_, rfl, h⟩
  · have h := it_f h c_4
    refine r_aload_n C dX7_readsCondition_9 (pc' := 10) rfl (j := 0) rfl ?_
    refine r_iconst C dX7_readsCondition_10 (pc' := 11) rfl (v := 1) rfl ?_
    refine r_aload_n C dX7_readsCondition_11 (pc' := 12) rfl (j := 0) rfl ?_
    refine r_getf C (Cn := RX7) (T := TX7) 5 (mMo.kd m_3 k_a0 (by decide)) (by decide) vc_X7 in_X7 (by decide) q1229 dX7_readsCondition_12 (pc' := 15) rfl (v := .int (mgI M_1 a0 5)) rfl ?_
    refine r_callVi (As := [.int (1 : Int32), .int (mgI M_1 a0 5)]) (rest := []) (Cn := RX7) (T := TX7) C (mMo.kd m_3 k_a0 (by decide)) (by decide) vc_X7 (S_X7_wrongAt (mMo.kd m_3 k_a0 (by decide)) h) (lw_V q1447 q1449 qs57 q112 q1450) rfl hd_X7_wrongAt rfl rfl (Nat.le_of_ble_eq_true rfl) (Nat.le_of_ble_eq_true rfl) (Nat.le_of_ble_eq_true rfl) rfl rfl (Nat.le_of_ble_eq_true rfl) (Nat.le_of_ble_eq_true rfl) dX7_readsCondition_15 (pc' := 18) rfl (fun r_91 M_90 h m_92 => ?_)
    obtain ⟨c_93, h⟩ := h
    exact r_zret C hE c_93 (Nat.le_of_ble_eq_true rfl) (Nat.le_of_ble_eq_true rfl) dX7_readsCondition_18 ⟨_, rfl, h⟩
set_option maxHeartbeats 4000000 in
theorem S_X7_readsClause {D : DD} {l : Launch} {M : MM} {a0 : Nat} {x1 : Int32} {Post : Int32 → MM → Prop} (k_a0 : mkd M a0 = 7) (h : wp_X7_readsClause M a0 x1 Post) : mMet D l yX7_readsClause cX7_readsClause 3 ((some .boolean)) { frames := 7, cells := 0, slots := 0, locals := 145 } M [.ref a0, .int x1] (pI_ Post) := by
  refine m_of2 [(0, .ref a0), (1, .int x1)] (by decide +kernel) (Nat.le_of_ble_eq_true rfl) rfl (fun E hED hEl C hE => ?_)
  subst hED
  subst hEl
  unfold wp_X7_readsClause at h
  refine r_aload_n C dX7_readsClause_0 (pc' := 1) rfl (j := 0) rfl ?_
  refine r_callVi (As := []) (rest := []) (Cn := RX7) (T := TX7) C k_a0 (by decide) vc_X7 (S_X7_here k_a0 h) (lw_V q1440 q1442 qs56 q112 q1443) rfl hd_X7_here rfl rfl (Nat.le_of_ble_eq_true rfl) (Nat.le_of_ble_eq_true rfl) (Nat.le_of_ble_eq_true rfl) rfl rfl (Nat.le_of_ble_eq_true rfl) (Nat.le_of_ble_eq_true rfl) dX7_readsClause_1 (pc' := 4) rfl (fun r_2 M_1 h m_3 => ?_)
  refine r_istore_n C (lv' := [(2, .int r_2), (0, .ref a0), (1, .int x1)]) dX7_readsClause_4 (pc' := 5) rfl rfl r_2 rfl (Nat.le_of_ble_eq_true rfl) rfl ?_
  refine r_iload_n C dX7_readsClause_5 (pc' := 6) rfl (j := 0) rfl ?_
  refine r_iload_n C dX7_readsClause_6 (pc' := 7) rfl (j := 2) rfl ?_
  refine r_callSi (As := [.int r_2, .int x1]) (rest := []) C (S_X7_isClause h) (lw_S q1444 q1445 q112 q1446) hd_X7_isClause rfl rfl (Nat.le_of_ble_eq_true rfl) (Nat.le_of_ble_eq_true rfl) (Nat.le_of_ble_eq_true rfl) rfl rfl (Nat.le_of_ble_eq_true rfl) (Nat.le_of_ble_eq_true rfl) dX7_readsClause_7 (pc' := 10) rfl (fun r_5 M_4 h m_6 => ?_)
  refine r_if_ne C dX7_readsClause_10 (pc' := 13) rfl (tgt := 23) (by decide) (fun c_7 => ?_) (fun c_7 => ?_)
  · have h := it_f h c_7
    refine r_aload_n C dX7_readsClause_23 (pc' := 24) rfl (j := 1) rfl ?_
    refine r_getf C (Cn := RX7) (T := TX7) 12 (mMo.kd m_6 (mMo.kd m_3 k_a0 (by decide)) (by decide)) (by decide) vc_X7 in_X7 (by decide) q1236 dX7_readsClause_24 (pc' := 27) rfl (v := .int (mgI M_4 a0 12)) rfl ?_
    refine r_bipush C dX7_readsClause_27 (pc' := 29) rfl (v := 14) rfl ?_
    refine r_icmp_ne C dX7_readsClause_29 (pc' := 32) rfl (tgt := 42) (by decide) (fun c_8 => ?_) (fun c_8 => ?_)
    · have h := it_f h c_8
      refine r_aload_n C dX7_readsClause_42 (pc' := 43) rfl (j := 1) rfl ?_
      refine r_getf C (Cn := RX7) (T := TX7) 15 (mMo.kd m_6 (mMo.kd m_3 k_a0 (by decide)) (by decide)) (by decide) vc_X7 in_X7 (by decide) q1239 dX7_readsClause_43 (pc' := 46) rfl (v := va_rf (mgR M_4 a0 15)) rfl ?_
      obtain ⟨b_9, e_10, k_11, h⟩ := h
      refine r_ref [] e_10 ?_
      refine r_aload_n C dX7_readsClause_46 (pc' := 47) rfl (j := 1) rfl ?_
      refine r_getf C (Cn := RX7) (T := TX7) 12 (mMo.kd m_6 (mMo.kd m_3 k_a0 (by decide)) (by decide)) (by decide) vc_X7 in_X7 (by decide) q1236 dX7_readsClause_47 (pc' := 50) rfl (v := .int (mgI M_4 a0 12)) rfl ?_
      refine r_iload_n C dX7_readsClause_50 (pc' := 51) rfl (j := 0) rfl ?_
      obtain ⟨c_12, h⟩ := h
      obtain ⟨M_13, e_14, h⟩ := bn_ h
      refine r_iast C (j := (ix_ (mgI M_4 a0 12))) k_11 c_12 rfl dX7_readsClause_51 (pc' := 52) rfl M_13 e_14 ?_
      refine r_aload_n C dX7_readsClause_52 (pc' := 53) rfl (j := 1) rfl ?_
      refine r_aload_n C dX7_readsClause_53 (pc' := 54) rfl (j := 1) rfl ?_
      refine r_getf C (Cn := RX7) (T := TX7) 5 (mMo.kd (mo_I e_14) (mMo.kd m_6 (mMo.kd m_3 k_a0 (by decide)) (by decide)) (by decide)) (by decide) vc_X7 in_X7 (by decide) q1229 dX7_readsClause_54 (pc' := 57) rfl (v := .int (mgI M_13 a0 5)) rfl ?_
      refine r_iconst C dX7_readsClause_57 (pc' := 58) rfl (v := 1) rfl ?_
      refine r_iadd C dX7_readsClause_58 (pc' := 59) rfl ?_
      obtain ⟨M_15, e_16, h⟩ := bn_ h
      refine r_putI C (Cn := RX7) (T := TX7) tyX7 5 (mMo.kd (mo_I e_14) (mMo.kd m_6 (mMo.kd m_3 k_a0 (by decide)) (by decide)) (by decide)) (by decide) vc_X7 in_X7 tyX7_ok nmX7 (by decide) q1229 rfl rfl dX7_readsClause_59 (pc' := 62) rfl rfl rfl M_15 e_16 ?_
      refine r_aload_n C dX7_readsClause_62 (pc' := 63) rfl (j := 1) rfl ?_
      refine r_getf C (Cn := RX7) (T := TX7) 16 (mMo.kd (mo_I e_16) (mMo.kd (mo_I e_14) (mMo.kd m_6 (mMo.kd m_3 k_a0 (by decide)) (by decide)) (by decide)) (by decide)) (by decide) vc_X7 in_X7 (by decide) q1240 dX7_readsClause_63 (pc' := 66) rfl (v := va_rf (mgR M_15 a0 16)) rfl ?_
      obtain ⟨b_17, e_18, k_19, h⟩ := h
      refine r_ref [] e_18 ?_
      refine r_aload_n C dX7_readsClause_66 (pc' := 67) rfl (j := 1) rfl ?_
      refine r_getf C (Cn := RX7) (T := TX7) 12 (mMo.kd (mo_I e_16) (mMo.kd (mo_I e_14) (mMo.kd m_6 (mMo.kd m_3 k_a0 (by decide)) (by decide)) (by decide)) (by decide)) (by decide) vc_X7 in_X7 (by decide) q1236 dX7_readsClause_67 (pc' := 70) rfl (v := .int (mgI M_15 a0 12)) rfl ?_
      refine r_aload_n C dX7_readsClause_70 (pc' := 71) rfl (j := 1) rfl ?_
      refine r_getf C (Cn := RX7) (T := TX7) 10 (mMo.kd (mo_I e_16) (mMo.kd (mo_I e_14) (mMo.kd m_6 (mMo.kd m_3 k_a0 (by decide)) (by decide)) (by decide)) (by decide)) (by decide) vc_X7 in_X7 (by decide) q1234 dX7_readsClause_71 (pc' := 74) rfl (v := .int (mgI M_15 a0 10)) rfl ?_
      obtain ⟨c_20, h⟩ := h
      obtain ⟨M_21, e_22, h⟩ := bn_ h
      refine r_iast C (j := (ix_ (mgI M_15 a0 12))) k_19 c_20 rfl dX7_readsClause_74 (pc' := 75) rfl M_21 e_22 ?_
      refine r_aload_n C dX7_readsClause_75 (pc' := 76) rfl (j := 1) rfl ?_
      refine r_iconst C dX7_readsClause_76 (pc' := 77) rfl (v := 0) rfl ?_
      obtain ⟨M_23, e_24, h⟩ := bn_ h
      refine r_putI C (Cn := RX7) (T := TX7) tyX7 9 (mMo.kd (mo_I e_22) (mMo.kd (mo_I e_16) (mMo.kd (mo_I e_14) (mMo.kd m_6 (mMo.kd m_3 k_a0 (by decide)) (by decide)) (by decide)) (by decide)) (by decide)) (by decide) vc_X7 in_X7 tyX7_ok nmX7 (by decide) q1233 rfl rfl dX7_readsClause_77 (pc' := 80) rfl rfl rfl M_23 e_24 ?_
      refine r_aload_n C dX7_readsClause_80 (pc' := 81) rfl (j := 1) rfl ?_
      refine r_iconst C dX7_readsClause_81 (pc' := 82) rfl (v := 0) rfl ?_
      obtain ⟨M_25, e_26, h⟩ := bn_ h
      refine r_putI C (Cn := RX7) (T := TX7) tyX7 11 (mMo.kd (mo_I e_24) (mMo.kd (mo_I e_22) (mMo.kd (mo_I e_16) (mMo.kd (mo_I e_14) (mMo.kd m_6 (mMo.kd m_3 k_a0 (by decide)) (by decide)) (by decide)) (by decide)) (by decide)) (by decide)) (by decide) vc_X7 in_X7 tyX7_ok nmX7 (by decide) q1235 rfl rfl dX7_readsClause_82 (pc' := 85) rfl rfl rfl M_25 e_26 ?_
      refine r_aload_n C dX7_readsClause_85 (pc' := 86) rfl (j := 1) rfl ?_
      refine r_callVi (As := []) (rest := []) (Cn := RX7) (T := TX7) C (mMo.kd (mo_I e_26) (mMo.kd (mo_I e_24) (mMo.kd (mo_I e_22) (mMo.kd (mo_I e_16) (mMo.kd (mo_I e_14) (mMo.kd m_6 (mMo.kd m_3 k_a0 (by decide)) (by decide)) (by decide)) (by decide)) (by decide)) (by decide)) (by decide)) (by decide) vc_X7 (S_X7_readsSum (mMo.kd (mo_I e_26) (mMo.kd (mo_I e_24) (mMo.kd (mo_I e_22) (mMo.kd (mo_I e_16) (mMo.kd (mo_I e_14) (mMo.kd m_6 (mMo.kd m_3 k_a0 (by decide)) (by decide)) (by decide)) (by decide)) (by decide)) (by decide)) (by decide)) h) (lw_V q1451 q1453 qs58 q112 q1454) rfl hd_X7_readsSum rfl rfl (Nat.le_of_ble_eq_true rfl) (Nat.le_of_ble_eq_true rfl) (Nat.le_of_ble_eq_true rfl) rfl rfl (Nat.le_of_ble_eq_true rfl) (Nat.le_of_ble_eq_true rfl) dX7_readsClause_86 (pc' := 89) rfl (fun r_28 M_27 h m_29 => ?_)
      refine r_if_ne C dX7_readsClause_89 (pc' := 92) rfl (tgt := 94) (by decide) (fun c_30 => ?_) (fun c_30 => ?_)
      · have h := it_f h c_30
        refine r_aload_n C dX7_readsClause_94 (pc' := 95) rfl (j := 1) rfl ?_
        refine r_getf C (Cn := RX7) (T := TX7) 17 (mMo.kd m_29 (mMo.kd (mo_I e_26) (mMo.kd (mo_I e_24) (mMo.kd (mo_I e_22) (mMo.kd (mo_I e_16) (mMo.kd (mo_I e_14) (mMo.kd m_6 (mMo.kd m_3 k_a0 (by decide)) (by decide)) (by decide)) (by decide)) (by decide)) (by decide)) (by decide)) (by decide)) (by decide) vc_X7 in_X7 (by decide) q1241 dX7_readsClause_95 (pc' := 98) rfl (v := va_rf (mgR M_27 a0 17)) rfl ?_
        obtain ⟨b_31, e_32, k_33, h⟩ := h
        refine r_ref [] e_32 ?_
        refine r_aload_n C dX7_readsClause_98 (pc' := 99) rfl (j := 1) rfl ?_
        refine r_getf C (Cn := RX7) (T := TX7) 12 (mMo.kd m_29 (mMo.kd (mo_I e_26) (mMo.kd (mo_I e_24) (mMo.kd (mo_I e_22) (mMo.kd (mo_I e_16) (mMo.kd (mo_I e_14) (mMo.kd m_6 (mMo.kd m_3 k_a0 (by decide)) (by decide)) (by decide)) (by decide)) (by decide)) (by decide)) (by decide)) (by decide)) (by decide) vc_X7 in_X7 (by decide) q1236 dX7_readsClause_99 (pc' := 102) rfl (v := .int (mgI M_27 a0 12)) rfl ?_
        refine r_aload_n C dX7_readsClause_102 (pc' := 103) rfl (j := 1) rfl ?_
        refine r_getf C (Cn := RX7) (T := TX7) 10 (mMo.kd m_29 (mMo.kd (mo_I e_26) (mMo.kd (mo_I e_24) (mMo.kd (mo_I e_22) (mMo.kd (mo_I e_16) (mMo.kd (mo_I e_14) (mMo.kd m_6 (mMo.kd m_3 k_a0 (by decide)) (by decide)) (by decide)) (by decide)) (by decide)) (by decide)) (by decide)) (by decide)) (by decide) vc_X7 in_X7 (by decide) q1234 dX7_readsClause_103 (pc' := 106) rfl (v := .int (mgI M_27 a0 10)) rfl ?_
        obtain ⟨c_34, h⟩ := h
        obtain ⟨M_35, e_36, h⟩ := bn_ h
        refine r_iast C (j := (ix_ (mgI M_27 a0 12))) k_33 c_34 rfl dX7_readsClause_106 (pc' := 107) rfl M_35 e_36 ?_
        refine r_aload_n C dX7_readsClause_107 (pc' := 108) rfl (j := 1) rfl ?_
        refine r_callVi (As := []) (rest := []) (Cn := RX7) (T := TX7) C (mMo.kd (mo_I e_36) (mMo.kd m_29 (mMo.kd (mo_I e_26) (mMo.kd (mo_I e_24) (mMo.kd (mo_I e_22) (mMo.kd (mo_I e_16) (mMo.kd (mo_I e_14) (mMo.kd m_6 (mMo.kd m_3 k_a0 (by decide)) (by decide)) (by decide)) (by decide)) (by decide)) (by decide)) (by decide)) (by decide)) (by decide)) (by decide) vc_X7 (S_X7_readsCondition (mMo.kd (mo_I e_36) (mMo.kd m_29 (mMo.kd (mo_I e_26) (mMo.kd (mo_I e_24) (mMo.kd (mo_I e_22) (mMo.kd (mo_I e_16) (mMo.kd (mo_I e_14) (mMo.kd m_6 (mMo.kd m_3 k_a0 (by decide)) (by decide)) (by decide)) (by decide)) (by decide)) (by decide)) (by decide)) (by decide)) (by decide)) h) (lw_V q1494 q1496 qs67 q112 q1497) rfl hd_X7_readsCondition rfl rfl (Nat.le_of_ble_eq_true rfl) (Nat.le_of_ble_eq_true rfl) (Nat.le_of_ble_eq_true rfl) rfl rfl (Nat.le_of_ble_eq_true rfl) (Nat.le_of_ble_eq_true rfl) dX7_readsClause_108 (pc' := 111) rfl (fun r_38 M_37 h m_39 => ?_)
        refine r_if_ne C dX7_readsClause_111 (pc' := 114) rfl (tgt := 116) (by decide) (fun c_40 => ?_) (fun c_40 => ?_)
        · have h := it_f h c_40
          refine r_aload_n C dX7_readsClause_116 (pc' := 117) rfl (j := 1) rfl ?_
          refine r_getf C (Cn := RX7) (T := TX7) 18 (mMo.kd m_39 (mMo.kd (mo_I e_36) (mMo.kd m_29 (mMo.kd (mo_I e_26) (mMo.kd (mo_I e_24) (mMo.kd (mo_I e_22) (mMo.kd (mo_I e_16) (mMo.kd (mo_I e_14) (mMo.kd m_6 (mMo.kd m_3 k_a0 (by decide)) (by decide)) (by decide)) (by decide)) (by decide)) (by decide)) (by decide)) (by decide)) (by decide)) (by decide)) (by decide) vc_X7 in_X7 (by decide) q1242 dX7_readsClause_117 (pc' := 120) rfl (v := va_rf (mgR M_37 a0 18)) rfl ?_
          obtain ⟨b_41, e_42, k_43, h⟩ := h
          refine r_ref [] e_42 ?_
          refine r_aload_n C dX7_readsClause_120 (pc' := 121) rfl (j := 1) rfl ?_
          refine r_getf C (Cn := RX7) (T := TX7) 12 (mMo.kd m_39 (mMo.kd (mo_I e_36) (mMo.kd m_29 (mMo.kd (mo_I e_26) (mMo.kd (mo_I e_24) (mMo.kd (mo_I e_22) (mMo.kd (mo_I e_16) (mMo.kd (mo_I e_14) (mMo.kd m_6 (mMo.kd m_3 k_a0 (by decide)) (by decide)) (by decide)) (by decide)) (by decide)) (by decide)) (by decide)) (by decide)) (by decide)) (by decide)) (by decide) vc_X7 in_X7 (by decide) q1236 dX7_readsClause_121 (pc' := 124) rfl (v := .int (mgI M_37 a0 12)) rfl ?_
          refine r_aload_n C dX7_readsClause_124 (pc' := 125) rfl (j := 1) rfl ?_
          refine r_getf C (Cn := RX7) (T := TX7) 10 (mMo.kd m_39 (mMo.kd (mo_I e_36) (mMo.kd m_29 (mMo.kd (mo_I e_26) (mMo.kd (mo_I e_24) (mMo.kd (mo_I e_22) (mMo.kd (mo_I e_16) (mMo.kd (mo_I e_14) (mMo.kd m_6 (mMo.kd m_3 k_a0 (by decide)) (by decide)) (by decide)) (by decide)) (by decide)) (by decide)) (by decide)) (by decide)) (by decide)) (by decide)) (by decide) vc_X7 in_X7 (by decide) q1234 dX7_readsClause_125 (pc' := 128) rfl (v := .int (mgI M_37 a0 10)) rfl ?_
          obtain ⟨c_44, h⟩ := h
          obtain ⟨M_45, e_46, h⟩ := bn_ h
          refine r_iast C (j := (ix_ (mgI M_37 a0 12))) k_43 c_44 rfl dX7_readsClause_128 (pc' := 129) rfl M_45 e_46 ?_
          refine r_aload_n C dX7_readsClause_129 (pc' := 130) rfl (j := 1) rfl ?_
          refine r_aload_n C dX7_readsClause_130 (pc' := 131) rfl (j := 1) rfl ?_
          refine r_getf C (Cn := RX7) (T := TX7) 12 (mMo.kd (mo_I e_46) (mMo.kd m_39 (mMo.kd (mo_I e_36) (mMo.kd m_29 (mMo.kd (mo_I e_26) (mMo.kd (mo_I e_24) (mMo.kd (mo_I e_22) (mMo.kd (mo_I e_16) (mMo.kd (mo_I e_14) (mMo.kd m_6 (mMo.kd m_3 k_a0 (by decide)) (by decide)) (by decide)) (by decide)) (by decide)) (by decide)) (by decide)) (by decide)) (by decide)) (by decide)) (by decide)) (by decide) vc_X7 in_X7 (by decide) q1236 dX7_readsClause_131 (pc' := 134) rfl (v := .int (mgI M_45 a0 12)) rfl ?_
          refine r_iconst C dX7_readsClause_134 (pc' := 135) rfl (v := 1) rfl ?_
          refine r_iadd C dX7_readsClause_135 (pc' := 136) rfl ?_
          obtain ⟨M_47, e_48, h⟩ := bn_ h
          refine r_putI C (Cn := RX7) (T := TX7) tyX7 12 (mMo.kd (mo_I e_46) (mMo.kd m_39 (mMo.kd (mo_I e_36) (mMo.kd m_29 (mMo.kd (mo_I e_26) (mMo.kd (mo_I e_24) (mMo.kd (mo_I e_22) (mMo.kd (mo_I e_16) (mMo.kd (mo_I e_14) (mMo.kd m_6 (mMo.kd m_3 k_a0 (by decide)) (by decide)) (by decide)) (by decide)) (by decide)) (by decide)) (by decide)) (by decide)) (by decide)) (by decide)) (by decide)) (by decide) vc_X7 in_X7 tyX7_ok nmX7 (by decide) q1236 rfl rfl dX7_readsClause_136 (pc' := 139) rfl rfl rfl M_47 e_48 ?_
          refine r_iconst C dX7_readsClause_139 (pc' := 140) rfl (v := 1) rfl ?_
          exact r_zret C hE (Or.inr rfl) (Nat.le_of_ble_eq_true rfl) (Nat.le_of_ble_eq_true rfl) dX7_readsClause_140 ⟨_, rfl, h⟩
        · have h := it_t h c_40
          refine r_iconst C dX7_readsClause_114 (pc' := 115) rfl (v := 0) rfl ?_
          exact r_zret C hE (Or.inl rfl) (Nat.le_of_ble_eq_true rfl) (Nat.le_of_ble_eq_true rfl) dX7_readsClause_115 ⟨_, rfl, h⟩
      · have h := it_t h c_30
        refine r_iconst C dX7_readsClause_92 (pc' := 93) rfl (v := 0) rfl ?_
        exact r_zret C hE (Or.inl rfl) (Nat.le_of_ble_eq_true rfl) (Nat.le_of_ble_eq_true rfl) dX7_readsClause_93 ⟨_, rfl, h⟩
    · have h := it_t h c_8
      refine r_aload_n C dX7_readsClause_32 (pc' := 33) rfl (j := 1) rfl ?_
      refine r_iconst C dX7_readsClause_33 (pc' := 34) rfl (v := 4) rfl ?_
      refine r_aload_n C dX7_readsClause_34 (pc' := 35) rfl (j := 1) rfl ?_
      refine r_getf C (Cn := RX7) (T := TX7) 5 (mMo.kd m_6 (mMo.kd m_3 k_a0 (by decide)) (by decide)) (by decide) vc_X7 in_X7 (by decide) q1229 dX7_readsClause_35 (pc' := 38) rfl (v := .int (mgI M_4 a0 5)) rfl ?_
      refine r_callVi (As := [.int (4 : Int32), .int (mgI M_4 a0 5)]) (rest := []) (Cn := RX7) (T := TX7) C (mMo.kd m_6 (mMo.kd m_3 k_a0 (by decide)) (by decide)) (by decide) vc_X7 (S_X7_wrongAt (mMo.kd m_6 (mMo.kd m_3 k_a0 (by decide)) (by decide)) h) (lw_V q1447 q1449 qs57 q112 q1450) rfl hd_X7_wrongAt rfl rfl (Nat.le_of_ble_eq_true rfl) (Nat.le_of_ble_eq_true rfl) (Nat.le_of_ble_eq_true rfl) rfl rfl (Nat.le_of_ble_eq_true rfl) (Nat.le_of_ble_eq_true rfl) dX7_readsClause_38 (pc' := 41) rfl (fun r_50 M_49 h m_51 => ?_)
      obtain ⟨c_52, h⟩ := h
      exact r_zret C hE c_52 (Nat.le_of_ble_eq_true rfl) (Nat.le_of_ble_eq_true rfl) dX7_readsClause_41 ⟨_, rfl, h⟩
  · have h := it_t h c_7
    refine r_aload_n C dX7_readsClause_13 (pc' := 14) rfl (j := 1) rfl ?_
    refine r_iconst C dX7_readsClause_14 (pc' := 15) rfl (v := 1) rfl ?_
    refine r_aload_n C dX7_readsClause_15 (pc' := 16) rfl (j := 1) rfl ?_
    refine r_getf C (Cn := RX7) (T := TX7) 5 (mMo.kd m_6 (mMo.kd m_3 k_a0 (by decide)) (by decide)) (by decide) vc_X7 in_X7 (by decide) q1229 dX7_readsClause_16 (pc' := 19) rfl (v := .int (mgI M_4 a0 5)) rfl ?_
    refine r_callVi (As := [.int (1 : Int32), .int (mgI M_4 a0 5)]) (rest := []) (Cn := RX7) (T := TX7) C (mMo.kd m_6 (mMo.kd m_3 k_a0 (by decide)) (by decide)) (by decide) vc_X7 (S_X7_wrongAt (mMo.kd m_6 (mMo.kd m_3 k_a0 (by decide)) (by decide)) h) (lw_V q1447 q1449 qs57 q112 q1450) rfl hd_X7_wrongAt rfl rfl (Nat.le_of_ble_eq_true rfl) (Nat.le_of_ble_eq_true rfl) (Nat.le_of_ble_eq_true rfl) rfl rfl (Nat.le_of_ble_eq_true rfl) (Nat.le_of_ble_eq_true rfl) dX7_readsClause_19 (pc' := 22) rfl (fun r_54 M_53 h m_55 => ?_)
    obtain ⟨c_56, h⟩ := h
    exact r_zret C hE c_56 (Nat.le_of_ble_eq_true rfl) (Nat.le_of_ble_eq_true rfl) dX7_readsClause_22 ⟨_, rfl, h⟩
set_option maxHeartbeats 4000000 in
theorem S_X7_takes {D : DD} {l : Launch} {M : MM} {a0 : Nat} {x1 : Int32} {Post : Int32 → MM → Prop} (k_a0 : mkd M a0 = 7) (h : wp_X7_takes M a0 x1 Post) : mMet D l yX7_takes cX7_takes 2 ((some .boolean)) { frames := 1, cells := 0, slots := 0, locals := 22 } M [.ref a0, .int x1] (pI_ Post) := by
  refine m_of2 [(0, .ref a0), (1, .int x1)] (by decide +kernel) (Nat.le_of_ble_eq_true rfl) rfl (fun E hED hEl C hE => ?_)
  subst hED
  subst hEl
  unfold wp_X7_takes at h
  refine r_aload_n C dX7_takes_0 (pc' := 1) rfl (j := 0) rfl ?_
  refine r_callVi (As := []) (rest := []) (Cn := RX7) (T := TX7) C k_a0 (by decide) vc_X7 (S_X7_here k_a0 h) (lw_V q1440 q1442 qs56 q112 q1443) rfl hd_X7_here rfl rfl (Nat.le_of_ble_eq_true rfl) (Nat.le_of_ble_eq_true rfl) (Nat.le_of_ble_eq_true rfl) rfl rfl (Nat.le_of_ble_eq_true rfl) (Nat.le_of_ble_eq_true rfl) dX7_takes_1 (pc' := 4) rfl (fun r_2 M_1 h m_3 => ?_)
  refine r_iload_n C dX7_takes_4 (pc' := 5) rfl (j := 1) rfl ?_
  refine r_icmp_eq C dX7_takes_5 (pc' := 8) rfl (tgt := 18) (by decide) (fun c_4 => ?_) (fun c_4 => ?_)
  · have h := it_t h c_4
    refine r_aload_n C dX7_takes_18 (pc' := 19) rfl (j := 0) rfl ?_
    refine r_aload_n C dX7_takes_19 (pc' := 20) rfl (j := 0) rfl ?_
    refine r_getf C (Cn := RX7) (T := TX7) 5 (mMo.kd m_3 k_a0 (by decide)) (by decide) vc_X7 in_X7 (by decide) q1229 dX7_takes_20 (pc' := 23) rfl (v := .int (mgI M_1 a0 5)) rfl ?_
    refine r_iconst C dX7_takes_23 (pc' := 24) rfl (v := 1) rfl ?_
    refine r_iadd C dX7_takes_24 (pc' := 25) rfl ?_
    obtain ⟨M_5, e_6, h⟩ := bn_ h
    refine r_putI C (Cn := RX7) (T := TX7) tyX7 5 (mMo.kd m_3 k_a0 (by decide)) (by decide) vc_X7 in_X7 tyX7_ok nmX7 (by decide) q1229 rfl rfl dX7_takes_25 (pc' := 28) rfl rfl rfl M_5 e_6 ?_
    refine r_iconst C dX7_takes_28 (pc' := 29) rfl (v := 1) rfl ?_
    exact r_zret C hE (Or.inr rfl) (Nat.le_of_ble_eq_true rfl) (Nat.le_of_ble_eq_true rfl) dX7_takes_29 ⟨_, rfl, h⟩
  · have h := it_f h c_4
    refine r_aload_n C dX7_takes_8 (pc' := 9) rfl (j := 0) rfl ?_
    refine r_iconst C dX7_takes_9 (pc' := 10) rfl (v := 1) rfl ?_
    refine r_aload_n C dX7_takes_10 (pc' := 11) rfl (j := 0) rfl ?_
    refine r_getf C (Cn := RX7) (T := TX7) 5 (mMo.kd m_3 k_a0 (by decide)) (by decide) vc_X7 in_X7 (by decide) q1229 dX7_takes_11 (pc' := 14) rfl (v := .int (mgI M_1 a0 5)) rfl ?_
    refine r_callVi (As := [.int (1 : Int32), .int (mgI M_1 a0 5)]) (rest := []) (Cn := RX7) (T := TX7) C (mMo.kd m_3 k_a0 (by decide)) (by decide) vc_X7 (S_X7_wrongAt (mMo.kd m_3 k_a0 (by decide)) h) (lw_V q1447 q1449 qs57 q112 q1450) rfl hd_X7_wrongAt rfl rfl (Nat.le_of_ble_eq_true rfl) (Nat.le_of_ble_eq_true rfl) (Nat.le_of_ble_eq_true rfl) rfl rfl (Nat.le_of_ble_eq_true rfl) (Nat.le_of_ble_eq_true rfl) dX7_takes_14 (pc' := 17) rfl (fun r_8 M_7 h m_9 => ?_)
    obtain ⟨c_10, h⟩ := h
    exact r_zret C hE c_10 (Nat.le_of_ble_eq_true rfl) (Nat.le_of_ble_eq_true rfl) dX7_takes_17 ⟨_, rfl, h⟩
set_option maxHeartbeats 4000000 in
theorem B_X7_reads_47 {E : mE} {a0 : Nat} {x1 : Int32} {X88 : MM → Int32 → Prop} {Post : Int32 → MM → Prop} (C : mC E yX7_reads cX7_reads 6 ((some .int)) { frames := 8, cells := 0, slots := 0, locals := 167 }) (hE : mEnd E { frames := 8, cells := 0, slots := 0, locals := 167 } (pI_ Post)) : ∀ (n_ : Nat) (M : MM) (x3 : Int32), mkd M a0 = 7 → wl_X7_reads_47 a0 x1 X88 n_ M x3 → (∀ (M' : MM) (x3' : Int32), mMo M M' → X88 M' x3' → mV E M' 0 0 88 [(0, .ref a0), (1, .int x1), (3, .int x3')] []) → mV E M 0 0 47 [(0, .ref a0), (1, .int x1), (3, .int x3)] [] := by
  intro n_
  induction n_ with
  | zero =>
    intro M x3 k_a0 h hX88
    exact absurd h (by rw [wl_X7_reads_47]; exact fun q => q)
  | succ n_ ih =>
    intro M x3 k_a0 h hX88
    rw [wl_X7_reads_47] at h
    refine r_iload_n C dX7_reads_47 (pc' := 48) rfl (j := 2) rfl ?_
    refine r_if_eq C dX7_reads_48 (pc' := 51) rfl (tgt := 88) (by decide) (fun c_17 => ?_) (fun c_17 => ?_)
    · have h := it_t h c_17
      refine r_sub (lv' := [(0, .ref a0), (1, .int x1), (3, .int x3)]) [0, 1, 2] rfl ?_
      exact hX88 M x3 mMo.rf h
    · have h := it_f h c_17
      refine r_aload_n C dX7_reads_51 (pc' := 52) rfl (j := 0) rfl ?_
      refine r_getf C (Cn := RX7) (T := TX7) 5 k_a0 (by decide) vc_X7 in_X7 (by decide) q1229 dX7_reads_52 (pc' := 55) rfl (v := .int (mgI M a0 5)) rfl ?_
      refine r_aload_n C dX7_reads_55 (pc' := 56) rfl (j := 0) rfl ?_
      refine r_getf C (Cn := RX7) (T := TX7) 6 k_a0 (by decide) vc_X7 in_X7 (by decide) q1230 dX7_reads_56 (pc' := 59) rfl (v := .int (mgI M a0 6)) rfl ?_
      refine r_icmp_ge C dX7_reads_59 (pc' := 62) rfl (tgt := 88) (by decide) (fun c_18 => ?_) (fun c_18 => ?_)
      · have h := it_t h c_18
        refine r_sub (lv' := [(0, .ref a0), (1, .int x1), (3, .int x3)]) [0, 1, 2] rfl ?_
        exact hX88 M x3 mMo.rf h
      · have h := it_f h c_18
        refine r_aload_n C dX7_reads_62 (pc' := 63) rfl (j := 0) rfl ?_
        refine r_bipush C dX7_reads_63 (pc' := 65) rfl (v := 59) rfl ?_
        refine r_callVi (As := [.int (59 : Int32)]) (rest := []) (Cn := RX7) (T := TX7) C k_a0 (by decide) vc_X7 (S_X7_takes k_a0 h) (lw_V q1514 q1516 qs72 q112 q1517) rfl hd_X7_takes rfl rfl (Nat.le_of_ble_eq_true rfl) (Nat.le_of_ble_eq_true rfl) (Nat.le_of_ble_eq_true rfl) rfl rfl (Nat.le_of_ble_eq_true rfl) (Nat.le_of_ble_eq_true rfl) dX7_reads_65 (pc' := 68) rfl (fun r_20 M_19 h m_21 => ?_)
        refine r_if_eq C dX7_reads_68 (pc' := 71) rfl (tgt := 83) (by decide) (fun c_22 => ?_) (fun c_22 => ?_)
        · have h := it_t h c_22
          refine r_iconst C dX7_reads_83 (pc' := 84) rfl (v := 0) rfl ?_
          refine r_istore_n C (lv' := [(3, .int (0 : Int32)), (0, .ref a0), (1, .int x1)]) dX7_reads_84 (pc' := 85) rfl rfl (0 : Int32) rfl (Nat.le_of_ble_eq_true rfl) rfl ?_
          refine r_goto C dX7_reads_85 (tgt := 47) (by decide) ?_
          refine r_sub (lv' := [(0, .ref a0), (1, .int x1), (3, .int (0 : Int32))]) [1, 2, 0] rfl ?_
          exact ih M_19 (0 : Int32) (mMo.kd m_21 k_a0 (by decide)) h (fun M9 w0 hm9 h9 => hX88 M9 w0 (mMo.tr m_21 hm9) h9)
        · have h := it_f h c_22
          refine r_aload_n C dX7_reads_71 (pc' := 72) rfl (j := 0) rfl ?_
          refine r_iload_n C dX7_reads_72 (pc' := 73) rfl (j := 1) rfl ?_
          refine r_callVi (As := [.int x1]) (rest := []) (Cn := RX7) (T := TX7) C (mMo.kd m_21 k_a0 (by decide)) (by decide) vc_X7 (S_X7_readsClause (mMo.kd m_21 k_a0 (by decide)) h) (lw_V q1436 q1438 qs55 q112 q1439) rfl hd_X7_readsClause rfl rfl (Nat.le_of_ble_eq_true rfl) (Nat.le_of_ble_eq_true rfl) (Nat.le_of_ble_eq_true rfl) rfl rfl (Nat.le_of_ble_eq_true rfl) (Nat.le_of_ble_eq_true rfl) dX7_reads_73 (pc' := 76) rfl (fun r_24 M_23 h m_25 => ?_)
          refine r_if_eq C dX7_reads_76 (pc' := 79) rfl (tgt := 83) (by decide) (fun c_26 => ?_) (fun c_26 => ?_)
          · have h := it_t h c_26
            refine r_iconst C dX7_reads_83 (pc' := 84) rfl (v := 0) rfl ?_
            refine r_istore_n C (lv' := [(3, .int (0 : Int32)), (0, .ref a0), (1, .int x1)]) dX7_reads_84 (pc' := 85) rfl rfl (0 : Int32) rfl (Nat.le_of_ble_eq_true rfl) rfl ?_
            refine r_goto C dX7_reads_85 (tgt := 47) (by decide) ?_
            refine r_sub (lv' := [(0, .ref a0), (1, .int x1), (3, .int (0 : Int32))]) [1, 2, 0] rfl ?_
            exact ih M_23 (0 : Int32) (mMo.kd m_25 (mMo.kd m_21 k_a0 (by decide)) (by decide)) h (fun M9 w0 hm9 h9 => hX88 M9 w0 (mMo.tr (mMo.tr m_21 m_25) hm9) h9)
          · have h := it_f h c_26
            refine r_iconst C dX7_reads_79 (pc' := 80) rfl (v := 1) rfl ?_
            refine r_goto C dX7_reads_80 (tgt := 84) (by decide) ?_
            refine r_istore_n C (lv' := [(3, .int (1 : Int32)), (0, .ref a0), (1, .int x1)]) dX7_reads_84 (pc' := 85) rfl rfl (1 : Int32) rfl (Nat.le_of_ble_eq_true rfl) rfl ?_
            refine r_goto C dX7_reads_85 (tgt := 47) (by decide) ?_
            refine r_sub (lv' := [(0, .ref a0), (1, .int x1), (3, .int (1 : Int32))]) [1, 2, 0] rfl ?_
            exact ih M_23 (1 : Int32) (mMo.kd m_25 (mMo.kd m_21 k_a0 (by decide)) (by decide)) h (fun M9 w0 hm9 h9 => hX88 M9 w0 (mMo.tr (mMo.tr m_21 m_25) hm9) h9)
set_option maxHeartbeats 4000000 in
theorem B_X7_reads_122 {E : mE} {a0 : Nat} {x1 : Int32} {x4 : Int32} {X154 : MM → Prop} {Post : Int32 → MM → Prop} (C : mC E yX7_reads cX7_reads 6 ((some .int)) { frames := 8, cells := 0, slots := 0, locals := 167 }) (hE : mEnd E { frames := 8, cells := 0, slots := 0, locals := 167 } (pI_ Post)) : ∀ (n_ : Nat) (M : MM) (x5 : Int32), mkd M a0 = 7 → wl_X7_reads_122 a0 x1 x4 X154 n_ M x5 → (∀ (M' : MM), mMo M M' → X154 M' → mV E M' 0 0 154 [(0, .ref a0), (1, .int x1), (4, .int x4)] []) → mV E M 0 0 122 [(0, .ref a0), (1, .int x1), (4, .int x4), (5, .int x5)] [] := by
  intro n_
  induction n_ with
  | zero =>
    intro M x5 k_a0 h hX154
    exact absurd h (by rw [wl_X7_reads_122]; exact fun q => q)
  | succ n_ ih =>
    intro M x5 k_a0 h hX154
    rw [wl_X7_reads_122] at h
    refine r_iload C dX7_reads_122 (pc' := 124) rfl (j := 3) rfl ?_
    refine r_aload_n C dX7_reads_124 (pc' := 125) rfl (j := 0) rfl ?_
    refine r_getf C (Cn := RX7) (T := TX7) 10 k_a0 (by decide) vc_X7 in_X7 (by decide) q1234 dX7_reads_125 (pc' := 128) rfl (v := .int (mgI M a0 10)) rfl ?_
    refine r_icmp_ge C dX7_reads_128 (pc' := 131) rfl (tgt := 154) (by decide) (fun c_42 => ?_) (fun c_42 => ?_)
    · have h := it_t h c_42
      refine r_sub (lv' := [(0, .ref a0), (1, .int x1), (4, .int x4)]) [0, 1, 2] rfl ?_
      exact hX154 M mMo.rf h
    · have h := it_f h c_42
      refine r_aload_n C dX7_reads_131 (pc' := 132) rfl (j := 0) rfl ?_
      refine r_getf C (Cn := RX7) (T := TX7) 19 k_a0 (by decide) vc_X7 in_X7 (by decide) q1243 dX7_reads_132 (pc' := 135) rfl (v := va_rf (mgR M a0 19)) rfl ?_
      obtain ⟨b_43, e_44, k_45, h⟩ := h
      refine r_ref [] e_44 ?_
      refine r_iload C dX7_reads_135 (pc' := 137) rfl (j := 2) rfl ?_
      refine r_iload C dX7_reads_137 (pc' := 139) rfl (j := 3) rfl ?_
      refine r_iadd C dX7_reads_139 (pc' := 140) rfl ?_
      refine r_aload_n C dX7_reads_140 (pc' := 141) rfl (j := 0) rfl ?_
      refine r_getf C (Cn := RX7) (T := TX7) 13 k_a0 (by decide) vc_X7 in_X7 (by decide) q1237 dX7_reads_141 (pc' := 144) rfl (v := va_rf (mgR M a0 13)) rfl ?_
      obtain ⟨b_46, e_47, k_48, h⟩ := h
      refine r_ref [] e_47 ?_
      refine r_iload C dX7_reads_144 (pc' := 146) rfl (j := 3) rfl ?_
      obtain ⟨c_49, h⟩ := h
      refine r_iald C (j := (ix_ x5)) k_48 c_49 rfl dX7_reads_146 (pc' := 147) rfl ?_
      obtain ⟨c_50, h⟩ := h
      obtain ⟨M_51, e_52, h⟩ := bn_ h
      refine r_iast C (j := (ix_ (x4 + x5))) k_45 c_50 rfl dX7_reads_147 (pc' := 148) rfl M_51 e_52 ?_
      obtain ⟨x5_53, e_54, h⟩ := bn_ h
      refine r_iinc C (lv' := [(5, .int x5_53), (0, .ref a0), (1, .int x1), (4, .int x4)]) dX7_reads_148 (pc' := 151) rfl (j := 3) rfl x5_53 (by rw [e_54]; rfl) (Nat.le_of_ble_eq_true rfl) rfl ?_
      refine r_goto C dX7_reads_151 (tgt := 122) (by decide) ?_
      refine r_sub (lv' := [(0, .ref a0), (1, .int x1), (4, .int x4), (5, .int x5_53)]) [1, 2, 3, 0] rfl ?_
      exact ih M_51 x5_53 (mMo.kd (mo_I e_52) k_a0 (by decide)) h (fun M9 hm9 h9 => hX154 M9 (mMo.tr (mo_I e_52) hm9) h9)
set_option maxHeartbeats 4000000 in
theorem B_X7_reads_157 {E : mE} {a0 : Nat} {x1 : Int32} {x4 : Int32} {X257 : MM → Prop} {Post : Int32 → MM → Prop} (C : mC E yX7_reads cX7_reads 6 ((some .int)) { frames := 8, cells := 0, slots := 0, locals := 167 }) (hE : mEnd E { frames := 8, cells := 0, slots := 0, locals := 167 } (pI_ Post)) : ∀ (n_ : Nat) (M : MM) (x5 : Int32), mkd M a0 = 7 → wl_X7_reads_157 a0 x1 x4 X257 n_ M x5 → (∀ (M' : MM), mMo M M' → X257 M' → mV E M' 0 0 257 [(0, .ref a0)] []) → mV E M 0 0 157 [(0, .ref a0), (1, .int x1), (4, .int x4), (5, .int x5)] [] := by
  intro n_
  induction n_ with
  | zero =>
    intro M x5 k_a0 h hX257
    exact absurd h (by rw [wl_X7_reads_157]; exact fun q => q)
  | succ n_ ih =>
    intro M x5 k_a0 h hX257
    rw [wl_X7_reads_157] at h
    refine r_iload C dX7_reads_157 (pc' := 159) rfl (j := 3) rfl ?_
    refine r_aload_n C dX7_reads_159 (pc' := 160) rfl (j := 0) rfl ?_
    refine r_getf C (Cn := RX7) (T := TX7) 12 k_a0 (by decide) vc_X7 in_X7 (by decide) q1236 dX7_reads_160 (pc' := 163) rfl (v := .int (mgI M a0 12)) rfl ?_
    refine r_icmp_ge C dX7_reads_163 (pc' := 166) rfl (tgt := 257) (by decide) (fun c_58 => ?_) (fun c_58 => ?_)
    · have h := it_t h c_58
      refine r_sub (lv' := [(0, .ref a0)]) [0] rfl ?_
      exact hX257 M mMo.rf h
    · have h := it_f h c_58
      refine r_aload_n C dX7_reads_166 (pc' := 167) rfl (j := 0) rfl ?_
      refine r_getf C (Cn := RX7) (T := TX7) 21 k_a0 (by decide) vc_X7 in_X7 (by decide) q1245 dX7_reads_167 (pc' := 170) rfl (v := va_rf (mgR M a0 21)) rfl ?_
      obtain ⟨b_59, e_60, k_61, h⟩ := h
      refine r_ref [] e_60 ?_
      refine r_bipush C dX7_reads_170 (pc' := 172) rfl (v := 14) rfl ?_
      refine r_iload_n C dX7_reads_172 (pc' := 173) rfl (j := 1) rfl ?_
      refine r_imul C dX7_reads_173 (pc' := 174) rfl ?_
      refine r_iload C dX7_reads_174 (pc' := 176) rfl (j := 3) rfl ?_
      refine r_iadd C dX7_reads_176 (pc' := 177) rfl ?_
      refine r_aload_n C dX7_reads_177 (pc' := 178) rfl (j := 0) rfl ?_
      refine r_getf C (Cn := RX7) (T := TX7) 15 k_a0 (by decide) vc_X7 in_X7 (by decide) q1239 dX7_reads_178 (pc' := 181) rfl (v := va_rf (mgR M a0 15)) rfl ?_
      obtain ⟨b_62, e_63, k_64, h⟩ := h
      refine r_ref [] e_63 ?_
      refine r_iload C dX7_reads_181 (pc' := 183) rfl (j := 3) rfl ?_
      obtain ⟨c_65, h⟩ := h
      refine r_iald C (j := (ix_ x5)) k_64 c_65 rfl dX7_reads_183 (pc' := 184) rfl ?_
      obtain ⟨c_66, h⟩ := h
      obtain ⟨M_67, e_68, h⟩ := bn_ h
      refine r_iast C (j := (ix_ (((14 : Int32) * x1) + x5))) k_61 c_66 rfl dX7_reads_184 (pc' := 185) rfl M_67 e_68 ?_
      refine r_aload_n C dX7_reads_185 (pc' := 186) rfl (j := 0) rfl ?_
      refine r_getf C (Cn := RX7) (T := TX7) 22 (mMo.kd (mo_I e_68) k_a0 (by decide)) (by decide) vc_X7 in_X7 (by decide) q1246 dX7_reads_186 (pc' := 189) rfl (v := va_rf (mgR M_67 a0 22)) rfl ?_
      obtain ⟨b_69, e_70, k_71, h⟩ := h
      refine r_ref [] e_70 ?_
      refine r_bipush C dX7_reads_189 (pc' := 191) rfl (v := 14) rfl ?_
      refine r_iload_n C dX7_reads_191 (pc' := 192) rfl (j := 1) rfl ?_
      refine r_imul C dX7_reads_192 (pc' := 193) rfl ?_
      refine r_iload C dX7_reads_193 (pc' := 195) rfl (j := 3) rfl ?_
      refine r_iadd C dX7_reads_195 (pc' := 196) rfl ?_
      refine r_iload C dX7_reads_196 (pc' := 198) rfl (j := 2) rfl ?_
      refine r_aload_n C dX7_reads_198 (pc' := 199) rfl (j := 0) rfl ?_
      refine r_getf C (Cn := RX7) (T := TX7) 16 (mMo.kd (mo_I e_68) k_a0 (by decide)) (by decide) vc_X7 in_X7 (by decide) q1240 dX7_reads_199 (pc' := 202) rfl (v := va_rf (mgR M_67 a0 16)) rfl ?_
      obtain ⟨b_72, e_73, k_74, h⟩ := h
      refine r_ref [] e_73 ?_
      refine r_iload C dX7_reads_202 (pc' := 204) rfl (j := 3) rfl ?_
      obtain ⟨c_75, h⟩ := h
      refine r_iald C (j := (ix_ x5)) k_74 c_75 rfl dX7_reads_204 (pc' := 205) rfl ?_
      refine r_iadd C dX7_reads_205 (pc' := 206) rfl ?_
      obtain ⟨c_76, h⟩ := h
      obtain ⟨M_77, e_78, h⟩ := bn_ h
      refine r_iast C (j := (ix_ (((14 : Int32) * x1) + x5))) k_71 c_76 rfl dX7_reads_206 (pc' := 207) rfl M_77 e_78 ?_
      refine r_aload_n C dX7_reads_207 (pc' := 208) rfl (j := 0) rfl ?_
      refine r_getf C (Cn := RX7) (T := TX7) 23 (mMo.kd (mo_I e_78) (mMo.kd (mo_I e_68) k_a0 (by decide)) (by decide)) (by decide) vc_X7 in_X7 (by decide) q1247 dX7_reads_208 (pc' := 211) rfl (v := va_rf (mgR M_77 a0 23)) rfl ?_
      obtain ⟨b_79, e_80, k_81, h⟩ := h
      refine r_ref [] e_80 ?_
      refine r_bipush C dX7_reads_211 (pc' := 213) rfl (v := 14) rfl ?_
      refine r_iload_n C dX7_reads_213 (pc' := 214) rfl (j := 1) rfl ?_
      refine r_imul C dX7_reads_214 (pc' := 215) rfl ?_
      refine r_iload C dX7_reads_215 (pc' := 217) rfl (j := 3) rfl ?_
      refine r_iadd C dX7_reads_217 (pc' := 218) rfl ?_
      refine r_iload C dX7_reads_218 (pc' := 220) rfl (j := 2) rfl ?_
      refine r_aload_n C dX7_reads_220 (pc' := 221) rfl (j := 0) rfl ?_
      refine r_getf C (Cn := RX7) (T := TX7) 17 (mMo.kd (mo_I e_78) (mMo.kd (mo_I e_68) k_a0 (by decide)) (by decide)) (by decide) vc_X7 in_X7 (by decide) q1241 dX7_reads_221 (pc' := 224) rfl (v := va_rf (mgR M_77 a0 17)) rfl ?_
      obtain ⟨b_82, e_83, k_84, h⟩ := h
      refine r_ref [] e_83 ?_
      refine r_iload C dX7_reads_224 (pc' := 226) rfl (j := 3) rfl ?_
      obtain ⟨c_85, h⟩ := h
      refine r_iald C (j := (ix_ x5)) k_84 c_85 rfl dX7_reads_226 (pc' := 227) rfl ?_
      refine r_iadd C dX7_reads_227 (pc' := 228) rfl ?_
      obtain ⟨c_86, h⟩ := h
      obtain ⟨M_87, e_88, h⟩ := bn_ h
      refine r_iast C (j := (ix_ (((14 : Int32) * x1) + x5))) k_81 c_86 rfl dX7_reads_228 (pc' := 229) rfl M_87 e_88 ?_
      refine r_aload_n C dX7_reads_229 (pc' := 230) rfl (j := 0) rfl ?_
      refine r_getf C (Cn := RX7) (T := TX7) 24 (mMo.kd (mo_I e_88) (mMo.kd (mo_I e_78) (mMo.kd (mo_I e_68) k_a0 (by decide)) (by decide)) (by decide)) (by decide) vc_X7 in_X7 (by decide) q1248 dX7_reads_230 (pc' := 233) rfl (v := va_rf (mgR M_87 a0 24)) rfl ?_
      obtain ⟨b_89, e_90, k_91, h⟩ := h
      refine r_ref [] e_90 ?_
      refine r_bipush C dX7_reads_233 (pc' := 235) rfl (v := 14) rfl ?_
      refine r_iload_n C dX7_reads_235 (pc' := 236) rfl (j := 1) rfl ?_
      refine r_imul C dX7_reads_236 (pc' := 237) rfl ?_
      refine r_iload C dX7_reads_237 (pc' := 239) rfl (j := 3) rfl ?_
      refine r_iadd C dX7_reads_239 (pc' := 240) rfl ?_
      refine r_iload C dX7_reads_240 (pc' := 242) rfl (j := 2) rfl ?_
      refine r_aload_n C dX7_reads_242 (pc' := 243) rfl (j := 0) rfl ?_
      refine r_getf C (Cn := RX7) (T := TX7) 18 (mMo.kd (mo_I e_88) (mMo.kd (mo_I e_78) (mMo.kd (mo_I e_68) k_a0 (by decide)) (by decide)) (by decide)) (by decide) vc_X7 in_X7 (by decide) q1242 dX7_reads_243 (pc' := 246) rfl (v := va_rf (mgR M_87 a0 18)) rfl ?_
      obtain ⟨b_92, e_93, k_94, h⟩ := h
      refine r_ref [] e_93 ?_
      refine r_iload C dX7_reads_246 (pc' := 248) rfl (j := 3) rfl ?_
      obtain ⟨c_95, h⟩ := h
      refine r_iald C (j := (ix_ x5)) k_94 c_95 rfl dX7_reads_248 (pc' := 249) rfl ?_
      refine r_iadd C dX7_reads_249 (pc' := 250) rfl ?_
      obtain ⟨c_96, h⟩ := h
      obtain ⟨M_97, e_98, h⟩ := bn_ h
      refine r_iast C (j := (ix_ (((14 : Int32) * x1) + x5))) k_91 c_96 rfl dX7_reads_250 (pc' := 251) rfl M_97 e_98 ?_
      obtain ⟨x5_99, e_100, h⟩ := bn_ h
      refine r_iinc C (lv' := [(5, .int x5_99), (0, .ref a0), (1, .int x1), (4, .int x4)]) dX7_reads_251 (pc' := 254) rfl (j := 3) rfl x5_99 (by rw [e_100]; rfl) (Nat.le_of_ble_eq_true rfl) rfl ?_
      refine r_goto C dX7_reads_254 (tgt := 157) (by decide) ?_
      refine r_sub (lv' := [(0, .ref a0), (1, .int x1), (4, .int x4), (5, .int x5_99)]) [1, 2, 3, 0] rfl ?_
      exact ih M_97 x5_99 (mMo.kd (mo_I e_98) (mMo.kd (mo_I e_88) (mMo.kd (mo_I e_78) (mMo.kd (mo_I e_68) k_a0 (by decide)) (by decide)) (by decide)) (by decide)) h (fun M9 hm9 h9 => hX257 M9 (mMo.tr (mMo.tr (mMo.tr (mMo.tr (mo_I e_68) (mo_I e_78)) (mo_I e_88)) (mo_I e_98)) hm9) h9)
set_option maxHeartbeats 4000000 in
theorem B_X7_reads_88 {E : mE} {M : MM} {a0 : Nat} {x1 : Int32} {x3 : Int32} {Post : Int32 → MM → Prop} (C : mC E yX7_reads cX7_reads 6 ((some .int)) { frames := 8, cells := 0, slots := 0, locals := 167 }) (hE : mEnd E { frames := 8, cells := 0, slots := 0, locals := 167 } (pI_ Post)) (k_a0 : mkd M a0 = 7) (h : wb_X7_reads_88 M a0 x1 x3 Post) : mV E M 0 0 88 [(0, .ref a0), (1, .int x1), (3, .int x3)] [] := by
  unfold wb_X7_reads_88 at h
  refine r_aload_n C dX7_reads_88 (pc' := 89) rfl (j := 0) rfl ?_
  refine r_iconst C dX7_reads_89 (pc' := 90) rfl (v := 0) rfl ?_
  obtain ⟨M_31, e_32, h⟩ := bn_ h
  refine r_putI C (Cn := RX7) (T := TX7) tyX7 4 k_a0 (by decide) vc_X7 in_X7 tyX7_ok nmX7 (by decide) q1228 rfl rfl dX7_reads_90 (pc' := 93) rfl rfl rfl M_31 e_32 ?_
  refine r_iload_n C dX7_reads_93 (pc' := 94) rfl (j := 2) rfl ?_
  refine r_if_ne C dX7_reads_94 (pc' := 97) rfl (tgt := 102) (by decide) (fun c_33 => ?_) (fun c_33 => ?_)
  · have h := it_f h c_33
    refine r_aload_n C dX7_reads_102 (pc' := 103) rfl (j := 0) rfl ?_
    refine r_getf C (Cn := RX7) (T := TX7) 20 (mMo.kd (mo_I e_32) k_a0 (by decide)) (by decide) vc_X7 in_X7 (by decide) q1244 dX7_reads_103 (pc' := 106) rfl (v := va_rf (mgR M_31 a0 20)) rfl ?_
    obtain ⟨b_34, e_35, k_36, h⟩ := h
    refine r_ref [] e_35 ?_
    refine r_iload_n C dX7_reads_106 (pc' := 107) rfl (j := 1) rfl ?_
    refine r_aload_n C dX7_reads_107 (pc' := 108) rfl (j := 0) rfl ?_
    refine r_getf C (Cn := RX7) (T := TX7) 12 (mMo.kd (mo_I e_32) k_a0 (by decide)) (by decide) vc_X7 in_X7 (by decide) q1236 dX7_reads_108 (pc' := 111) rfl (v := .int (mgI M_31 a0 12)) rfl ?_
    obtain ⟨c_37, h⟩ := h
    obtain ⟨M_38, e_39, h⟩ := bn_ h
    refine r_iast C (j := (ix_ x1)) k_36 c_37 rfl dX7_reads_111 (pc' := 112) rfl M_38 e_39 ?_
    refine r_sipush C dX7_reads_112 (pc' := 115) rfl (v := 220) rfl ?_
    refine r_iload_n C dX7_reads_115 (pc' := 116) rfl (j := 1) rfl ?_
    refine r_imul C dX7_reads_116 (pc' := 117) rfl ?_
    obtain ⟨x4_40, e_41, h⟩ := bn_ h
    refine r_istore C (lv' := [(4, .int x4_40), (0, .ref a0), (1, .int x1), (3, .int x3)]) dX7_reads_117 (pc' := 119) rfl x4_40 e_41 (Nat.le_of_ble_eq_true rfl) rfl ?_
    refine r_iconst C dX7_reads_119 (pc' := 120) rfl (v := 0) rfl ?_
    refine r_istore C (lv' := [(5, .int (0 : Int32)), (4, .int x4_40), (0, .ref a0), (1, .int x1), (3, .int x3)]) dX7_reads_120 (pc' := 122) rfl (0 : Int32) rfl (Nat.le_of_ble_eq_true rfl) rfl ?_
    obtain ⟨n_55, h⟩ := h
    refine r_sub (lv' := [(0, .ref a0), (1, .int x1), (4, .int x4_40), (5, .int (0 : Int32))]) [2, 3, 1, 0] rfl ?_
    refine B_X7_reads_122 C hE n_55 M_38 (0 : Int32) (mMo.kd (mo_I e_39) (mMo.kd (mo_I e_32) k_a0 (by decide)) (by decide)) h (fun M_56 m_57 h => ?_)
    refine r_iconst C dX7_reads_154 (pc' := 155) rfl (v := 0) rfl ?_
    refine r_istore C (lv' := [(5, .int (0 : Int32)), (0, .ref a0), (1, .int x1), (4, .int x4_40)]) dX7_reads_155 (pc' := 157) rfl (0 : Int32) rfl (Nat.le_of_ble_eq_true rfl) rfl ?_
    obtain ⟨n_101, h⟩ := h
    refine r_sub (lv' := [(0, .ref a0), (1, .int x1), (4, .int x4_40), (5, .int (0 : Int32))]) [1, 2, 3, 0] rfl ?_
    refine B_X7_reads_157 C hE n_101 M_56 (0 : Int32) (mMo.kd m_57 (mMo.kd (mo_I e_39) (mMo.kd (mo_I e_32) k_a0 (by decide)) (by decide)) (by decide)) h (fun M_102 m_103 h => ?_)
    refine r_aload_n C dX7_reads_257 (pc' := 258) rfl (j := 0) rfl ?_
    refine r_getf C (Cn := RX7) (T := TX7) 12 (mMo.kd m_103 (mMo.kd m_57 (mMo.kd (mo_I e_39) (mMo.kd (mo_I e_32) k_a0 (by decide)) (by decide)) (by decide)) (by decide)) (by decide) vc_X7 in_X7 (by decide) q1236 dX7_reads_258 (pc' := 261) rfl (v := .int (mgI M_102 a0 12)) rfl ?_
    exact r_iret C hE (Nat.le_of_ble_eq_true rfl) (Nat.le_of_ble_eq_true rfl) dX7_reads_261 ⟨_, rfl, h⟩
  · have h := it_t h c_33
    refine r_aload_n C dX7_reads_97 (pc' := 98) rfl (j := 0) rfl ?_
    refine r_getf C (Cn := RX7) (T := TX7) 7 (mMo.kd (mo_I e_32) k_a0 (by decide)) (by decide) vc_X7 in_X7 (by decide) q1231 dX7_reads_98 (pc' := 101) rfl (v := .int (mgI M_31 a0 7)) rfl ?_
    exact r_iret C hE (Nat.le_of_ble_eq_true rfl) (Nat.le_of_ble_eq_true rfl) dX7_reads_101 ⟨_, rfl, h⟩
set_option maxHeartbeats 4000000 in
theorem S_X7_reads {D : DD} {l : Launch} {M : MM} {a0 : Nat} {x1 : Int32} {x2 : Int32} {Post : Int32 → MM → Prop} (k_a0 : mkd M a0 = 7) (h : wp_X7_reads M a0 x1 x2 Post) : mMet D l yX7_reads cX7_reads 6 ((some .int)) { frames := 8, cells := 0, slots := 0, locals := 167 } M [.ref a0, .int x1, .int x2] (pI_ Post) := by
  refine m_of2 [(0, .ref a0), (1, .int x1), (2, .int x2)] (by decide +kernel) (Nat.le_of_ble_eq_true rfl) rfl (fun E hED hEl C hE => ?_)
  subst hED
  subst hEl
  unfold wp_X7_reads at h
  refine r_iload_n C dX7_reads_0 (pc' := 1) rfl (j := 2) rfl ?_
  refine r_iconst C dX7_reads_1 (pc' := 2) rfl (v := 1) rfl ?_
  refine r_sipush C dX7_reads_2 (pc' := 5) rfl (v := 200) rfl ?_
  refine r_callSi (As := [.int x2, .int (1 : Int32), .int (200 : Int32)]) (rest := []) C (S_X7_in h) (lw_S q1391 q1392 q112 q1393) hd_X7_in rfl rfl (Nat.le_of_ble_eq_true rfl) (Nat.le_of_ble_eq_true rfl) (Nat.le_of_ble_eq_true rfl) rfl rfl (Nat.le_of_ble_eq_true rfl) (Nat.le_of_ble_eq_true rfl) dX7_reads_5 (pc' := 8) rfl (fun r_2 M_1 h m_3 => ?_)
  refine r_if_eq C dX7_reads_8 (pc' := 11) rfl (tgt := 19) (by decide) (fun c_4 => ?_) (fun c_4 => ?_)
  · have h := it_t h c_4
    refine r_iconst C dX7_reads_19 (pc' := 20) rfl (v := -1) rfl ?_
    exact r_iret C hE (Nat.le_of_ble_eq_true rfl) (Nat.le_of_ble_eq_true rfl) dX7_reads_20 ⟨_, rfl, h⟩
  · have h := it_f h c_4
    refine r_iload_n C dX7_reads_11 (pc' := 12) rfl (j := 2) rfl ?_
    refine r_aload_n C dX7_reads_12 (pc' := 13) rfl (j := 0) rfl ?_
    refine r_getf C (Cn := RX7) (T := TX7) 4 (mMo.kd m_3 k_a0 (by decide)) (by decide) vc_X7 in_X7 (by decide) q1228 dX7_reads_13 (pc' := 16) rfl (v := .int (mgI M_1 a0 4)) rfl ?_
    refine r_icmp_le C dX7_reads_16 (pc' := 19) rfl (tgt := 21) (by decide) (fun c_5 => ?_) (fun c_5 => ?_)
    · have h := it_t h c_5
      refine r_aload_n C dX7_reads_21 (pc' := 22) rfl (j := 0) rfl ?_
      refine r_iconst C dX7_reads_22 (pc' := 23) rfl (v := 0) rfl ?_
      obtain ⟨M_6, e_7, h⟩ := bn_ h
      refine r_putI C (Cn := RX7) (T := TX7) tyX7 5 (mMo.kd m_3 k_a0 (by decide)) (by decide) vc_X7 in_X7 tyX7_ok nmX7 (by decide) q1229 rfl rfl dX7_reads_23 (pc' := 26) rfl rfl rfl M_6 e_7 ?_
      refine r_aload_n C dX7_reads_26 (pc' := 27) rfl (j := 0) rfl ?_
      refine r_iload_n C dX7_reads_27 (pc' := 28) rfl (j := 2) rfl ?_
      obtain ⟨M_8, e_9, h⟩ := bn_ h
      refine r_putI C (Cn := RX7) (T := TX7) tyX7 6 (mMo.kd (mo_I e_7) (mMo.kd m_3 k_a0 (by decide)) (by decide)) (by decide) vc_X7 in_X7 tyX7_ok nmX7 (by decide) q1230 rfl rfl dX7_reads_28 (pc' := 31) rfl rfl rfl M_8 e_9 ?_
      refine r_aload_n C dX7_reads_31 (pc' := 32) rfl (j := 0) rfl ?_
      refine r_iconst C dX7_reads_32 (pc' := 33) rfl (v := 0) rfl ?_
      obtain ⟨M_10, e_11, h⟩ := bn_ h
      refine r_putI C (Cn := RX7) (T := TX7) tyX7 10 (mMo.kd (mo_I e_9) (mMo.kd (mo_I e_7) (mMo.kd m_3 k_a0 (by decide)) (by decide)) (by decide)) (by decide) vc_X7 in_X7 tyX7_ok nmX7 (by decide) q1234 rfl rfl dX7_reads_33 (pc' := 36) rfl rfl rfl M_10 e_11 ?_
      refine r_aload_n C dX7_reads_36 (pc' := 37) rfl (j := 0) rfl ?_
      refine r_iconst C dX7_reads_37 (pc' := 38) rfl (v := 0) rfl ?_
      obtain ⟨M_12, e_13, h⟩ := bn_ h
      refine r_putI C (Cn := RX7) (T := TX7) tyX7 12 (mMo.kd (mo_I e_11) (mMo.kd (mo_I e_9) (mMo.kd (mo_I e_7) (mMo.kd m_3 k_a0 (by decide)) (by decide)) (by decide)) (by decide)) (by decide) vc_X7 in_X7 tyX7_ok nmX7 (by decide) q1236 rfl rfl dX7_reads_38 (pc' := 41) rfl rfl rfl M_12 e_13 ?_
      refine r_aload_n C dX7_reads_41 (pc' := 42) rfl (j := 0) rfl ?_
      refine r_iload_n C dX7_reads_42 (pc' := 43) rfl (j := 1) rfl ?_
      refine r_callVi (As := [.int x1]) (rest := []) (Cn := RX7) (T := TX7) C (mMo.kd (mo_I e_13) (mMo.kd (mo_I e_11) (mMo.kd (mo_I e_9) (mMo.kd (mo_I e_7) (mMo.kd m_3 k_a0 (by decide)) (by decide)) (by decide)) (by decide)) (by decide)) (by decide) vc_X7 (S_X7_readsClause (mMo.kd (mo_I e_13) (mMo.kd (mo_I e_11) (mMo.kd (mo_I e_9) (mMo.kd (mo_I e_7) (mMo.kd m_3 k_a0 (by decide)) (by decide)) (by decide)) (by decide)) (by decide)) h) (lw_V q1436 q1438 qs55 q112 q1439) rfl hd_X7_readsClause rfl rfl (Nat.le_of_ble_eq_true rfl) (Nat.le_of_ble_eq_true rfl) (Nat.le_of_ble_eq_true rfl) rfl rfl (Nat.le_of_ble_eq_true rfl) (Nat.le_of_ble_eq_true rfl) dX7_reads_43 (pc' := 46) rfl (fun r_15 M_14 h m_16 => ?_)
      refine r_istore_n C (lv' := [(3, .int r_15), (0, .ref a0), (1, .int x1), (2, .int x2)]) dX7_reads_46 (pc' := 47) rfl rfl r_15 rfl (Nat.le_of_ble_eq_true rfl) rfl ?_
      obtain ⟨n_27, h⟩ := h
      refine r_sub (lv' := [(0, .ref a0), (1, .int x1), (3, .int r_15)]) [1, 2, 0] rfl ?_
      refine B_X7_reads_47 C hE n_27 M_14 r_15 (mMo.kd m_16 (mMo.kd (mo_I e_13) (mMo.kd (mo_I e_11) (mMo.kd (mo_I e_9) (mMo.kd (mo_I e_7) (mMo.kd m_3 k_a0 (by decide)) (by decide)) (by decide)) (by decide)) (by decide)) (by decide)) h (fun M_28 x3_30 m_29 h => ?_)
      refine r_sub (lv' := [(0, .ref a0), (1, .int x1), (3, .int x3_30)]) [0, 1, 2] rfl ?_
      exact B_X7_reads_88 C hE (mMo.kd m_29 (mMo.kd m_16 (mMo.kd (mo_I e_13) (mMo.kd (mo_I e_11) (mMo.kd (mo_I e_9) (mMo.kd (mo_I e_7) (mMo.kd m_3 k_a0 (by decide)) (by decide)) (by decide)) (by decide)) (by decide)) (by decide)) (by decide)) h
    · have h := it_f h c_5
      refine r_iconst C dX7_reads_19 (pc' := 20) rfl (v := -1) rfl ?_
      exact r_iret C hE (Nat.le_of_ble_eq_true rfl) (Nat.le_of_ble_eq_true rfl) dX7_reads_20 ⟨_, rfl, h⟩
set_option maxHeartbeats 4000000 in
theorem S_X7_law {D : DD} {l : Launch} {M : MM} {a0 : Nat} {x1 : Int32} {Post : Int32 → MM → Prop} (k_a0 : mkd M a0 = 7) (h : wp_X7_law M a0 x1 Post) : mMet D l yX7_law cX7_law 2 ((some .int)) { frames := 9, cells := 0, slots := 0, locals := 192 } M [.ref a0, .int x1] (pI_ Post) := by
  refine m_of2 [(0, .ref a0), (1, .int x1)] (by decide +kernel) (Nat.le_of_ble_eq_true rfl) rfl (fun E hED hEl C hE => ?_)
  subst hED
  subst hEl
  unfold wp_X7_law at h
  refine r_aload_n C dX7_law_0 (pc' := 1) rfl (j := 0) rfl ?_
  refine r_iconst C dX7_law_1 (pc' := 2) rfl (v := 0) rfl ?_
  refine r_iload_n C dX7_law_2 (pc' := 3) rfl (j := 1) rfl ?_
  refine r_callVi (As := [.int (0 : Int32), .int x1]) (rest := []) (Cn := RX7) (T := TX7) C k_a0 (by decide) vc_X7 (S_X7_reads k_a0 h) (lw_V q1432 q1434 qs54 q112 q1435) rfl hd_X7_reads rfl rfl (Nat.le_of_ble_eq_true rfl) (Nat.le_of_ble_eq_true rfl) (Nat.le_of_ble_eq_true rfl) rfl rfl (Nat.le_of_ble_eq_true rfl) (Nat.le_of_ble_eq_true rfl) dX7_law_3 (pc' := 6) rfl (fun r_2 M_1 h m_3 => ?_)
  exact r_iret C hE (Nat.le_of_ble_eq_true rfl) (Nat.le_of_ble_eq_true rfl) dX7_law_6 ⟨_, rfl, h⟩
set_option maxHeartbeats 4000000 in
theorem S_X7_rule {D : DD} {l : Launch} {M : MM} {a0 : Nat} {x1 : Int32} {x2 : Int32} {Post : Int32 → MM → Prop} (k_a0 : mkd M a0 = 7) (h : wp_X7_rule M a0 x1 x2 Post) : mMet D l yX7_rule cX7_rule 3 ((some .int)) { frames := 9, cells := 0, slots := 0, locals := 192 } M [.ref a0, .int x1, .int x2] (pI_ Post) := by
  refine m_of2 [(0, .ref a0), (1, .int x1), (2, .int x2)] (by decide +kernel) (Nat.le_of_ble_eq_true rfl) rfl (fun E hED hEl C hE => ?_)
  subst hED
  subst hEl
  unfold wp_X7_rule at h
  refine r_iload_n C dX7_rule_0 (pc' := 1) rfl (j := 1) rfl ?_
  refine r_iconst C dX7_rule_1 (pc' := 2) rfl (v := 0) rfl ?_
  refine r_iconst C dX7_rule_2 (pc' := 3) rfl (v := 3) rfl ?_
  refine r_callSi (As := [.int x1, .int (0 : Int32), .int (3 : Int32)]) (rest := []) C (S_X7_in h) (lw_S q1391 q1392 q112 q1393) hd_X7_in rfl rfl (Nat.le_of_ble_eq_true rfl) (Nat.le_of_ble_eq_true rfl) (Nat.le_of_ble_eq_true rfl) rfl rfl (Nat.le_of_ble_eq_true rfl) (Nat.le_of_ble_eq_true rfl) dX7_rule_3 (pc' := 6) rfl (fun r_2 M_1 h m_3 => ?_)
  refine r_if_eq C dX7_rule_6 (pc' := 9) rfl (tgt := 20) (by decide) (fun c_4 => ?_) (fun c_4 => ?_)
  · have h := it_t h c_4
    refine r_iconst C dX7_rule_20 (pc' := 21) rfl (v := -1) rfl ?_
    exact r_iret C hE (Nat.le_of_ble_eq_true rfl) (Nat.le_of_ble_eq_true rfl) dX7_rule_21 ⟨_, rfl, h⟩
  · have h := it_f h c_4
    refine r_aload_n C dX7_rule_9 (pc' := 10) rfl (j := 0) rfl ?_
    refine r_iload_n C dX7_rule_10 (pc' := 11) rfl (j := 1) rfl ?_
    refine r_iconst C dX7_rule_11 (pc' := 12) rfl (v := 1) rfl ?_
    refine r_iadd C dX7_rule_12 (pc' := 13) rfl ?_
    refine r_iload_n C dX7_rule_13 (pc' := 14) rfl (j := 2) rfl ?_
    refine r_callVi (As := [.int (x1 + (1 : Int32)), .int x2]) (rest := []) (Cn := RX7) (T := TX7) C (mMo.kd m_3 k_a0 (by decide)) (by decide) vc_X7 (S_X7_reads (mMo.kd m_3 k_a0 (by decide)) h) (lw_V q1432 q1434 qs54 q112 q1435) rfl hd_X7_reads rfl rfl (Nat.le_of_ble_eq_true rfl) (Nat.le_of_ble_eq_true rfl) (Nat.le_of_ble_eq_true rfl) rfl rfl (Nat.le_of_ble_eq_true rfl) (Nat.le_of_ble_eq_true rfl) dX7_rule_14 (pc' := 17) rfl (fun r_6 M_5 h m_7 => ?_)
    refine r_goto C dX7_rule_17 (tgt := 21) (by decide) ?_
    exact r_iret C hE (Nat.le_of_ble_eq_true rfl) (Nat.le_of_ble_eq_true rfl) dX7_rule_21 ⟨_, rfl, h⟩
set_option maxHeartbeats 4000000 in
theorem S_X7_reckon {D : DD} {l : Launch} {M : MM} {x0 : Int32} {x1 : Int32} {x2 : Int32} {Post : Int32 → MM → Prop} (h : wp_X7_reckon M x0 x1 x2 Post) : mMet D l yX7_reckon cX7_reckon 3 ((some .int)) { frames := 0, cells := 0, slots := 0, locals := 0 } M [.int x0, .int x1, .int x2] (pI_ Post) := by
  refine m_of2 [(0, .int x0), (1, .int x1), (2, .int x2)] (by decide +kernel) (Nat.le_of_ble_eq_true rfl) rfl (fun E hED hEl C hE => ?_)
  subst hED
  subst hEl
  unfold wp_X7_reckon at h
  refine r_iload_n C dX7_reckon_0 (pc' := 1) rfl (j := 0) rfl ?_
  by_cases c_1 : x0 = 2
  · have h := it_t h c_1
    refine r_tsIn C dX7_reckon_1 (off := 43) (tgt := 44) (by rw [c_1]; decide) (by rw [c_1]; decide) (by rw [c_1]; decide) (by decide) ?_
    refine r_iload_n C dX7_reckon_44 (pc' := 45) rfl (j := 1) rfl ?_
    refine r_iload_n C dX7_reckon_45 (pc' := 46) rfl (j := 2) rfl ?_
    refine r_iadd C dX7_reckon_46 (pc' := 47) rfl ?_
    exact r_iret C hE (Nat.le_of_ble_eq_true rfl) (Nat.le_of_ble_eq_true rfl) dX7_reckon_47 ⟨_, rfl, h⟩
  have h := it_f h c_1
  by_cases c_2 : x0 = 3
  · have h := it_t h c_2
    refine r_tsIn C dX7_reckon_1 (off := 47) (tgt := 48) (by rw [c_2]; decide) (by rw [c_2]; decide) (by rw [c_2]; decide) (by decide) ?_
    refine r_iload_n C dX7_reckon_48 (pc' := 49) rfl (j := 1) rfl ?_
    refine r_iload_n C dX7_reckon_49 (pc' := 50) rfl (j := 2) rfl ?_
    refine r_isub C dX7_reckon_50 (pc' := 51) rfl ?_
    exact r_iret C hE (Nat.le_of_ble_eq_true rfl) (Nat.le_of_ble_eq_true rfl) dX7_reckon_51 ⟨_, rfl, h⟩
  have h := it_f h c_2
  by_cases c_3 : x0 = 4
  · have h := it_t h c_3
    refine r_tsIn C dX7_reckon_1 (off := 51) (tgt := 52) (by rw [c_3]; decide) (by rw [c_3]; decide) (by rw [c_3]; decide) (by decide) ?_
    refine r_iload_n C dX7_reckon_52 (pc' := 53) rfl (j := 1) rfl ?_
    refine r_iload_n C dX7_reckon_53 (pc' := 54) rfl (j := 2) rfl ?_
    refine r_imul C dX7_reckon_54 (pc' := 55) rfl ?_
    exact r_iret C hE (Nat.le_of_ble_eq_true rfl) (Nat.le_of_ble_eq_true rfl) dX7_reckon_55 ⟨_, rfl, h⟩
  have h := it_f h c_3
  by_cases c_4 : x0 = 5
  · have h := it_t h c_4
    refine r_tsIn C dX7_reckon_1 (off := 55) (tgt := 56) (by rw [c_4]; decide) (by rw [c_4]; decide) (by rw [c_4]; decide) (by decide) ?_
    refine r_iload_n C dX7_reckon_56 (pc' := 57) rfl (j := 1) rfl ?_
    refine r_iload_n C dX7_reckon_57 (pc' := 58) rfl (j := 2) rfl ?_
    obtain ⟨c_5, h⟩ := h
    refine r_idiv C dX7_reckon_58 (pc' := 59) rfl c_5 ?_
    exact r_iret C hE (Nat.le_of_ble_eq_true rfl) (Nat.le_of_ble_eq_true rfl) dX7_reckon_59 ⟨_, rfl, h⟩
  have h := it_f h c_4
  by_cases c_6 : x0 = 6
  · have h := it_t h c_6
    refine r_tsIn C dX7_reckon_1 (off := 59) (tgt := 60) (by rw [c_6]; decide) (by rw [c_6]; decide) (by rw [c_6]; decide) (by decide) ?_
    refine r_iload_n C dX7_reckon_60 (pc' := 61) rfl (j := 1) rfl ?_
    refine r_iload_n C dX7_reckon_61 (pc' := 62) rfl (j := 2) rfl ?_
    obtain ⟨c_7, h⟩ := h
    refine r_irem C dX7_reckon_62 (pc' := 63) rfl c_7 ?_
    exact r_iret C hE (Nat.le_of_ble_eq_true rfl) (Nat.le_of_ble_eq_true rfl) dX7_reckon_63 ⟨_, rfl, h⟩
  have h := it_f h c_6
  by_cases c_8 : x0 = 7
  · have h := it_t h c_8
    refine r_tsIn C dX7_reckon_1 (off := 63) (tgt := 64) (by rw [c_8]; decide) (by rw [c_8]; decide) (by rw [c_8]; decide) (by decide) ?_
    refine r_iload_n C dX7_reckon_64 (pc' := 65) rfl (j := 1) rfl ?_
    refine r_iload_n C dX7_reckon_65 (pc' := 66) rfl (j := 2) rfl ?_
    refine r_icmp_ge C dX7_reckon_66 (pc' := 69) rfl (tgt := 73) (by decide) (fun c_9 => ?_) (fun c_9 => ?_)
    · have h := it_t h c_9
      refine r_iconst C dX7_reckon_73 (pc' := 74) rfl (v := 0) rfl ?_
      exact r_iret C hE (Nat.le_of_ble_eq_true rfl) (Nat.le_of_ble_eq_true rfl) dX7_reckon_74 ⟨_, rfl, h⟩
    · have h := it_f h c_9
      refine r_iconst C dX7_reckon_69 (pc' := 70) rfl (v := 1) rfl ?_
      refine r_goto C dX7_reckon_70 (tgt := 74) (by decide) ?_
      exact r_iret C hE (Nat.le_of_ble_eq_true rfl) (Nat.le_of_ble_eq_true rfl) dX7_reckon_74 ⟨_, rfl, h⟩
  have h := it_f h c_8
  by_cases c_10 : x0 = 8
  · have h := it_t h c_10
    refine r_tsIn C dX7_reckon_1 (off := 74) (tgt := 75) (by rw [c_10]; decide) (by rw [c_10]; decide) (by rw [c_10]; decide) (by decide) ?_
    refine r_iload_n C dX7_reckon_75 (pc' := 76) rfl (j := 1) rfl ?_
    refine r_iload_n C dX7_reckon_76 (pc' := 77) rfl (j := 2) rfl ?_
    refine r_icmp_le C dX7_reckon_77 (pc' := 80) rfl (tgt := 84) (by decide) (fun c_11 => ?_) (fun c_11 => ?_)
    · have h := it_t h c_11
      refine r_iconst C dX7_reckon_84 (pc' := 85) rfl (v := 0) rfl ?_
      exact r_iret C hE (Nat.le_of_ble_eq_true rfl) (Nat.le_of_ble_eq_true rfl) dX7_reckon_85 ⟨_, rfl, h⟩
    · have h := it_f h c_11
      refine r_iconst C dX7_reckon_80 (pc' := 81) rfl (v := 1) rfl ?_
      refine r_goto C dX7_reckon_81 (tgt := 85) (by decide) ?_
      exact r_iret C hE (Nat.le_of_ble_eq_true rfl) (Nat.le_of_ble_eq_true rfl) dX7_reckon_85 ⟨_, rfl, h⟩
  have h := it_f h c_10
  have c_1 := lv_neT c_1 (show ((2 : Int32)).toInt = 2 from by decide)
  have c_2 := lv_neT c_2 (show ((3 : Int32)).toInt = 3 from by decide)
  have c_3 := lv_neT c_3 (show ((4 : Int32)).toInt = 4 from by decide)
  have c_4 := lv_neT c_4 (show ((5 : Int32)).toInt = 5 from by decide)
  have c_6 := lv_neT c_6 (show ((6 : Int32)).toInt = 6 from by decide)
  have c_8 := lv_neT c_8 (show ((7 : Int32)).toInt = 7 from by decide)
  have c_10 := lv_neT c_10 (show ((8 : Int32)).toInt = 8 from by decide)
  refine r_tsOut C dX7_reckon_1 (tgt := 86) (by omega) (by decide) ?_
  refine r_iload_n C dX7_reckon_86 (pc' := 87) rfl (j := 1) rfl ?_
  refine r_iload_n C dX7_reckon_87 (pc' := 88) rfl (j := 2) rfl ?_
  refine r_icmp_ne C dX7_reckon_88 (pc' := 91) rfl (tgt := 95) (by decide) (fun c_12 => ?_) (fun c_12 => ?_)
  · have h := it_f h c_12
    refine r_iconst C dX7_reckon_95 (pc' := 96) rfl (v := 0) rfl ?_
    exact r_iret C hE (Nat.le_of_ble_eq_true rfl) (Nat.le_of_ble_eq_true rfl) dX7_reckon_96 ⟨_, rfl, h⟩
  · have h := it_t h c_12
    refine r_iconst C dX7_reckon_91 (pc' := 92) rfl (v := 1) rfl ?_
    refine r_goto C dX7_reckon_92 (tgt := 96) (by decide) ?_
    exact r_iret C hE (Nat.le_of_ble_eq_true rfl) (Nat.le_of_ble_eq_true rfl) dX7_reckon_96 ⟨_, rfl, h⟩
set_option maxHeartbeats 4000000 in
theorem B_X7_comesTo_85 {E : mE} {M : MM} {a0 : Nat} {x2 : Int32} {x3 : Int32} {x4 : Int32} {x5 : Int32} {as0 : Nat} {xs1 : Int32} {xs2 : Int32} {R : MM → Int32 → Int32 → Prop} {X201 : MM → Prop} {X233 : MM → Prop} {Post : Int32 → MM → Prop} (C : mC E yX7_comesTo cX7_comesTo 8 ((some .int)) { frames := 1, cells := 0, slots := 0, locals := 22 }) (hE : mEnd E { frames := 1, cells := 0, slots := 0, locals := 22 } (pI_ Post)) (k_a0 : mkd M a0 = 7) (k_as0 : mkd M as0 = 100) (h : wb_X7_comesTo_85 M a0 x2 x3 x4 x5 as0 xs1 xs2 R X201 X233) (hR : ∀ (M' : MM) (x3' : Int32) (x5' : Int32), mMo M M' → mkd M' a0 = 7 → R M' x3' x5' → mV E M' 0 0 16 [(0, .ref a0), (2, .int x2), (3, .int x3'), (4, .int x4), (5, .int x5')] []) (hX201 : ∀ (M' : MM), mMo M M' → X201 M' → mV E M' 0 0 201 [] []) (hX233 : ∀ (M' : MM), mMo M M' → X233 M' → mV E M' 0 0 233 [(0, .ref a0)] []) : mV E M 0 0 85 [(0, .ref a0), (2, .int x2), (3, .int x3), (4, .int x4), (5, .int x5)] [.int xs2, .int xs1, .ref as0] := by
  unfold wb_X7_comesTo_85 at h
  obtain ⟨c_27, h⟩ := h
  obtain ⟨M_28, e_29, h⟩ := bn_ h
  refine r_iast C (j := (ix_ xs1)) k_as0 c_27 rfl dX7_comesTo_85 (pc' := 86) rfl M_28 e_29 ?_
  refine r_iload_n C dX7_comesTo_86 (pc' := 87) rfl (j := 2) rfl ?_
  refine r_iconst C dX7_comesTo_87 (pc' := 88) rfl (v := 1) rfl ?_
  refine r_iadd C dX7_comesTo_88 (pc' := 89) rfl ?_
  obtain ⟨x3_30, e_31, h⟩ := bn_ h
  refine r_istore_n C (lv' := [(3, .int x3_30), (0, .ref a0), (2, .int x2), (4, .int x4), (5, .int x5)]) dX7_comesTo_89 (pc' := 90) rfl rfl x3_30 e_31 (Nat.le_of_ble_eq_true rfl) rfl ?_
  refine r_goto C dX7_comesTo_90 (tgt := 230) (by decide) ?_
  refine r_goto C dX7_comesTo_230 (tgt := 16) (by decide) ?_
  refine r_sub (lv' := [(0, .ref a0), (2, .int x2), (3, .int x3_30), (4, .int x4), (5, .int x5)]) [1, 2, 0, 3, 4] rfl ?_
  exact hR M_28 x3_30 x5 (mo_I e_29) (mMo.kd (mo_I e_29) k_a0 (by decide)) h
set_option maxHeartbeats 4000000 in
theorem B_X7_comesTo_63 {E : mE} {M : MM} {a0 : Nat} {x2 : Int32} {x3 : Int32} {x4 : Int32} {x5 : Int32} {x6 : Int32} {x7 : Int32} {R : MM → Int32 → Int32 → Prop} {X201 : MM → Prop} {X233 : MM → Prop} {Post : Int32 → MM → Prop} (C : mC E yX7_comesTo cX7_comesTo 8 ((some .int)) { frames := 1, cells := 0, slots := 0, locals := 22 }) (hE : mEnd E { frames := 1, cells := 0, slots := 0, locals := 22 } (pI_ Post)) (k_a0 : mkd M a0 = 7) (h : wb_X7_comesTo_63 M a0 x2 x3 x4 x5 x6 x7 R X201 X233) (hR : ∀ (M' : MM) (x3' : Int32) (x5' : Int32), mMo M M' → mkd M' a0 = 7 → R M' x3' x5' → mV E M' 0 0 16 [(0, .ref a0), (2, .int x2), (3, .int x3'), (4, .int x4), (5, .int x5')] []) (hX201 : ∀ (M' : MM), mMo M M' → X201 M' → mV E M' 0 0 201 [] []) (hX233 : ∀ (M' : MM), mMo M M' → X233 M' → mV E M' 0 0 233 [(0, .ref a0)] []) : mV E M 0 0 63 [(0, .ref a0), (2, .int x2), (3, .int x3), (4, .int x4), (5, .int x5), (6, .int x6), (7, .int x7)] [] := by
  unfold wb_X7_comesTo_63 at h
  refine r_aload_n C dX7_comesTo_63 (pc' := 64) rfl (j := 0) rfl ?_
  refine r_getf C (Cn := RX7) (T := TX7) 25 k_a0 (by decide) vc_X7 in_X7 (by decide) q1249 dX7_comesTo_64 (pc' := 67) rfl (v := va_rf (mgR M a0 25)) rfl ?_
  obtain ⟨b_19, e_20, k_21, h⟩ := h
  refine r_ref [] e_20 ?_
  refine r_iload_n C dX7_comesTo_67 (pc' := 68) rfl (j := 2) rfl ?_
  refine r_iload C dX7_comesTo_68 (pc' := 70) rfl (j := 5) rfl ?_
  refine r_if_ne C dX7_comesTo_70 (pc' := 73) rfl (tgt := 78) (by decide) (fun c_22 => ?_) (fun c_22 => ?_)
  · have h := it_f h c_22
    refine r_aload_n C dX7_comesTo_78 (pc' := 79) rfl (j := 0) rfl ?_
    refine r_getf C (Cn := RX7) (T := TX7) 26 k_a0 (by decide) vc_X7 in_X7 (by decide) q1250 dX7_comesTo_79 (pc' := 82) rfl (v := va_rf (mgR M a0 26)) rfl ?_
    obtain ⟨b_23, e_24, k_25, h⟩ := h
    refine r_ref [] e_24 ?_
    refine r_iload C dX7_comesTo_82 (pc' := 84) rfl (j := 6) rfl ?_
    obtain ⟨c_26, h⟩ := h
    refine r_iald C (j := (ix_ x7)) k_25 c_26 rfl dX7_comesTo_84 (pc' := 85) rfl ?_
    refine r_sub (lv' := [(0, .ref a0), (2, .int x2), (3, .int x3), (4, .int x4), (5, .int x5)]) [0, 1, 2, 3, 4] rfl ?_
    exact B_X7_comesTo_85 C hE k_a0 k_21 h (fun M8 v0 v1 hm8 g0 h8 => hR M8 v0 v1 hm8 g0 h8) (fun M9 hm9 h9 => hX201 M9 hm9 h9) (fun M9 hm9 h9 => hX233 M9 hm9 h9)
  · have h := it_t h c_22
    refine r_iload C dX7_comesTo_73 (pc' := 75) rfl (j := 6) rfl ?_
    refine r_goto C dX7_comesTo_75 (tgt := 85) (by decide) ?_
    refine r_sub (lv' := [(0, .ref a0), (2, .int x2), (3, .int x3), (4, .int x4), (5, .int x5)]) [0, 1, 2, 3, 4] rfl ?_
    exact B_X7_comesTo_85 C hE k_a0 k_21 h (fun M8 v0 v1 hm8 g0 h8 => hR M8 v0 v1 hm8 g0 h8) (fun M9 hm9 h9 => hX201 M9 hm9 h9) (fun M9 hm9 h9 => hX233 M9 hm9 h9)
set_option maxHeartbeats 4000000 in
theorem B_X7_comesTo_155 {E : mE} {M : MM} {a0 : Nat} {x2 : Int32} {x3 : Int32} {x4 : Int32} {x5 : Int32} {x7 : Int32} {xs0 : Int32} {xs1 : Int32} {R : MM → Int32 → Int32 → Prop} {X201 : MM → Prop} {X233 : MM → Prop} {Post : Int32 → MM → Prop} (C : mC E yX7_comesTo cX7_comesTo 8 ((some .int)) { frames := 1, cells := 0, slots := 0, locals := 22 }) (hE : mEnd E { frames := 1, cells := 0, slots := 0, locals := 22 } (pI_ Post)) (k_a0 : mkd M a0 = 7) (h : wb_X7_comesTo_155 M a0 x2 x3 x4 x5 x7 xs0 xs1 R X201 X233) (hR : ∀ (M' : MM) (x3' : Int32) (x5' : Int32), mMo M M' → mkd M' a0 = 7 → R M' x3' x5' → mV E M' 0 0 16 [(0, .ref a0), (2, .int x2), (3, .int x3'), (4, .int x4), (5, .int x5')] []) (hX201 : ∀ (M' : MM), mMo M M' → X201 M' → mV E M' 0 0 201 [] []) (hX233 : ∀ (M' : MM), mMo M M' → X233 M' → mV E M' 0 0 233 [(0, .ref a0)] []) : mV E M 0 0 155 [(0, .ref a0), (2, .int x2), (3, .int x3), (4, .int x4), (5, .int x5), (7, .int x7)] [.int xs1, .int xs0] := by
  unfold wb_X7_comesTo_155 at h
  refine r_icmp_ne C dX7_comesTo_155 (pc' := 158) rfl (tgt := 168) (by decide) (fun c_40 => ?_) (fun c_40 => ?_)
  · have h := it_f h c_40
    refine r_iload_n C dX7_comesTo_168 (pc' := 169) rfl (j := 2) rfl ?_
    refine r_iconst C dX7_comesTo_169 (pc' := 170) rfl (v := 1) rfl ?_
    refine r_isub C dX7_comesTo_170 (pc' := 171) rfl ?_
    obtain ⟨x3_41, e_42, h⟩ := bn_ h
    refine r_istore_n C (lv' := [(3, .int x3_41), (0, .ref a0), (2, .int x2), (4, .int x4), (5, .int x5), (7, .int x7)]) dX7_comesTo_171 (pc' := 172) rfl rfl x3_41 e_42 (Nat.le_of_ble_eq_true rfl) rfl ?_
    refine r_goto C dX7_comesTo_172 (tgt := 230) (by decide) ?_
    refine r_goto C dX7_comesTo_230 (tgt := 16) (by decide) ?_
    refine r_sub (lv' := [(0, .ref a0), (2, .int x2), (3, .int x3_41), (4, .int x4), (5, .int x5)]) [1, 2, 0, 3, 4] rfl ?_
    exact hR M x3_41 x5 mMo.rf k_a0 h
  · have h := it_t h c_40
    refine r_iload C dX7_comesTo_158 (pc' := 160) rfl (j := 3) rfl ?_
    refine r_iload C dX7_comesTo_160 (pc' := 162) rfl (j := 5) rfl ?_
    refine r_iadd C dX7_comesTo_162 (pc' := 163) rfl ?_
    obtain ⟨x5_43, e_44, h⟩ := bn_ h
    refine r_istore C (lv' := [(5, .int x5_43), (0, .ref a0), (2, .int x2), (3, .int x3), (4, .int x4), (7, .int x7)]) dX7_comesTo_163 (pc' := 165) rfl x5_43 e_44 (Nat.le_of_ble_eq_true rfl) rfl ?_
    refine r_goto C dX7_comesTo_165 (tgt := 230) (by decide) ?_
    refine r_goto C dX7_comesTo_230 (tgt := 16) (by decide) ?_
    refine r_sub (lv' := [(0, .ref a0), (2, .int x2), (3, .int x3), (4, .int x4), (5, .int x5_43)]) [1, 2, 3, 4, 0] rfl ?_
    exact hR M x3 x5_43 mMo.rf k_a0 h
set_option maxHeartbeats 4000000 in
theorem B_X7_comesTo_135 {E : mE} {M : MM} {a0 : Nat} {x2 : Int32} {x3 : Int32} {x4 : Int32} {x5 : Int32} {x6 : Int32} {x7 : Int32} {R : MM → Int32 → Int32 → Prop} {X201 : MM → Prop} {X233 : MM → Prop} {Post : Int32 → MM → Prop} (C : mC E yX7_comesTo cX7_comesTo 8 ((some .int)) { frames := 1, cells := 0, slots := 0, locals := 22 }) (hE : mEnd E { frames := 1, cells := 0, slots := 0, locals := 22 } (pI_ Post)) (k_a0 : mkd M a0 = 7) (h : wb_X7_comesTo_135 M a0 x2 x3 x4 x5 x6 x7 R X201 X233) (hR : ∀ (M' : MM) (x3' : Int32) (x5' : Int32), mMo M M' → mkd M' a0 = 7 → R M' x3' x5' → mV E M' 0 0 16 [(0, .ref a0), (2, .int x2), (3, .int x3'), (4, .int x4), (5, .int x5')] []) (hX201 : ∀ (M' : MM), mMo M M' → X201 M' → mV E M' 0 0 201 [] []) (hX233 : ∀ (M' : MM), mMo M M' → X233 M' → mV E M' 0 0 233 [(0, .ref a0)] []) : mV E M 0 0 135 [(0, .ref a0), (2, .int x2), (3, .int x3), (4, .int x4), (5, .int x5), (6, .int x6), (7, .int x7)] [] := by
  unfold wb_X7_comesTo_135 at h
  refine r_aload_n C dX7_comesTo_135 (pc' := 136) rfl (j := 0) rfl ?_
  refine r_getf C (Cn := RX7) (T := TX7) 25 k_a0 (by decide) vc_X7 in_X7 (by decide) q1249 dX7_comesTo_136 (pc' := 139) rfl (v := va_rf (mgR M a0 25)) rfl ?_
  obtain ⟨b_35, e_36, k_37, h⟩ := h
  refine r_ref [] e_36 ?_
  refine r_iload_n C dX7_comesTo_139 (pc' := 140) rfl (j := 2) rfl ?_
  refine r_iconst C dX7_comesTo_140 (pc' := 141) rfl (v := 1) rfl ?_
  refine r_isub C dX7_comesTo_141 (pc' := 142) rfl ?_
  obtain ⟨c_38, h⟩ := h
  refine r_iald C (j := (ix_ (x3 - (1 : Int32)))) k_37 c_38 rfl dX7_comesTo_142 (pc' := 143) rfl ?_
  refine r_iload C dX7_comesTo_143 (pc' := 145) rfl (j := 5) rfl ?_
  refine r_bipush C dX7_comesTo_145 (pc' := 147) rfl (v := 12) rfl ?_
  refine r_icmp_ne C dX7_comesTo_147 (pc' := 150) rfl (tgt := 154) (by decide) (fun c_39 => ?_) (fun c_39 => ?_)
  · have h := it_f h c_39
    refine r_iconst C dX7_comesTo_154 (pc' := 155) rfl (v := 0) rfl ?_
    refine r_sub (lv' := [(0, .ref a0), (2, .int x2), (3, .int x3), (4, .int x4), (5, .int x5), (7, .int x7)]) [0, 1, 2, 3, 4, 6] rfl ?_
    exact B_X7_comesTo_155 C hE k_a0 h (fun M8 v0 v1 hm8 g0 h8 => hR M8 v0 v1 hm8 g0 h8) (fun M9 hm9 h9 => hX201 M9 hm9 h9) (fun M9 hm9 h9 => hX233 M9 hm9 h9)
  · have h := it_t h c_39
    refine r_iconst C dX7_comesTo_150 (pc' := 151) rfl (v := 1) rfl ?_
    refine r_goto C dX7_comesTo_151 (tgt := 155) (by decide) ?_
    refine r_sub (lv' := [(0, .ref a0), (2, .int x2), (3, .int x3), (4, .int x4), (5, .int x5), (7, .int x7)]) [0, 1, 2, 3, 4, 6] rfl ?_
    exact B_X7_comesTo_155 C hE k_a0 h (fun M8 v0 v1 hm8 g0 h8 => hR M8 v0 v1 hm8 g0 h8) (fun M9 hm9 h9 => hX201 M9 hm9 h9) (fun M9 hm9 h9 => hX233 M9 hm9 h9)
set_option maxHeartbeats 4000000 in
theorem B_X7_comesTo_203 {E : mE} {M : MM} {a0 : Nat} {x2 : Int32} {x3 : Int32} {x4 : Int32} {x5 : Int32} {x6 : Int32} {R : MM → Int32 → Int32 → Prop} {X201 : MM → Prop} {X233 : MM → Prop} {Post : Int32 → MM → Prop} (C : mC E yX7_comesTo cX7_comesTo 8 ((some .int)) { frames := 1, cells := 0, slots := 0, locals := 22 }) (hE : mEnd E { frames := 1, cells := 0, slots := 0, locals := 22 } (pI_ Post)) (k_a0 : mkd M a0 = 7) (h : wb_X7_comesTo_203 M a0 x2 x3 x4 x5 x6 R X201 X233) (hR : ∀ (M' : MM) (x3' : Int32) (x5' : Int32), mMo M M' → mkd M' a0 = 7 → R M' x3' x5' → mV E M' 0 0 16 [(0, .ref a0), (2, .int x2), (3, .int x3'), (4, .int x4), (5, .int x5')] []) (hX201 : ∀ (M' : MM), mMo M M' → X201 M' → mV E M' 0 0 201 [] []) (hX233 : ∀ (M' : MM), mMo M M' → X233 M' → mV E M' 0 0 233 [(0, .ref a0)] []) : mV E M 0 0 203 [(0, .ref a0), (2, .int x2), (3, .int x3), (4, .int x4), (5, .int x5), (6, .int x6)] [] := by
  unfold wb_X7_comesTo_203 at h
  refine r_aload_n C dX7_comesTo_203 (pc' := 204) rfl (j := 0) rfl ?_
  refine r_getf C (Cn := RX7) (T := TX7) 25 k_a0 (by decide) vc_X7 in_X7 (by decide) q1249 dX7_comesTo_204 (pc' := 207) rfl (v := va_rf (mgR M a0 25)) rfl ?_
  obtain ⟨b_54, e_55, k_56, h⟩ := h
  refine r_ref [] e_55 ?_
  refine r_iload_n C dX7_comesTo_207 (pc' := 208) rfl (j := 2) rfl ?_
  refine r_iconst C dX7_comesTo_208 (pc' := 209) rfl (v := 1) rfl ?_
  refine r_isub C dX7_comesTo_209 (pc' := 210) rfl ?_
  refine r_iload C dX7_comesTo_210 (pc' := 212) rfl (j := 5) rfl ?_
  refine r_aload_n C dX7_comesTo_212 (pc' := 213) rfl (j := 0) rfl ?_
  refine r_getf C (Cn := RX7) (T := TX7) 25 k_a0 (by decide) vc_X7 in_X7 (by decide) q1249 dX7_comesTo_213 (pc' := 216) rfl (v := va_rf (mgR M a0 25)) rfl ?_
  obtain ⟨b_57, e_58, k_59, h⟩ := h
  refine r_ref [] e_58 ?_
  refine r_iload_n C dX7_comesTo_216 (pc' := 217) rfl (j := 2) rfl ?_
  refine r_iconst C dX7_comesTo_217 (pc' := 218) rfl (v := 1) rfl ?_
  refine r_isub C dX7_comesTo_218 (pc' := 219) rfl ?_
  obtain ⟨c_60, h⟩ := h
  refine r_iald C (j := (ix_ (x3 - (1 : Int32)))) k_59 c_60 rfl dX7_comesTo_219 (pc' := 220) rfl ?_
  refine r_aload_n C dX7_comesTo_220 (pc' := 221) rfl (j := 0) rfl ?_
  refine r_getf C (Cn := RX7) (T := TX7) 25 k_a0 (by decide) vc_X7 in_X7 (by decide) q1249 dX7_comesTo_221 (pc' := 224) rfl (v := va_rf (mgR M a0 25)) rfl ?_
  obtain ⟨b_61, e_62, k_63, h⟩ := h
  refine r_ref [] e_62 ?_
  refine r_iload_n C dX7_comesTo_224 (pc' := 225) rfl (j := 2) rfl ?_
  obtain ⟨c_64, h⟩ := h
  refine r_iald C (j := (ix_ x3)) k_63 c_64 rfl dX7_comesTo_225 (pc' := 226) rfl ?_
  refine r_callSi (As := [.int x6, .int (mgI M b_57 (ix_ (x3 - (1 : Int32)))), .int (mgI M b_61 (ix_ x3))]) (rest := [.int (x3 - (1 : Int32)), .ref b_54]) C (S_X7_reckon h) (lw_S q1553 q1554 q112 q1555) hd_X7_reckon rfl rfl (Nat.le_of_ble_eq_true rfl) (Nat.le_of_ble_eq_true rfl) (Nat.le_of_ble_eq_true rfl) rfl rfl (Nat.le_of_ble_eq_true rfl) (Nat.le_of_ble_eq_true rfl) dX7_comesTo_226 (pc' := 229) rfl (fun r_66 M_65 h m_67 => ?_)
  obtain ⟨c_68, h⟩ := h
  obtain ⟨M_69, e_70, h⟩ := bn_ h
  refine r_iast C (j := (ix_ (x3 - (1 : Int32)))) (mMo.kd m_67 k_56 (by decide)) c_68 rfl dX7_comesTo_229 (pc' := 230) rfl M_69 e_70 ?_
  refine r_goto C dX7_comesTo_230 (tgt := 16) (by decide) ?_
  refine r_sub (lv' := [(0, .ref a0), (2, .int x2), (3, .int x3), (4, .int x4), (5, .int x5)]) [0, 1, 2, 3, 4] rfl ?_
  exact hR M_69 x3 x5 (mMo.tr m_67 (mo_I e_70)) (mMo.kd (mo_I e_70) (mMo.kd m_67 k_a0 (by decide)) (by decide)) h
set_option maxHeartbeats 4000000 in
theorem B_X7_comesTo_192 {E : mE} {M : MM} {a0 : Nat} {x2 : Int32} {x3 : Int32} {x4 : Int32} {x5 : Int32} {x6 : Int32} {R : MM → Int32 → Int32 → Prop} {X201 : MM → Prop} {X233 : MM → Prop} {Post : Int32 → MM → Prop} (C : mC E yX7_comesTo cX7_comesTo 8 ((some .int)) { frames := 1, cells := 0, slots := 0, locals := 22 }) (hE : mEnd E { frames := 1, cells := 0, slots := 0, locals := 22 } (pI_ Post)) (k_a0 : mkd M a0 = 7) (h : wb_X7_comesTo_192 M a0 x2 x3 x4 x5 x6 R X201 X233) (hR : ∀ (M' : MM) (x3' : Int32) (x5' : Int32), mMo M M' → mkd M' a0 = 7 → R M' x3' x5' → mV E M' 0 0 16 [(0, .ref a0), (2, .int x2), (3, .int x3'), (4, .int x4), (5, .int x5')] []) (hX201 : ∀ (M' : MM), mMo M M' → X201 M' → mV E M' 0 0 201 [] []) (hX233 : ∀ (M' : MM), mMo M M' → X233 M' → mV E M' 0 0 233 [(0, .ref a0)] []) : mV E M 0 0 192 [(0, .ref a0), (2, .int x2), (3, .int x3), (4, .int x4), (5, .int x5), (6, .int x6)] [] := by
  unfold wb_X7_comesTo_192 at h
  refine r_aload_n C dX7_comesTo_192 (pc' := 193) rfl (j := 0) rfl ?_
  refine r_getf C (Cn := RX7) (T := TX7) 25 k_a0 (by decide) vc_X7 in_X7 (by decide) q1249 dX7_comesTo_193 (pc' := 196) rfl (v := va_rf (mgR M a0 25)) rfl ?_
  obtain ⟨b_49, e_50, k_51, h⟩ := h
  refine r_ref [] e_50 ?_
  refine r_iload_n C dX7_comesTo_196 (pc' := 197) rfl (j := 2) rfl ?_
  obtain ⟨c_52, h⟩ := h
  refine r_iald C (j := (ix_ x3)) k_51 c_52 rfl dX7_comesTo_197 (pc' := 198) rfl ?_
  refine r_if_ne C dX7_comesTo_198 (pc' := 201) rfl (tgt := 203) (by decide) (fun c_53 => ?_) (fun c_53 => ?_)
  · have h := it_f h c_53
    refine r_sub (lv' := [(0, .ref a0), (2, .int x2), (3, .int x3), (4, .int x4), (5, .int x5), (6, .int x6)]) [0, 1, 2, 3, 4, 5] rfl ?_
    exact B_X7_comesTo_203 C hE k_a0 h (fun M8 v0 v1 hm8 g0 h8 => hR M8 v0 v1 hm8 g0 h8) (fun M9 hm9 h9 => hX201 M9 hm9 h9) (fun M9 hm9 h9 => hX233 M9 hm9 h9)
  · have h := it_t h c_53
    refine r_sub (lv' := []) [] rfl ?_
    exact hX201 M mMo.rf h
set_option maxHeartbeats 4000000 in
theorem B_X7_comesTo_16 {E : mE} {a0 : Nat} {x2 : Int32} {x4 : Int32} {X201 : MM → Prop} {X233 : MM → Prop} {Post : Int32 → MM → Prop} (C : mC E yX7_comesTo cX7_comesTo 8 ((some .int)) { frames := 1, cells := 0, slots := 0, locals := 22 }) (hE : mEnd E { frames := 1, cells := 0, slots := 0, locals := 22 } (pI_ Post)) : ∀ (n_ : Nat) (M : MM) (x3 : Int32) (x5 : Int32), mkd M a0 = 7 → wl_X7_comesTo_16 a0 x2 x4 X201 X233 n_ M x3 x5 → (∀ (M' : MM), mMo M M' → X201 M' → mV E M' 0 0 201 [] []) → (∀ (M' : MM), mMo M M' → X233 M' → mV E M' 0 0 233 [(0, .ref a0)] []) → mV E M 0 0 16 [(0, .ref a0), (2, .int x2), (3, .int x3), (4, .int x4), (5, .int x5)] [] := by
  intro n_
  induction n_ with
  | zero =>
    intro M x3 x5 k_a0 h hX201 hX233
    exact absurd h (by rw [wl_X7_comesTo_16]; exact fun q => q)
  | succ n_ ih =>
    intro M x3 x5 k_a0 h hX201 hX233
    rw [wl_X7_comesTo_16] at h
    refine r_iload C dX7_comesTo_16 (pc' := 18) rfl (j := 4) rfl ?_
    refine r_iload_n C dX7_comesTo_18 (pc' := 19) rfl (j := 1) rfl ?_
    refine r_icmp_ge C dX7_comesTo_19 (pc' := 22) rfl (tgt := 233) (by decide) (fun c_3 => ?_) (fun c_3 => ?_)
    · have h := it_t h c_3
      refine r_sub (lv' := [(0, .ref a0)]) [0] rfl ?_
      exact hX233 M mMo.rf h
    · have h := it_f h c_3
      refine r_aload_n C dX7_comesTo_22 (pc' := 23) rfl (j := 0) rfl ?_
      refine r_getf C (Cn := RX7) (T := TX7) 19 k_a0 (by decide) vc_X7 in_X7 (by decide) q1243 dX7_comesTo_23 (pc' := 26) rfl (v := va_rf (mgR M a0 19)) rfl ?_
      obtain ⟨b_4, e_5, k_6, h⟩ := h
      refine r_ref [] e_5 ?_
      refine r_iload C dX7_comesTo_26 (pc' := 28) rfl (j := 4) rfl ?_
      obtain ⟨c_7, h⟩ := h
      refine r_iald C (j := (ix_ x5)) k_6 c_7 rfl dX7_comesTo_28 (pc' := 29) rfl ?_
      refine r_ldc C dX7_comesTo_29 (pc' := 31) rfl q1463 ?_
      refine r_idiv C dX7_comesTo_31 (pc' := 32) rfl (by decide) ?_
      obtain ⟨x6_8, e_9, h⟩ := bn_ h
      refine r_istore C (lv' := [(6, .int x6_8), (0, .ref a0), (2, .int x2), (3, .int x3), (4, .int x4), (5, .int x5)]) dX7_comesTo_32 (pc' := 34) rfl x6_8 e_9 (Nat.le_of_ble_eq_true rfl) rfl ?_
      refine r_aload_n C dX7_comesTo_34 (pc' := 35) rfl (j := 1) rfl ?_
      refine r_getf C (Cn := RX7) (T := TX7) 19 k_a0 (by decide) vc_X7 in_X7 (by decide) q1243 dX7_comesTo_35 (pc' := 38) rfl (v := va_rf (mgR M a0 19)) rfl ?_
      obtain ⟨b_10, e_11, k_12, h⟩ := h
      refine r_ref [] e_11 ?_
      refine r_iload C dX7_comesTo_38 (pc' := 40) rfl (j := 5) rfl ?_
      obtain ⟨c_13, h⟩ := h
      refine r_iald C (j := (ix_ x5)) k_12 c_13 rfl dX7_comesTo_40 (pc' := 41) rfl ?_
      refine r_ldc C dX7_comesTo_41 (pc' := 43) rfl q1463 ?_
      refine r_irem C dX7_comesTo_43 (pc' := 44) rfl (by decide) ?_
      obtain ⟨x7_14, e_15, h⟩ := bn_ h
      refine r_istore C (lv' := [(7, .int x7_14), (6, .int x6_8), (0, .ref a0), (2, .int x2), (3, .int x3), (4, .int x4), (5, .int x5)]) dX7_comesTo_44 (pc' := 46) rfl x7_14 e_15 (Nat.le_of_ble_eq_true rfl) rfl ?_
      refine r_iload C dX7_comesTo_46 (pc' := 48) rfl (j := 6) rfl ?_
      refine r_iconst C dX7_comesTo_48 (pc' := 49) rfl (v := 1) rfl ?_
      refine r_iadd C dX7_comesTo_49 (pc' := 50) rfl ?_
      obtain ⟨x5_16, e_17, h⟩ := bn_ h
      refine r_istore C (lv' := [(5, .int x5_16), (7, .int x7_14), (6, .int x6_8), (0, .ref a0), (2, .int x2), (3, .int x3), (4, .int x4)]) dX7_comesTo_50 (pc' := 52) rfl x5_16 e_17 (Nat.le_of_ble_eq_true rfl) rfl ?_
      refine r_iload C dX7_comesTo_52 (pc' := 54) rfl (j := 2) rfl ?_
      refine r_if_eq C dX7_comesTo_54 (pc' := 57) rfl (tgt := 63) (by decide) (fun c_18 => ?_) (fun c_18 => ?_)
      · have h := it_t h c_18
        refine r_sub (lv' := [(0, .ref a0), (2, .int x2), (3, .int x3), (4, .int x4), (5, .int x5_16), (6, .int x6_8), (7, .int x7_14)]) [3, 4, 5, 6, 0, 2, 1] rfl ?_
        exact B_X7_comesTo_63 C hE k_a0 h (fun M8 v0 v1 hm8 g0 h8 => ih M8 v0 v1 g0 h8 (fun M9 hm9 h9 => hX201 M9 (mMo.tr hm8 hm9) h9) (fun M9 hm9 h9 => hX233 M9 (mMo.tr hm8 hm9) h9)) (fun M9 hm9 h9 => hX201 M9 hm9 h9) (fun M9 hm9 h9 => hX233 M9 hm9 h9)
      · have h := it_f h c_18
        refine r_iload C dX7_comesTo_57 (pc' := 59) rfl (j := 2) rfl ?_
        refine r_iconst C dX7_comesTo_59 (pc' := 60) rfl (v := 1) rfl ?_
        refine r_icmp_ne C dX7_comesTo_60 (pc' := 63) rfl (tgt := 93) (by decide) (fun c_32 => ?_) (fun c_32 => ?_)
        · have h := it_f h c_32
          refine r_iload C dX7_comesTo_93 (pc' := 95) rfl (j := 2) rfl ?_
          refine r_bipush C dX7_comesTo_95 (pc' := 97) rfl (v := 10) rfl ?_
          refine r_icmp_ne C dX7_comesTo_97 (pc' := 100) rfl (tgt := 121) (by decide) (fun c_33 => ?_) (fun c_33 => ?_)
          · have h := it_f h c_33
            refine r_iload C dX7_comesTo_121 (pc' := 123) rfl (j := 2) rfl ?_
            refine r_bipush C dX7_comesTo_123 (pc' := 125) rfl (v := 11) rfl ?_
            refine r_icmp_eq C dX7_comesTo_125 (pc' := 128) rfl (tgt := 135) (by decide) (fun c_34 => ?_) (fun c_34 => ?_)
            · have h := it_t h c_34
              refine r_sub (lv' := [(0, .ref a0), (2, .int x2), (3, .int x3), (4, .int x4), (5, .int x5_16), (6, .int x6_8), (7, .int x7_14)]) [3, 4, 5, 6, 0, 2, 1] rfl ?_
              exact B_X7_comesTo_135 C hE k_a0 h (fun M8 v0 v1 hm8 g0 h8 => ih M8 v0 v1 g0 h8 (fun M9 hm9 h9 => hX201 M9 (mMo.tr hm8 hm9) h9) (fun M9 hm9 h9 => hX233 M9 (mMo.tr hm8 hm9) h9)) (fun M9 hm9 h9 => hX201 M9 hm9 h9) (fun M9 hm9 h9 => hX233 M9 hm9 h9)
            · have h := it_f h c_34
              refine r_iload C dX7_comesTo_128 (pc' := 130) rfl (j := 2) rfl ?_
              refine r_bipush C dX7_comesTo_130 (pc' := 132) rfl (v := 12) rfl ?_
              refine r_icmp_ne C dX7_comesTo_132 (pc' := 135) rfl (tgt := 175) (by decide) (fun c_45 => ?_) (fun c_45 => ?_)
              · have h := it_f h c_45
                refine r_iload_n C dX7_comesTo_175 (pc' := 176) rfl (j := 5) rfl ?_
                refine r_iconst C dX7_comesTo_176 (pc' := 177) rfl (v := 1) rfl ?_
                refine r_isub C dX7_comesTo_177 (pc' := 178) rfl ?_
                obtain ⟨x3_46, e_47, h⟩ := bn_ h
                refine r_istore_n C (lv' := [(3, .int x3_46), (5, .int x5_16), (7, .int x7_14), (6, .int x6_8), (0, .ref a0), (2, .int x2), (4, .int x4)]) dX7_comesTo_178 (pc' := 179) rfl rfl x3_46 e_47 (Nat.le_of_ble_eq_true rfl) rfl ?_
                refine r_iload C dX7_comesTo_179 (pc' := 181) rfl (j := 3) rfl ?_
                refine r_iconst C dX7_comesTo_181 (pc' := 182) rfl (v := 5) rfl ?_
                refine r_icmp_eq C dX7_comesTo_182 (pc' := 185) rfl (tgt := 192) (by decide) (fun c_48 => ?_) (fun c_48 => ?_)
                · have h := it_t h c_48
                  refine r_sub (lv' := [(0, .ref a0), (2, .int x2), (3, .int x3_46), (4, .int x4), (5, .int x5_16), (6, .int x6_8)]) [4, 5, 0, 6, 1, 3] rfl ?_
                  exact B_X7_comesTo_192 C hE k_a0 h (fun M8 v0 v1 hm8 g0 h8 => ih M8 v0 v1 g0 h8 (fun M9 hm9 h9 => hX201 M9 (mMo.tr hm8 hm9) h9) (fun M9 hm9 h9 => hX233 M9 (mMo.tr hm8 hm9) h9)) (fun M9 hm9 h9 => hX201 M9 hm9 h9) (fun M9 hm9 h9 => hX233 M9 hm9 h9)
                · have h := it_f h c_48
                  refine r_iload C dX7_comesTo_185 (pc' := 187) rfl (j := 3) rfl ?_
                  refine r_bipush C dX7_comesTo_187 (pc' := 189) rfl (v := 6) rfl ?_
                  refine r_icmp_ne C dX7_comesTo_189 (pc' := 192) rfl (tgt := 203) (by decide) (fun c_71 => ?_) (fun c_71 => ?_)
                  · have h := it_f h c_71
                    refine r_sub (lv' := [(0, .ref a0), (2, .int x2), (3, .int x3_46), (4, .int x4), (5, .int x5_16), (6, .int x6_8)]) [4, 5, 0, 6, 1, 3] rfl ?_
                    exact B_X7_comesTo_203 C hE k_a0 h (fun M8 v0 v1 hm8 g0 h8 => ih M8 v0 v1 g0 h8 (fun M9 hm9 h9 => hX201 M9 (mMo.tr hm8 hm9) h9) (fun M9 hm9 h9 => hX233 M9 (mMo.tr hm8 hm9) h9)) (fun M9 hm9 h9 => hX201 M9 hm9 h9) (fun M9 hm9 h9 => hX233 M9 hm9 h9)
                  · have h := it_t h c_71
                    refine r_sub (lv' := [(0, .ref a0), (2, .int x2), (3, .int x3_46), (4, .int x4), (5, .int x5_16), (6, .int x6_8)]) [4, 5, 0, 6, 1, 3] rfl ?_
                    exact B_X7_comesTo_192 C hE k_a0 h (fun M8 v0 v1 hm8 g0 h8 => ih M8 v0 v1 g0 h8 (fun M9 hm9 h9 => hX201 M9 (mMo.tr hm8 hm9) h9) (fun M9 hm9 h9 => hX233 M9 (mMo.tr hm8 hm9) h9)) (fun M9 hm9 h9 => hX201 M9 hm9 h9) (fun M9 hm9 h9 => hX233 M9 hm9 h9)
              · have h := it_t h c_45
                refine r_sub (lv' := [(0, .ref a0), (2, .int x2), (3, .int x3), (4, .int x4), (5, .int x5_16), (6, .int x6_8), (7, .int x7_14)]) [3, 4, 5, 6, 0, 2, 1] rfl ?_
                exact B_X7_comesTo_135 C hE k_a0 h (fun M8 v0 v1 hm8 g0 h8 => ih M8 v0 v1 g0 h8 (fun M9 hm9 h9 => hX201 M9 (mMo.tr hm8 hm9) h9) (fun M9 hm9 h9 => hX233 M9 (mMo.tr hm8 hm9) h9)) (fun M9 hm9 h9 => hX201 M9 hm9 h9) (fun M9 hm9 h9 => hX233 M9 hm9 h9)
          · have h := it_t h c_33
            refine r_aload_n C dX7_comesTo_100 (pc' := 101) rfl (j := 3) rfl ?_
            refine r_getf C (Cn := RX7) (T := TX7) 25 k_a0 (by decide) vc_X7 in_X7 (by decide) q1249 dX7_comesTo_101 (pc' := 104) rfl (v := va_rf (mgR M a0 25)) rfl ?_
            obtain ⟨b_72, e_73, k_74, h⟩ := h
            refine r_ref [] e_73 ?_
            refine r_iload_n C dX7_comesTo_104 (pc' := 105) rfl (j := 5) rfl ?_
            refine r_iconst C dX7_comesTo_105 (pc' := 106) rfl (v := 1) rfl ?_
            refine r_isub C dX7_comesTo_106 (pc' := 107) rfl ?_
            refine r_iconst C dX7_comesTo_107 (pc' := 108) rfl (v := 1) rfl ?_
            refine r_aload_n C dX7_comesTo_108 (pc' := 109) rfl (j := 3) rfl ?_
            refine r_getf C (Cn := RX7) (T := TX7) 25 k_a0 (by decide) vc_X7 in_X7 (by decide) q1249 dX7_comesTo_109 (pc' := 112) rfl (v := va_rf (mgR M a0 25)) rfl ?_
            obtain ⟨b_75, e_76, k_77, h⟩ := h
            refine r_ref [] e_76 ?_
            refine r_iload_n C dX7_comesTo_112 (pc' := 113) rfl (j := 5) rfl ?_
            refine r_iconst C dX7_comesTo_113 (pc' := 114) rfl (v := 1) rfl ?_
            refine r_isub C dX7_comesTo_114 (pc' := 115) rfl ?_
            obtain ⟨c_78, h⟩ := h
            refine r_iald C (j := (ix_ (x3 - (1 : Int32)))) k_77 c_78 rfl dX7_comesTo_115 (pc' := 116) rfl ?_
            refine r_isub C dX7_comesTo_116 (pc' := 117) rfl ?_
            obtain ⟨c_79, h⟩ := h
            obtain ⟨M_80, e_81, h⟩ := bn_ h
            refine r_iast C (j := (ix_ (x3 - (1 : Int32)))) k_74 c_79 rfl dX7_comesTo_117 (pc' := 118) rfl M_80 e_81 ?_
            refine r_goto C dX7_comesTo_118 (tgt := 230) (by decide) ?_
            refine r_goto C dX7_comesTo_230 (tgt := 16) (by decide) ?_
            refine r_sub (lv' := [(0, .ref a0), (2, .int x2), (3, .int x3), (4, .int x4), (5, .int x5_16)]) [3, 4, 5, 6, 0] rfl ?_
            exact ih M_80 x3 x5_16 (mMo.kd (mo_I e_81) k_a0 (by decide)) h (fun M9 hm9 h9 => hX201 M9 (mMo.tr (mo_I e_81) hm9) h9) (fun M9 hm9 h9 => hX233 M9 (mMo.tr (mo_I e_81) hm9) h9)
        · have h := it_t h c_32
          refine r_sub (lv' := [(0, .ref a0), (2, .int x2), (3, .int x3), (4, .int x4), (5, .int x5_16), (6, .int x6_8), (7, .int x7_14)]) [3, 4, 5, 6, 0, 2, 1] rfl ?_
          exact B_X7_comesTo_63 C hE k_a0 h (fun M8 v0 v1 hm8 g0 h8 => ih M8 v0 v1 g0 h8 (fun M9 hm9 h9 => hX201 M9 (mMo.tr hm8 hm9) h9) (fun M9 hm9 h9 => hX233 M9 (mMo.tr hm8 hm9) h9)) (fun M9 hm9 h9 => hX201 M9 hm9 h9) (fun M9 hm9 h9 => hX233 M9 hm9 h9)
set_option maxHeartbeats 4000000 in
theorem S_X7_comesTo {D : DD} {l : Launch} {M : MM} {a0 : Nat} {x1 : Int32} {x2 : Int32} {Post : Int32 → MM → Prop} (k_a0 : mkd M a0 = 7) (h : wp_X7_comesTo M a0 x1 x2 Post) : mMet D l yX7_comesTo cX7_comesTo 8 ((some .int)) { frames := 1, cells := 0, slots := 0, locals := 22 } M [.ref a0, .int x1, .int x2] (pI_ Post) := by
  refine m_of2 [(0, .ref a0), (1, .int x1), (2, .int x2)] (by decide +kernel) (Nat.le_of_ble_eq_true rfl) rfl (fun E hED hEl C hE => ?_)
  subst hED
  subst hEl
  unfold wp_X7_comesTo at h
  refine r_iconst C dX7_comesTo_0 (pc' := 1) rfl (v := 0) rfl ?_
  refine r_istore_n C (lv' := [(3, .int (0 : Int32)), (0, .ref a0), (1, .int x1), (2, .int x2)]) dX7_comesTo_1 (pc' := 2) rfl rfl (0 : Int32) rfl (Nat.le_of_ble_eq_true rfl) rfl ?_
  refine r_sipush C dX7_comesTo_2 (pc' := 5) rfl (v := 220) rfl ?_
  refine r_iload_n C dX7_comesTo_5 (pc' := 6) rfl (j := 2) rfl ?_
  refine r_sipush C dX7_comesTo_6 (pc' := 9) rfl (v := 220) rfl ?_
  refine r_idiv C dX7_comesTo_9 (pc' := 10) rfl (by decide) ?_
  refine r_imul C dX7_comesTo_10 (pc' := 11) rfl ?_
  obtain ⟨x4_1, e_2, h⟩ := bn_ h
  refine r_istore C (lv' := [(4, .int x4_1), (3, .int (0 : Int32)), (0, .ref a0), (1, .int x1), (2, .int x2)]) dX7_comesTo_11 (pc' := 13) rfl x4_1 e_2 (Nat.le_of_ble_eq_true rfl) rfl ?_
  refine r_iload_n C dX7_comesTo_13 (pc' := 14) rfl (j := 3) rfl ?_
  refine r_istore C (lv' := [(5, .int x1), (4, .int x4_1), (3, .int (0 : Int32)), (0, .ref a0), (1, .int x1), (2, .int x2)]) dX7_comesTo_14 (pc' := 16) rfl x1 rfl (Nat.le_of_ble_eq_true rfl) rfl ?_
  obtain ⟨n_82, h⟩ := h
  refine r_sub (lv' := [(0, .ref a0), (2, .int x2), (3, .int (0 : Int32)), (4, .int x4_1), (5, .int x1)]) [3, 5, 2, 1, 0] rfl ?_
  refine B_X7_comesTo_16 C hE n_82 M (0 : Int32) x1 k_a0 h (fun M_83 m_84 h => ?_) (fun M_85 m_86 h => ?_)
  · refine r_iconst C dX7_comesTo_201 (pc' := 202) rfl (v := 0) rfl ?_
    exact r_iret C hE (Nat.le_of_ble_eq_true rfl) (Nat.le_of_ble_eq_true rfl) dX7_comesTo_202 ⟨_, rfl, h⟩
  · refine r_aload_n C dX7_comesTo_233 (pc' := 234) rfl (j := 0) rfl ?_
    refine r_getf C (Cn := RX7) (T := TX7) 25 (mMo.kd m_86 k_a0 (by decide)) (by decide) vc_X7 in_X7 (by decide) q1249 dX7_comesTo_234 (pc' := 237) rfl (v := va_rf (mgR M_85 a0 25)) rfl ?_
    obtain ⟨b_87, e_88, k_89, h⟩ := h
    refine r_ref [] e_88 ?_
    refine r_iconst C dX7_comesTo_237 (pc' := 238) rfl (v := 0) rfl ?_
    obtain ⟨c_90, h⟩ := h
    refine r_iald C (j := 0) k_89 (vp_l (by decide) (by decide) c_90) (by decide) dX7_comesTo_238 (pc' := 239) rfl ?_
    exact r_iret C hE (Nat.le_of_ble_eq_true rfl) (Nat.le_of_ble_eq_true rfl) dX7_comesTo_239 ⟨_, rfl, h⟩
set_option maxHeartbeats 4000000 in
theorem B_X7_byText_6 {E : mE} {a0 : Nat} {x1 : Int32} {x2 : Int32} {x3 : Int32} {X58 : MM → Int32 → Prop} {X106 : MM → Prop} {Post : Int32 → MM → Prop} (C : mC E yX7_byText cX7_byText 6 ((some .int)) { frames := 2, cells := 0, slots := 0, locals := 49 }) (hE : mEnd E { frames := 2, cells := 0, slots := 0, locals := 49 } (pI_ Post)) : ∀ (n_ : Nat) (M : MM) (x4 : Int32), mkd M a0 = 7 → wl_X7_byText_6 a0 x1 x2 x3 X58 X106 n_ M x4 → (∀ (M' : MM) (x4' : Int32), mMo M M' → X58 M' x4' → mV E M' 0 0 58 [(0, .ref a0), (3, .int x3), (4, .int x4')] []) → (∀ (M' : MM), mMo M M' → X106 M' → mV E M' 0 0 106 [] []) → mV E M 0 0 6 [(0, .ref a0), (1, .int x1), (2, .int x2), (3, .int x3), (4, .int x4)] [] := by
  intro n_
  induction n_ with
  | zero =>
    intro M x4 k_a0 h hX58 hX106
    exact absurd h (by rw [wl_X7_byText_6]; exact fun q => q)
  | succ n_ ih =>
    intro M x4 k_a0 h hX58 hX106
    rw [wl_X7_byText_6] at h
    refine r_iload C dX7_byText_6 (pc' := 8) rfl (j := 4) rfl ?_
    refine r_bipush C dX7_byText_8 (pc' := 10) rfl (v := 14) rfl ?_
    refine r_iload_n C dX7_byText_10 (pc' := 11) rfl (j := 1) rfl ?_
    refine r_imul C dX7_byText_11 (pc' := 12) rfl ?_
    refine r_aload_n C dX7_byText_12 (pc' := 13) rfl (j := 0) rfl ?_
    refine r_getf C (Cn := RX7) (T := TX7) 20 k_a0 (by decide) vc_X7 in_X7 (by decide) q1244 dX7_byText_13 (pc' := 16) rfl (v := va_rf (mgR M a0 20)) rfl ?_
    obtain ⟨b_3, e_4, k_5, h⟩ := h
    refine r_ref [] e_4 ?_
    refine r_iload_n C dX7_byText_16 (pc' := 17) rfl (j := 1) rfl ?_
    obtain ⟨c_6, h⟩ := h
    refine r_iald C (j := (ix_ x1)) k_5 c_6 rfl dX7_byText_17 (pc' := 18) rfl ?_
    refine r_iadd C dX7_byText_18 (pc' := 19) rfl ?_
    refine r_icmp_ge C dX7_byText_19 (pc' := 22) rfl (tgt := 106) (by decide) (fun c_7 => ?_) (fun c_7 => ?_)
    · have h := it_t h c_7
      refine r_sub (lv' := []) [] rfl ?_
      exact hX106 M mMo.rf h
    · have h := it_f h c_7
      refine r_aload_n C dX7_byText_22 (pc' := 23) rfl (j := 0) rfl ?_
      refine r_getf C (Cn := RX7) (T := TX7) 21 k_a0 (by decide) vc_X7 in_X7 (by decide) q1245 dX7_byText_23 (pc' := 26) rfl (v := va_rf (mgR M a0 21)) rfl ?_
      obtain ⟨b_8, e_9, k_10, h⟩ := h
      refine r_ref [] e_9 ?_
      refine r_iload C dX7_byText_26 (pc' := 28) rfl (j := 4) rfl ?_
      obtain ⟨c_11, h⟩ := h
      refine r_iald C (j := (ix_ x4)) k_10 c_11 rfl dX7_byText_28 (pc' := 29) rfl ?_
      refine r_iload_n C dX7_byText_29 (pc' := 30) rfl (j := 2) rfl ?_
      refine r_icmp_ne C dX7_byText_30 (pc' := 33) rfl (tgt := 100) (by decide) (fun c_12 => ?_) (fun c_12 => ?_)
      · have h := it_f h c_12
        obtain ⟨x4_13, e_14, h⟩ := bn_ h
        refine r_iinc C (lv' := [(4, .int x4_13), (0, .ref a0), (1, .int x1), (2, .int x2), (3, .int x3)]) dX7_byText_100 (pc' := 103) rfl (j := 4) rfl x4_13 (by rw [e_14]; rfl) (Nat.le_of_ble_eq_true rfl) rfl ?_
        refine r_goto C dX7_byText_103 (tgt := 6) (by decide) ?_
        refine r_sub (lv' := [(0, .ref a0), (1, .int x1), (2, .int x2), (3, .int x3), (4, .int x4_13)]) [1, 2, 3, 4, 0] rfl ?_
        exact ih M x4_13 k_a0 h (fun M9 w0 hm9 h9 => hX58 M9 w0 hm9 h9) (fun M9 hm9 h9 => hX106 M9 hm9 h9)
      · have h := it_t h c_12
        refine r_aload_n C dX7_byText_33 (pc' := 34) rfl (j := 0) rfl ?_
        refine r_aload_n C dX7_byText_34 (pc' := 35) rfl (j := 0) rfl ?_
        refine r_getf C (Cn := RX7) (T := TX7) 23 k_a0 (by decide) vc_X7 in_X7 (by decide) q1247 dX7_byText_35 (pc' := 38) rfl (v := va_rf (mgR M a0 23)) rfl ?_
        obtain ⟨b_15, e_16, k_17, h⟩ := h
        refine r_ref [] e_16 ?_
        refine r_iload C dX7_byText_38 (pc' := 40) rfl (j := 4) rfl ?_
        obtain ⟨c_18, h⟩ := h
        refine r_iald C (j := (ix_ x4)) k_17 c_18 rfl dX7_byText_40 (pc' := 41) rfl ?_
        refine r_aload_n C dX7_byText_41 (pc' := 42) rfl (j := 0) rfl ?_
        refine r_getf C (Cn := RX7) (T := TX7) 24 k_a0 (by decide) vc_X7 in_X7 (by decide) q1248 dX7_byText_42 (pc' := 45) rfl (v := va_rf (mgR M a0 24)) rfl ?_
        obtain ⟨b_19, e_20, k_21, h⟩ := h
        refine r_ref [] e_20 ?_
        refine r_iload C dX7_byText_45 (pc' := 47) rfl (j := 4) rfl ?_
        obtain ⟨c_22, h⟩ := h
        refine r_iald C (j := (ix_ x4)) k_21 c_22 rfl dX7_byText_47 (pc' := 48) rfl ?_
        refine r_callVi (As := [.int (mgI M b_15 (ix_ x4)), .int (mgI M b_19 (ix_ x4))]) (rest := []) (Cn := RX7) (T := TX7) C k_a0 (by decide) vc_X7 (S_X7_comesTo k_a0 h) (lw_V q1549 q1551 qs78 q112 q1552) rfl hd_X7_comesTo rfl rfl (Nat.le_of_ble_eq_true rfl) (Nat.le_of_ble_eq_true rfl) (Nat.le_of_ble_eq_true rfl) rfl rfl (Nat.le_of_ble_eq_true rfl) (Nat.le_of_ble_eq_true rfl) dX7_byText_48 (pc' := 51) rfl (fun r_24 M_23 h m_25 => ?_)
        refine r_iconst C dX7_byText_51 (pc' := 52) rfl (v := 1) rfl ?_
        refine r_icmp_eq C dX7_byText_52 (pc' := 55) rfl (tgt := 58) (by decide) (fun c_26 => ?_) (fun c_26 => ?_)
        · have h := it_t h c_26
          refine r_sub (lv' := [(0, .ref a0), (3, .int x3), (4, .int x4)]) [0, 3, 4] rfl ?_
          exact hX58 M_23 x4 m_25 h
        · have h := it_f h c_26
          refine r_goto C dX7_byText_55 (tgt := 100) (by decide) ?_
          obtain ⟨x4_27, e_28, h⟩ := bn_ h
          refine r_iinc C (lv' := [(4, .int x4_27), (0, .ref a0), (1, .int x1), (2, .int x2), (3, .int x3)]) dX7_byText_100 (pc' := 103) rfl (j := 4) rfl x4_27 (by rw [e_28]; rfl) (Nat.le_of_ble_eq_true rfl) rfl ?_
          refine r_goto C dX7_byText_103 (tgt := 6) (by decide) ?_
          refine r_sub (lv' := [(0, .ref a0), (1, .int x1), (2, .int x2), (3, .int x3), (4, .int x4_27)]) [1, 2, 3, 4, 0] rfl ?_
          exact ih M_23 x4_27 (mMo.kd m_25 k_a0 (by decide)) h (fun M9 w0 hm9 h9 => hX58 M9 w0 (mMo.tr m_25 hm9) h9) (fun M9 hm9 h9 => hX106 M9 (mMo.tr m_25 hm9) h9)
set_option maxHeartbeats 4000000 in
theorem S_X7_byText {D : DD} {l : Launch} {M : MM} {a0 : Nat} {x1 : Int32} {x2 : Int32} {x3 : Int32} {Post : Int32 → MM → Prop} (k_a0 : mkd M a0 = 7) (h : wp_X7_byText M a0 x1 x2 x3 Post) : mMet D l yX7_byText cX7_byText 6 ((some .int)) { frames := 2, cells := 0, slots := 0, locals := 49 } M [.ref a0, .int x1, .int x2, .int x3] (pI_ Post) := by
  refine m_of2 [(0, .ref a0), (1, .int x1), (2, .int x2), (3, .int x3)] (by decide +kernel) (Nat.le_of_ble_eq_true rfl) rfl (fun E hED hEl C hE => ?_)
  subst hED
  subst hEl
  unfold wp_X7_byText at h
  refine r_bipush C dX7_byText_0 (pc' := 2) rfl (v := 14) rfl ?_
  refine r_iload_n C dX7_byText_2 (pc' := 3) rfl (j := 1) rfl ?_
  refine r_imul C dX7_byText_3 (pc' := 4) rfl ?_
  obtain ⟨x4_1, e_2, h⟩ := bn_ h
  refine r_istore C (lv' := [(4, .int x4_1), (0, .ref a0), (1, .int x1), (2, .int x2), (3, .int x3)]) dX7_byText_4 (pc' := 6) rfl x4_1 e_2 (Nat.le_of_ble_eq_true rfl) rfl ?_
  obtain ⟨n_29, h⟩ := h
  refine r_sub (lv' := [(0, .ref a0), (1, .int x1), (2, .int x2), (3, .int x3), (4, .int x4_1)]) [1, 2, 3, 4, 0] rfl ?_
  refine B_X7_byText_6 C hE n_29 M x4_1 k_a0 h (fun M_30 x4_32 m_31 h => ?_) (fun M_46 m_47 h => ?_)
  · refine r_aload_n C dX7_byText_58 (pc' := 59) rfl (j := 0) rfl ?_
    refine r_aload_n C dX7_byText_59 (pc' := 60) rfl (j := 0) rfl ?_
    refine r_getf C (Cn := RX7) (T := TX7) 22 (mMo.kd m_31 k_a0 (by decide)) (by decide) vc_X7 in_X7 (by decide) q1246 dX7_byText_60 (pc' := 63) rfl (v := va_rf (mgR M_30 a0 22)) rfl ?_
    obtain ⟨b_33, e_34, k_35, h⟩ := h
    refine r_ref [] e_34 ?_
    refine r_iload C dX7_byText_63 (pc' := 65) rfl (j := 2) rfl ?_
    obtain ⟨c_36, h⟩ := h
    refine r_iald C (j := (ix_ x4_32)) k_35 c_36 rfl dX7_byText_65 (pc' := 66) rfl ?_
    refine r_aload_n C dX7_byText_66 (pc' := 67) rfl (j := 0) rfl ?_
    refine r_getf C (Cn := RX7) (T := TX7) 23 (mMo.kd m_31 k_a0 (by decide)) (by decide) vc_X7 in_X7 (by decide) q1247 dX7_byText_67 (pc' := 70) rfl (v := va_rf (mgR M_30 a0 23)) rfl ?_
    obtain ⟨b_37, e_38, k_39, h⟩ := h
    refine r_ref [] e_38 ?_
    refine r_iload C dX7_byText_70 (pc' := 72) rfl (j := 2) rfl ?_
    obtain ⟨c_40, h⟩ := h
    refine r_iald C (j := (ix_ x4_32)) k_39 c_40 rfl dX7_byText_72 (pc' := 73) rfl ?_
    refine r_callVi (As := [.int (mgI M_30 b_33 (ix_ x4_32)), .int (mgI M_30 b_37 (ix_ x4_32))]) (rest := []) (Cn := RX7) (T := TX7) C (mMo.kd m_31 k_a0 (by decide)) (by decide) vc_X7 (S_X7_comesTo (mMo.kd m_31 k_a0 (by decide)) h) (lw_V q1549 q1551 qs78 q112 q1552) rfl hd_X7_comesTo rfl rfl (Nat.le_of_ble_eq_true rfl) (Nat.le_of_ble_eq_true rfl) (Nat.le_of_ble_eq_true rfl) rfl rfl (Nat.le_of_ble_eq_true rfl) (Nat.le_of_ble_eq_true rfl) dX7_byText_73 (pc' := 76) rfl (fun r_42 M_41 h m_43 => ?_)
    refine r_istore C (lv' := [(5, .int r_42), (0, .ref a0), (3, .int x3), (4, .int x4_32)]) dX7_byText_76 (pc' := 78) rfl r_42 rfl (Nat.le_of_ble_eq_true rfl) rfl ?_
    refine r_iload C dX7_byText_78 (pc' := 80) rfl (j := 0) rfl ?_
    refine r_if_ge C dX7_byText_80 (pc' := 83) rfl (tgt := 87) (by decide) (fun c_44 => ?_) (fun c_44 => ?_)
    · have h := it_t h c_44
      refine r_iload C dX7_byText_87 (pc' := 89) rfl (j := 0) rfl ?_
      refine r_iload_n C dX7_byText_89 (pc' := 90) rfl (j := 2) rfl ?_
      refine r_icmp_le C dX7_byText_90 (pc' := 93) rfl (tgt := 97) (by decide) (fun c_45 => ?_) (fun c_45 => ?_)
      · have h := it_t h c_45
        refine r_iload C dX7_byText_97 (pc' := 99) rfl (j := 0) rfl ?_
        exact r_iret C hE (Nat.le_of_ble_eq_true rfl) (Nat.le_of_ble_eq_true rfl) dX7_byText_99 ⟨_, rfl, h⟩
      · have h := it_f h c_45
        refine r_iload_n C dX7_byText_93 (pc' := 94) rfl (j := 2) rfl ?_
        refine r_goto C dX7_byText_94 (tgt := 99) (by decide) ?_
        exact r_iret C hE (Nat.le_of_ble_eq_true rfl) (Nat.le_of_ble_eq_true rfl) dX7_byText_99 ⟨_, rfl, h⟩
    · have h := it_f h c_44
      refine r_iconst C dX7_byText_83 (pc' := 84) rfl (v := 0) rfl ?_
      refine r_goto C dX7_byText_84 (tgt := 99) (by decide) ?_
      exact r_iret C hE (Nat.le_of_ble_eq_true rfl) (Nat.le_of_ble_eq_true rfl) dX7_byText_99 ⟨_, rfl, h⟩
  · refine r_iconst C dX7_byText_106 (pc' := 107) rfl (v := 0) rfl ?_
    exact r_iret C hE (Nat.le_of_ble_eq_true rfl) (Nat.le_of_ble_eq_true rfl) dX7_byText_107 ⟨_, rfl, h⟩
set_option maxHeartbeats 4000000 in
theorem B_X7_bits_4 {E : mE} {x0 : Int32} {X24 : MM → Int32 → Prop} {Post : Int32 → MM → Prop} (C : mC E yX7_bits cX7_bits 3 ((some .int)) { frames := 0, cells := 0, slots := 0, locals := 0 }) (hE : mEnd E { frames := 0, cells := 0, slots := 0, locals := 0 } (pI_ Post)) : ∀ (n_ : Nat) (M : MM) (x1 : Int32) (x2 : Int32), wl_X7_bits_4 x0 X24 n_ M x1 x2 → (∀ (M' : MM) (x1' : Int32), mMo M M' → X24 M' x1' → mV E M' 0 0 24 [(1, .int x1')] []) → mV E M 0 0 4 [(0, .int x0), (1, .int x1), (2, .int x2)] [] := by
  intro n_
  induction n_ with
  | zero =>
    intro M x1 x2 h hX24
    exact absurd h (by rw [wl_X7_bits_4]; exact fun q => q)
  | succ n_ ih =>
    intro M x1 x2 h hX24
    rw [wl_X7_bits_4] at h
    refine r_iload_n C dX7_bits_4 (pc' := 5) rfl (j := 2) rfl ?_
    refine r_bipush C dX7_bits_5 (pc' := 7) rfl (v := 8) rfl ?_
    refine r_icmp_ge C dX7_bits_7 (pc' := 10) rfl (tgt := 24) (by decide) (fun c_1 => ?_) (fun c_1 => ?_)
    · have h := it_t h c_1
      refine r_sub (lv' := [(1, .int x1)]) [1] rfl ?_
      exact hX24 M x1 mMo.rf h
    · have h := it_f h c_1
      refine r_iload_n C dX7_bits_10 (pc' := 11) rfl (j := 1) rfl ?_
      refine r_iload_n C dX7_bits_11 (pc' := 12) rfl (j := 0) rfl ?_
      refine r_iload_n C dX7_bits_12 (pc' := 13) rfl (j := 2) rfl ?_
      refine r_ishr C dX7_bits_13 (pc' := 14) rfl ?_
      refine r_iconst C dX7_bits_14 (pc' := 15) rfl (v := 1) rfl ?_
      refine r_iand C dX7_bits_15 (pc' := 16) rfl ?_
      refine r_iadd C dX7_bits_16 (pc' := 17) rfl ?_
      obtain ⟨x1_2, e_3, h⟩ := bn_ h
      refine r_istore_n C (lv' := [(1, .int x1_2), (0, .int x0), (2, .int x2)]) dX7_bits_17 (pc' := 18) rfl rfl x1_2 e_3 (Nat.le_of_ble_eq_true rfl) rfl ?_
      obtain ⟨x2_4, e_5, h⟩ := bn_ h
      refine r_iinc C (lv' := [(2, .int x2_4), (1, .int x1_2), (0, .int x0)]) dX7_bits_18 (pc' := 21) rfl (j := 2) rfl x2_4 (by rw [e_5]; rfl) (Nat.le_of_ble_eq_true rfl) rfl ?_
      refine r_goto C dX7_bits_21 (tgt := 4) (by decide) ?_
      refine r_sub (lv' := [(0, .int x0), (1, .int x1_2), (2, .int x2_4)]) [2, 1, 0] rfl ?_
      exact ih M x1_2 x2_4 h (fun M9 w0 hm9 h9 => hX24 M9 w0 hm9 h9)
set_option maxHeartbeats 4000000 in
theorem S_X7_bits {D : DD} {l : Launch} {M : MM} {x0 : Int32} {Post : Int32 → MM → Prop} (h : wp_X7_bits M x0 Post) : mMet D l yX7_bits cX7_bits 3 ((some .int)) { frames := 0, cells := 0, slots := 0, locals := 0 } M [.int x0] (pI_ Post) := by
  refine m_of2 [(0, .int x0)] (by decide +kernel) (Nat.le_of_ble_eq_true rfl) rfl (fun E hED hEl C hE => ?_)
  subst hED
  subst hEl
  unfold wp_X7_bits at h
  refine r_iconst C dX7_bits_0 (pc' := 1) rfl (v := 0) rfl ?_
  refine r_istore_n C (lv' := [(1, .int (0 : Int32)), (0, .int x0)]) dX7_bits_1 (pc' := 2) rfl rfl (0 : Int32) rfl (Nat.le_of_ble_eq_true rfl) rfl ?_
  refine r_iconst C dX7_bits_2 (pc' := 3) rfl (v := 0) rfl ?_
  refine r_istore_n C (lv' := [(2, .int (0 : Int32)), (1, .int (0 : Int32)), (0, .int x0)]) dX7_bits_3 (pc' := 4) rfl rfl (0 : Int32) rfl (Nat.le_of_ble_eq_true rfl) rfl ?_
  obtain ⟨n_6, h⟩ := h
  refine r_sub (lv' := [(0, .int x0), (1, .int (0 : Int32)), (2, .int (0 : Int32))]) [2, 1, 0] rfl ?_
  refine B_X7_bits_4 C hE n_6 M (0 : Int32) (0 : Int32) h (fun M_7 x1_9 m_8 h => ?_)
  refine r_iload_n C dX7_bits_24 (pc' := 25) rfl (j := 0) rfl ?_
  exact r_iret C hE (Nat.le_of_ble_eq_true rfl) (Nat.le_of_ble_eq_true rfl) dX7_bits_25 ⟨_, rfl, h⟩
set_option maxHeartbeats 4000000 in
theorem B_X7_feels_2 {E : mE} {a0 : Nat} {X21 : MM → Prop} {Post : MM → Prop} (C : mC E yX7_feels cX7_feels 2 (none) { frames := 1, cells := 0, slots := 0, locals := 22 }) (hE : mEnd E { frames := 1, cells := 0, slots := 0, locals := 22 } (pV_ Post)) : ∀ (n_ : Nat) (M : MM) (x1 : Int32), mkd M a0 = 7 → wl_X7_feels_2 a0 X21 n_ M x1 → (∀ (M' : MM), mMo M M' → X21 M' → mV E M' 0 0 21 [(0, .ref a0)] []) → mV E M 0 0 2 [(0, .ref a0), (1, .int x1)] [] := by
  intro n_
  induction n_ with
  | zero =>
    intro M x1 k_a0 h hX21
    exact absurd h (by rw [wl_X7_feels_2]; exact fun q => q)
  | succ n_ ih =>
    intro M x1 k_a0 h hX21
    rw [wl_X7_feels_2] at h
    refine r_iload_n C dX7_feels_2 (pc' := 3) rfl (j := 1) rfl ?_
    refine r_bipush C dX7_feels_3 (pc' := 5) rfl (v := 13) rfl ?_
    refine r_icmp_ge C dX7_feels_5 (pc' := 8) rfl (tgt := 21) (by decide) (fun c_1 => ?_) (fun c_1 => ?_)
    · have h := it_t h c_1
      refine r_sub (lv' := [(0, .ref a0)]) [0] rfl ?_
      exact hX21 M mMo.rf h
    · have h := it_f h c_1
      refine r_aload_n C dX7_feels_8 (pc' := 9) rfl (j := 0) rfl ?_
      refine r_getf C (Cn := RX7) (T := TX7) 26 k_a0 (by decide) vc_X7 in_X7 (by decide) q1250 dX7_feels_9 (pc' := 12) rfl (v := va_rf (mgR M a0 26)) rfl ?_
      obtain ⟨b_2, e_3, k_4, h⟩ := h
      refine r_ref [] e_3 ?_
      refine r_iload_n C dX7_feels_12 (pc' := 13) rfl (j := 1) rfl ?_
      refine r_iconst C dX7_feels_13 (pc' := 14) rfl (v := 0) rfl ?_
      obtain ⟨c_5, h⟩ := h
      obtain ⟨M_6, e_7, h⟩ := bn_ h
      refine r_iast C (j := (ix_ x1)) k_4 c_5 rfl dX7_feels_14 (pc' := 15) rfl M_6 e_7 ?_
      obtain ⟨x1_8, e_9, h⟩ := bn_ h
      refine r_iinc C (lv' := [(1, .int x1_8), (0, .ref a0)]) dX7_feels_15 (pc' := 18) rfl (j := 1) rfl x1_8 (by rw [e_9]; rfl) (Nat.le_of_ble_eq_true rfl) rfl ?_
      refine r_goto C dX7_feels_18 (tgt := 2) (by decide) ?_
      refine r_sub (lv' := [(0, .ref a0), (1, .int x1_8)]) [1, 0] rfl ?_
      exact ih M_6 x1_8 (mMo.kd (mo_I e_7) k_a0 (by decide)) h (fun M9 hm9 h9 => hX21 M9 (mMo.tr (mo_I e_7) hm9) h9)
set_option maxHeartbeats 4000000 in
theorem S_X7_feels {D : DD} {l : Launch} {M : MM} {a0 : Nat} {Post : MM → Prop} (k_a0 : mkd M a0 = 7) (h : wp_X7_feels M a0 Post) : mMet D l yX7_feels cX7_feels 2 (none) { frames := 1, cells := 0, slots := 0, locals := 22 } M [.ref a0] (pV_ Post) := by
  refine m_of2 [(0, .ref a0)] (by decide +kernel) (Nat.le_of_ble_eq_true rfl) rfl (fun E hED hEl C hE => ?_)
  subst hED
  subst hEl
  unfold wp_X7_feels at h
  refine r_iconst C dX7_feels_0 (pc' := 1) rfl (v := 0) rfl ?_
  refine r_istore_n C (lv' := [(1, .int (0 : Int32)), (0, .ref a0)]) dX7_feels_1 (pc' := 2) rfl rfl (0 : Int32) rfl (Nat.le_of_ble_eq_true rfl) rfl ?_
  obtain ⟨n_10, h⟩ := h
  refine r_sub (lv' := [(0, .ref a0), (1, .int (0 : Int32))]) [1, 0] rfl ?_
  refine B_X7_feels_2 C hE n_10 M (0 : Int32) k_a0 h (fun M_11 m_12 h => ?_)
  refine r_aload_n C dX7_feels_21 (pc' := 22) rfl (j := 0) rfl ?_
  refine r_getf C (Cn := RX7) (T := TX7) 26 (mMo.kd m_12 k_a0 (by decide)) (by decide) vc_X7 in_X7 (by decide) q1250 dX7_feels_22 (pc' := 25) rfl (v := va_rf (mgR M_11 a0 26)) rfl ?_
  obtain ⟨b_13, e_14, k_15, h⟩ := h
  refine r_ref [] e_14 ?_
  refine r_iconst C dX7_feels_25 (pc' := 26) rfl (v := 0) rfl ?_
  refine r_aload_n C dX7_feels_26 (pc' := 27) rfl (j := 0) rfl ?_
  refine r_getf C (Cn := RX7) (T := TX7) 0 (mMo.kd m_12 k_a0 (by decide)) (by decide) vc_X7 in_X7 (by decide) q1224 dX7_feels_27 (pc' := 30) rfl (v := va_rf (mgR M_11 a0 0)) rfl ?_
  obtain ⟨b_16, e_17, k_18, h⟩ := h
  refine r_ref [] e_17 ?_
  refine r_bipush C dX7_feels_30 (pc' := 32) rfl (v := 79) rfl ?_
  obtain ⟨c_19, h⟩ := h
  refine r_iald C (j := 79) k_18 (vp_l (by decide) (by decide) c_19) (by decide) dX7_feels_32 (pc' := 33) rfl ?_
  obtain ⟨c_20, h⟩ := h
  obtain ⟨M_21, e_22, h⟩ := bn_ h
  refine r_iast C (j := 0) k_15 (vp_l (by decide) (by decide) c_20) (by decide) dX7_feels_33 (pc' := 34) rfl M_21 e_22 ?_
  refine r_aload_n C dX7_feels_34 (pc' := 35) rfl (j := 0) rfl ?_
  refine r_getf C (Cn := RX7) (T := TX7) 26 (mMo.kd (mo_I e_22) (mMo.kd m_12 k_a0 (by decide)) (by decide)) (by decide) vc_X7 in_X7 (by decide) q1250 dX7_feels_35 (pc' := 38) rfl (v := va_rf (mgR M_21 a0 26)) rfl ?_
  obtain ⟨b_23, e_24, k_25, h⟩ := h
  refine r_ref [] e_24 ?_
  refine r_iconst C dX7_feels_38 (pc' := 39) rfl (v := 1) rfl ?_
  refine r_aload_n C dX7_feels_39 (pc' := 40) rfl (j := 0) rfl ?_
  refine r_getf C (Cn := RX7) (T := TX7) 0 (mMo.kd (mo_I e_22) (mMo.kd m_12 k_a0 (by decide)) (by decide)) (by decide) vc_X7 in_X7 (by decide) q1224 dX7_feels_40 (pc' := 43) rfl (v := va_rf (mgR M_21 a0 0)) rfl ?_
  obtain ⟨b_26, e_27, k_28, h⟩ := h
  refine r_ref [] e_27 ?_
  refine r_bipush C dX7_feels_43 (pc' := 45) rfl (v := 79) rfl ?_
  obtain ⟨c_29, h⟩ := h
  refine r_iald C (j := 79) k_28 (vp_l (by decide) (by decide) c_29) (by decide) dX7_feels_45 (pc' := 46) rfl ?_
  refine r_bipush C dX7_feels_46 (pc' := 48) rfl (v := 7) rfl ?_
  refine r_irem C dX7_feels_48 (pc' := 49) rfl (by decide) ?_
  obtain ⟨c_30, h⟩ := h
  obtain ⟨M_31, e_32, h⟩ := bn_ h
  refine r_iast C (j := 1) k_25 (vp_l (by decide) (by decide) c_30) (by decide) dX7_feels_49 (pc' := 50) rfl M_31 e_32 ?_
  refine r_aload_n C dX7_feels_50 (pc' := 51) rfl (j := 0) rfl ?_
  refine r_getf C (Cn := RX7) (T := TX7) 26 (mMo.kd (mo_I e_32) (mMo.kd (mo_I e_22) (mMo.kd m_12 k_a0 (by decide)) (by decide)) (by decide)) (by decide) vc_X7 in_X7 (by decide) q1250 dX7_feels_51 (pc' := 54) rfl (v := va_rf (mgR M_31 a0 26)) rfl ?_
  obtain ⟨b_33, e_34, k_35, h⟩ := h
  refine r_ref [] e_34 ?_
  refine r_bipush C dX7_feels_54 (pc' := 56) rfl (v := 10) rfl ?_
  refine r_aload_n C dX7_feels_56 (pc' := 57) rfl (j := 0) rfl ?_
  refine r_getf C (Cn := RX7) (T := TX7) 0 (mMo.kd (mo_I e_32) (mMo.kd (mo_I e_22) (mMo.kd m_12 k_a0 (by decide)) (by decide)) (by decide)) (by decide) vc_X7 in_X7 (by decide) q1224 dX7_feels_57 (pc' := 60) rfl (v := va_rf (mgR M_31 a0 0)) rfl ?_
  obtain ⟨b_36, e_37, k_38, h⟩ := h
  refine r_ref [] e_37 ?_
  refine r_bipush C dX7_feels_60 (pc' := 62) rfl (v := 78) rfl ?_
  obtain ⟨c_39, h⟩ := h
  refine r_iald C (j := 78) k_38 (vp_l (by decide) (by decide) c_39) (by decide) dX7_feels_62 (pc' := 63) rfl ?_
  refine r_callSi (As := [.int (mgI M_31 b_36 78)]) (rest := [.int (10 : Int32), .ref b_33]) C (S_X7_bits h) (lw_S q1542 q1543 q112 q1544) hd_X7_bits rfl rfl (Nat.le_of_ble_eq_true rfl) (Nat.le_of_ble_eq_true rfl) (Nat.le_of_ble_eq_true rfl) rfl rfl (Nat.le_of_ble_eq_true rfl) (Nat.le_of_ble_eq_true rfl) dX7_feels_63 (pc' := 66) rfl (fun r_41 M_40 h m_42 => ?_)
  obtain ⟨c_43, h⟩ := h
  obtain ⟨M_44, e_45, h⟩ := bn_ h
  refine r_iast C (j := 10) (mMo.kd m_42 k_35 (by decide)) (vp_l (by decide) (by decide) c_43) (by decide) dX7_feels_66 (pc' := 67) rfl M_44 e_45 ?_
  exact r_vret C hE (Nat.le_of_ble_eq_true rfl) (Nat.le_of_ble_eq_true rfl) dX7_feels_67 ⟨rfl, h⟩
set_option maxHeartbeats 4000000 in
theorem B_X7_feelsPlant_132 {E : mE} {M : MM} {as0 : Nat} {xs1 : Int32} {xs2 : Int32} {Post : MM → Prop} (C : mC E yX7_feelsPlant cX7_feelsPlant 2 (none) { frames := 2, cells := 0, slots := 0, locals := 43 }) (hE : mEnd E { frames := 2, cells := 0, slots := 0, locals := 43 } (pV_ Post)) (k_as0 : mkd M as0 = 100) (h : wb_X7_feelsPlant_132 M as0 xs1 xs2 Post) : mV E M 0 0 132 [] [.int xs2, .int xs1, .ref as0] := by
  unfold wb_X7_feelsPlant_132 at h
  obtain ⟨c_76, h⟩ := h
  obtain ⟨M_77, e_78, h⟩ := bn_ h
  refine r_iast C (j := (ix_ xs1)) k_as0 c_76 rfl dX7_feelsPlant_132 (pc' := 133) rfl M_77 e_78 ?_
  exact r_vret C hE (Nat.le_of_ble_eq_true rfl) (Nat.le_of_ble_eq_true rfl) dX7_feelsPlant_133 ⟨rfl, h⟩
set_option maxHeartbeats 4000000 in
theorem S_X7_feelsPlant {D : DD} {l : Launch} {M : MM} {a0 : Nat} {x1 : Int32} {Post : MM → Prop} (k_a0 : mkd M a0 = 7) (h : wp_X7_feelsPlant M a0 x1 Post) : mMet D l yX7_feelsPlant cX7_feelsPlant 2 (none) { frames := 2, cells := 0, slots := 0, locals := 43 } M [.ref a0, .int x1] (pV_ Post) := by
  refine m_of2 [(0, .ref a0), (1, .int x1)] (by decide +kernel) (Nat.le_of_ble_eq_true rfl) rfl (fun E hED hEl C hE => ?_)
  subst hED
  subst hEl
  unfold wp_X7_feelsPlant at h
  refine r_aload_n C dX7_feelsPlant_0 (pc' := 1) rfl (j := 0) rfl ?_
  refine r_callVv (As := []) (rest := []) (Cn := RX7) (T := TX7) C k_a0 (by decide) vc_X7 (S_X7_feels k_a0 h) (lw_V q1538 q1540 qs76 q112 q1541) rfl hd_X7_feels rfl rfl (Nat.le_of_ble_eq_true rfl) (Nat.le_of_ble_eq_true rfl) (Nat.le_of_ble_eq_true rfl) rfl rfl (Nat.le_of_ble_eq_true rfl) (Nat.le_of_ble_eq_true rfl) dX7_feelsPlant_1 (pc' := 4) rfl (fun M_1 h m_3 => ?_)
  refine r_aload_n C dX7_feelsPlant_4 (pc' := 5) rfl (j := 0) rfl ?_
  refine r_getf C (Cn := RX7) (T := TX7) 26 (mMo.kd m_3 k_a0 (by decide)) (by decide) vc_X7 in_X7 (by decide) q1250 dX7_feelsPlant_5 (pc' := 8) rfl (v := va_rf (mgR M_1 a0 26)) rfl ?_
  obtain ⟨b_4, e_5, k_6, h⟩ := h
  refine r_ref [] e_5 ?_
  refine r_iconst C dX7_feelsPlant_8 (pc' := 9) rfl (v := 2) rfl ?_
  refine r_iload_n C dX7_feelsPlant_9 (pc' := 10) rfl (j := 1) rfl ?_
  obtain ⟨c_7, h⟩ := h
  obtain ⟨M_8, e_9, h⟩ := bn_ h
  refine r_iast C (j := 2) k_6 (vp_l (by decide) (by decide) c_7) (by decide) dX7_feelsPlant_10 (pc' := 11) rfl M_8 e_9 ?_
  refine r_aload_n C dX7_feelsPlant_11 (pc' := 12) rfl (j := 0) rfl ?_
  refine r_getf C (Cn := RX7) (T := TX7) 26 (mMo.kd (mo_I e_9) (mMo.kd m_3 k_a0 (by decide)) (by decide)) (by decide) vc_X7 in_X7 (by decide) q1250 dX7_feelsPlant_12 (pc' := 15) rfl (v := va_rf (mgR M_8 a0 26)) rfl ?_
  obtain ⟨b_10, e_11, k_12, h⟩ := h
  refine r_ref [] e_11 ?_
  refine r_iconst C dX7_feelsPlant_15 (pc' := 16) rfl (v := 3) rfl ?_
  refine r_aload_n C dX7_feelsPlant_16 (pc' := 17) rfl (j := 0) rfl ?_
  refine r_getf C (Cn := RX7) (T := TX7) 0 (mMo.kd (mo_I e_9) (mMo.kd m_3 k_a0 (by decide)) (by decide)) (by decide) vc_X7 in_X7 (by decide) q1224 dX7_feelsPlant_17 (pc' := 20) rfl (v := va_rf (mgR M_8 a0 0)) rfl ?_
  obtain ⟨b_13, e_14, k_15, h⟩ := h
  refine r_ref [] e_14 ?_
  refine r_iconst C dX7_feelsPlant_20 (pc' := 21) rfl (v := 0) rfl ?_
  refine r_iload_n C dX7_feelsPlant_21 (pc' := 22) rfl (j := 1) rfl ?_
  refine r_iadd C dX7_feelsPlant_22 (pc' := 23) rfl ?_
  obtain ⟨c_16, h⟩ := h
  refine r_iald C (j := (ix_ ((0 : Int32) + x1))) k_15 c_16 rfl dX7_feelsPlant_23 (pc' := 24) rfl ?_
  obtain ⟨c_17, h⟩ := h
  obtain ⟨M_18, e_19, h⟩ := bn_ h
  refine r_iast C (j := 3) k_12 (vp_l (by decide) (by decide) c_17) (by decide) dX7_feelsPlant_24 (pc' := 25) rfl M_18 e_19 ?_
  refine r_aload_n C dX7_feelsPlant_25 (pc' := 26) rfl (j := 0) rfl ?_
  refine r_getf C (Cn := RX7) (T := TX7) 26 (mMo.kd (mo_I e_19) (mMo.kd (mo_I e_9) (mMo.kd m_3 k_a0 (by decide)) (by decide)) (by decide)) (by decide) vc_X7 in_X7 (by decide) q1250 dX7_feelsPlant_26 (pc' := 29) rfl (v := va_rf (mgR M_18 a0 26)) rfl ?_
  obtain ⟨b_20, e_21, k_22, h⟩ := h
  refine r_ref [] e_21 ?_
  refine r_iconst C dX7_feelsPlant_29 (pc' := 30) rfl (v := 4) rfl ?_
  refine r_aload_n C dX7_feelsPlant_30 (pc' := 31) rfl (j := 0) rfl ?_
  refine r_getf C (Cn := RX7) (T := TX7) 0 (mMo.kd (mo_I e_19) (mMo.kd (mo_I e_9) (mMo.kd m_3 k_a0 (by decide)) (by decide)) (by decide)) (by decide) vc_X7 in_X7 (by decide) q1224 dX7_feelsPlant_31 (pc' := 34) rfl (v := va_rf (mgR M_18 a0 0)) rfl ?_
  obtain ⟨b_23, e_24, k_25, h⟩ := h
  refine r_ref [] e_24 ?_
  refine r_iconst C dX7_feelsPlant_34 (pc' := 35) rfl (v := 4) rfl ?_
  refine r_iload_n C dX7_feelsPlant_35 (pc' := 36) rfl (j := 1) rfl ?_
  refine r_iadd C dX7_feelsPlant_36 (pc' := 37) rfl ?_
  obtain ⟨c_26, h⟩ := h
  refine r_iald C (j := (ix_ ((4 : Int32) + x1))) k_25 c_26 rfl dX7_feelsPlant_37 (pc' := 38) rfl ?_
  obtain ⟨c_27, h⟩ := h
  obtain ⟨M_28, e_29, h⟩ := bn_ h
  refine r_iast C (j := 4) k_22 (vp_l (by decide) (by decide) c_27) (by decide) dX7_feelsPlant_38 (pc' := 39) rfl M_28 e_29 ?_
  refine r_aload_n C dX7_feelsPlant_39 (pc' := 40) rfl (j := 0) rfl ?_
  refine r_getf C (Cn := RX7) (T := TX7) 26 (mMo.kd (mo_I e_29) (mMo.kd (mo_I e_19) (mMo.kd (mo_I e_9) (mMo.kd m_3 k_a0 (by decide)) (by decide)) (by decide)) (by decide)) (by decide) vc_X7 in_X7 (by decide) q1250 dX7_feelsPlant_40 (pc' := 43) rfl (v := va_rf (mgR M_28 a0 26)) rfl ?_
  obtain ⟨b_30, e_31, k_32, h⟩ := h
  refine r_ref [] e_31 ?_
  refine r_iconst C dX7_feelsPlant_43 (pc' := 44) rfl (v := 5) rfl ?_
  refine r_aload_n C dX7_feelsPlant_44 (pc' := 45) rfl (j := 0) rfl ?_
  refine r_getf C (Cn := RX7) (T := TX7) 0 (mMo.kd (mo_I e_29) (mMo.kd (mo_I e_19) (mMo.kd (mo_I e_9) (mMo.kd m_3 k_a0 (by decide)) (by decide)) (by decide)) (by decide)) (by decide) vc_X7 in_X7 (by decide) q1224 dX7_feelsPlant_45 (pc' := 48) rfl (v := va_rf (mgR M_28 a0 0)) rfl ?_
  obtain ⟨b_33, e_34, k_35, h⟩ := h
  refine r_ref [] e_34 ?_
  refine r_bipush C dX7_feelsPlant_48 (pc' := 50) rfl (v := 24) rfl ?_
  refine r_bipush C dX7_feelsPlant_50 (pc' := 52) rfl (v := 7) rfl ?_
  refine r_iload_n C dX7_feelsPlant_52 (pc' := 53) rfl (j := 1) rfl ?_
  refine r_imul C dX7_feelsPlant_53 (pc' := 54) rfl ?_
  refine r_iadd C dX7_feelsPlant_54 (pc' := 55) rfl ?_
  refine r_bipush C dX7_feelsPlant_55 (pc' := 57) rfl (v := 6) rfl ?_
  refine r_iadd C dX7_feelsPlant_57 (pc' := 58) rfl ?_
  obtain ⟨c_36, h⟩ := h
  refine r_iald C (j := (ix_ (((24 : Int32) + ((7 : Int32) * x1)) + (6 : Int32)))) k_35 c_36 rfl dX7_feelsPlant_58 (pc' := 59) rfl ?_
  obtain ⟨c_37, h⟩ := h
  obtain ⟨M_38, e_39, h⟩ := bn_ h
  refine r_iast C (j := 5) k_32 (vp_l (by decide) (by decide) c_37) (by decide) dX7_feelsPlant_59 (pc' := 60) rfl M_38 e_39 ?_
  refine r_aload_n C dX7_feelsPlant_60 (pc' := 61) rfl (j := 0) rfl ?_
  refine r_getf C (Cn := RX7) (T := TX7) 26 (mMo.kd (mo_I e_39) (mMo.kd (mo_I e_29) (mMo.kd (mo_I e_19) (mMo.kd (mo_I e_9) (mMo.kd m_3 k_a0 (by decide)) (by decide)) (by decide)) (by decide)) (by decide)) (by decide) vc_X7 in_X7 (by decide) q1250 dX7_feelsPlant_61 (pc' := 64) rfl (v := va_rf (mgR M_38 a0 26)) rfl ?_
  obtain ⟨b_40, e_41, k_42, h⟩ := h
  refine r_ref [] e_41 ?_
  refine r_bipush C dX7_feelsPlant_64 (pc' := 66) rfl (v := 6) rfl ?_
  refine r_aload_n C dX7_feelsPlant_66 (pc' := 67) rfl (j := 0) rfl ?_
  refine r_getf C (Cn := RX7) (T := TX7) 0 (mMo.kd (mo_I e_39) (mMo.kd (mo_I e_29) (mMo.kd (mo_I e_19) (mMo.kd (mo_I e_9) (mMo.kd m_3 k_a0 (by decide)) (by decide)) (by decide)) (by decide)) (by decide)) (by decide) vc_X7 in_X7 (by decide) q1224 dX7_feelsPlant_67 (pc' := 70) rfl (v := va_rf (mgR M_38 a0 0)) rfl ?_
  obtain ⟨b_43, e_44, k_45, h⟩ := h
  refine r_ref [] e_44 ?_
  refine r_bipush C dX7_feelsPlant_70 (pc' := 72) rfl (v := 12) rfl ?_
  refine r_iload_n C dX7_feelsPlant_72 (pc' := 73) rfl (j := 1) rfl ?_
  refine r_iadd C dX7_feelsPlant_73 (pc' := 74) rfl ?_
  obtain ⟨c_46, h⟩ := h
  refine r_iald C (j := (ix_ ((12 : Int32) + x1))) k_45 c_46 rfl dX7_feelsPlant_74 (pc' := 75) rfl ?_
  obtain ⟨c_47, h⟩ := h
  obtain ⟨M_48, e_49, h⟩ := bn_ h
  refine r_iast C (j := 6) k_42 (vp_l (by decide) (by decide) c_47) (by decide) dX7_feelsPlant_75 (pc' := 76) rfl M_48 e_49 ?_
  refine r_aload_n C dX7_feelsPlant_76 (pc' := 77) rfl (j := 0) rfl ?_
  refine r_getf C (Cn := RX7) (T := TX7) 26 (mMo.kd (mo_I e_49) (mMo.kd (mo_I e_39) (mMo.kd (mo_I e_29) (mMo.kd (mo_I e_19) (mMo.kd (mo_I e_9) (mMo.kd m_3 k_a0 (by decide)) (by decide)) (by decide)) (by decide)) (by decide)) (by decide)) (by decide) vc_X7 in_X7 (by decide) q1250 dX7_feelsPlant_77 (pc' := 80) rfl (v := va_rf (mgR M_48 a0 26)) rfl ?_
  obtain ⟨b_50, e_51, k_52, h⟩ := h
  refine r_ref [] e_51 ?_
  refine r_bipush C dX7_feelsPlant_80 (pc' := 82) rfl (v := 7) rfl ?_
  refine r_aload_n C dX7_feelsPlant_82 (pc' := 83) rfl (j := 0) rfl ?_
  refine r_getf C (Cn := RX7) (T := TX7) 0 (mMo.kd (mo_I e_49) (mMo.kd (mo_I e_39) (mMo.kd (mo_I e_29) (mMo.kd (mo_I e_19) (mMo.kd (mo_I e_9) (mMo.kd m_3 k_a0 (by decide)) (by decide)) (by decide)) (by decide)) (by decide)) (by decide)) (by decide) vc_X7 in_X7 (by decide) q1224 dX7_feelsPlant_83 (pc' := 86) rfl (v := va_rf (mgR M_48 a0 0)) rfl ?_
  obtain ⟨b_53, e_54, k_55, h⟩ := h
  refine r_ref [] e_54 ?_
  refine r_bipush C dX7_feelsPlant_86 (pc' := 88) rfl (v := 16) rfl ?_
  refine r_iload_n C dX7_feelsPlant_88 (pc' := 89) rfl (j := 1) rfl ?_
  refine r_iadd C dX7_feelsPlant_89 (pc' := 90) rfl ?_
  obtain ⟨c_56, h⟩ := h
  refine r_iald C (j := (ix_ ((16 : Int32) + x1))) k_55 c_56 rfl dX7_feelsPlant_90 (pc' := 91) rfl ?_
  obtain ⟨c_57, h⟩ := h
  obtain ⟨M_58, e_59, h⟩ := bn_ h
  refine r_iast C (j := 7) k_52 (vp_l (by decide) (by decide) c_57) (by decide) dX7_feelsPlant_91 (pc' := 92) rfl M_58 e_59 ?_
  refine r_aload_n C dX7_feelsPlant_92 (pc' := 93) rfl (j := 0) rfl ?_
  refine r_getf C (Cn := RX7) (T := TX7) 26 (mMo.kd (mo_I e_59) (mMo.kd (mo_I e_49) (mMo.kd (mo_I e_39) (mMo.kd (mo_I e_29) (mMo.kd (mo_I e_19) (mMo.kd (mo_I e_9) (mMo.kd m_3 k_a0 (by decide)) (by decide)) (by decide)) (by decide)) (by decide)) (by decide)) (by decide)) (by decide) vc_X7 in_X7 (by decide) q1250 dX7_feelsPlant_93 (pc' := 96) rfl (v := va_rf (mgR M_58 a0 26)) rfl ?_
  obtain ⟨b_60, e_61, k_62, h⟩ := h
  refine r_ref [] e_61 ?_
  refine r_bipush C dX7_feelsPlant_96 (pc' := 98) rfl (v := 11) rfl ?_
  refine r_aload_n C dX7_feelsPlant_98 (pc' := 99) rfl (j := 0) rfl ?_
  refine r_getf C (Cn := RX7) (T := TX7) 0 (mMo.kd (mo_I e_59) (mMo.kd (mo_I e_49) (mMo.kd (mo_I e_39) (mMo.kd (mo_I e_29) (mMo.kd (mo_I e_19) (mMo.kd (mo_I e_9) (mMo.kd m_3 k_a0 (by decide)) (by decide)) (by decide)) (by decide)) (by decide)) (by decide)) (by decide)) (by decide) vc_X7 in_X7 (by decide) q1224 dX7_feelsPlant_99 (pc' := 102) rfl (v := va_rf (mgR M_58 a0 0)) rfl ?_
  obtain ⟨b_63, e_64, k_65, h⟩ := h
  refine r_ref [] e_64 ?_
  refine r_bipush C dX7_feelsPlant_102 (pc' := 104) rfl (v := 20) rfl ?_
  refine r_iload_n C dX7_feelsPlant_104 (pc' := 105) rfl (j := 1) rfl ?_
  refine r_iadd C dX7_feelsPlant_105 (pc' := 106) rfl ?_
  obtain ⟨c_66, h⟩ := h
  refine r_iald C (j := (ix_ ((20 : Int32) + x1))) k_65 c_66 rfl dX7_feelsPlant_106 (pc' := 107) rfl ?_
  refine r_if_ge C dX7_feelsPlant_107 (pc' := 110) rfl (tgt := 115) (by decide) (fun c_67 => ?_) (fun c_67 => ?_)
  · have h := it_t h c_67
    refine r_aload_n C dX7_feelsPlant_115 (pc' := 116) rfl (j := 0) rfl ?_
    refine r_getf C (Cn := RX7) (T := TX7) 0 (mMo.kd (mo_I e_59) (mMo.kd (mo_I e_49) (mMo.kd (mo_I e_39) (mMo.kd (mo_I e_29) (mMo.kd (mo_I e_19) (mMo.kd (mo_I e_9) (mMo.kd m_3 k_a0 (by decide)) (by decide)) (by decide)) (by decide)) (by decide)) (by decide)) (by decide)) (by decide) vc_X7 in_X7 (by decide) q1224 dX7_feelsPlant_116 (pc' := 119) rfl (v := va_rf (mgR M_58 a0 0)) rfl ?_
    obtain ⟨b_68, e_69, k_70, h⟩ := h
    refine r_ref [] e_69 ?_
    refine r_bipush C dX7_feelsPlant_119 (pc' := 121) rfl (v := 79) rfl ?_
    obtain ⟨c_71, h⟩ := h
    refine r_iald C (j := 79) k_70 (vp_l (by decide) (by decide) c_71) (by decide) dX7_feelsPlant_121 (pc' := 122) rfl ?_
    refine r_aload_n C dX7_feelsPlant_122 (pc' := 123) rfl (j := 0) rfl ?_
    refine r_getf C (Cn := RX7) (T := TX7) 0 (mMo.kd (mo_I e_59) (mMo.kd (mo_I e_49) (mMo.kd (mo_I e_39) (mMo.kd (mo_I e_29) (mMo.kd (mo_I e_19) (mMo.kd (mo_I e_9) (mMo.kd m_3 k_a0 (by decide)) (by decide)) (by decide)) (by decide)) (by decide)) (by decide)) (by decide)) (by decide) vc_X7 in_X7 (by decide) q1224 dX7_feelsPlant_123 (pc' := 126) rfl (v := va_rf (mgR M_58 a0 0)) rfl ?_
    obtain ⟨b_72, e_73, k_74, h⟩ := h
    refine r_ref [] e_73 ?_
    refine r_bipush C dX7_feelsPlant_126 (pc' := 128) rfl (v := 20) rfl ?_
    refine r_iload_n C dX7_feelsPlant_128 (pc' := 129) rfl (j := 1) rfl ?_
    refine r_iadd C dX7_feelsPlant_129 (pc' := 130) rfl ?_
    obtain ⟨c_75, h⟩ := h
    refine r_iald C (j := (ix_ ((20 : Int32) + x1))) k_74 c_75 rfl dX7_feelsPlant_130 (pc' := 131) rfl ?_
    refine r_isub C dX7_feelsPlant_131 (pc' := 132) rfl ?_
    refine r_sub (lv' := []) [] rfl ?_
    exact B_X7_feelsPlant_132 C hE k_62 h
  · have h := it_f h c_67
    refine r_bipush C dX7_feelsPlant_110 (pc' := 112) rfl (v := 99) rfl ?_
    refine r_goto C dX7_feelsPlant_112 (tgt := 132) (by decide) ?_
    refine r_sub (lv' := []) [] rfl ?_
    exact B_X7_feelsPlant_132 C hE k_62 h
set_option maxHeartbeats 4000000 in
theorem S_X7_cupsOf {D : DD} {l : Launch} {M : MM} {a0 : Nat} {x1 : Int32} {x2 : Int32} {Post : Int32 → MM → Prop} (k_a0 : mkd M a0 = 7) (h : wp_X7_cupsOf M a0 x1 x2 Post) : mMet D l yX7_cupsOf cX7_cupsOf 3 ((some .int)) { frames := 3, cells := 0, slots := 0, locals := 74 } M [.ref a0, .int x1, .int x2] (pI_ Post) := by
  refine m_of2 [(0, .ref a0), (1, .int x1), (2, .int x2)] (by decide +kernel) (Nat.le_of_ble_eq_true rfl) rfl (fun E hED hEl C hE => ?_)
  subst hED
  subst hEl
  unfold wp_X7_cupsOf at h
  refine r_aload_n C dX7_cupsOf_0 (pc' := 1) rfl (j := 0) rfl ?_
  refine r_iload_n C dX7_cupsOf_1 (pc' := 2) rfl (j := 2) rfl ?_
  refine r_callVv (As := [.int x2]) (rest := []) (Cn := RX7) (T := TX7) C k_a0 (by decide) vc_X7 (S_X7_feelsPlant k_a0 h) (lw_V q1534 q1536 qs75 q112 q1537) rfl hd_X7_feelsPlant rfl rfl (Nat.le_of_ble_eq_true rfl) (Nat.le_of_ble_eq_true rfl) (Nat.le_of_ble_eq_true rfl) rfl rfl (Nat.le_of_ble_eq_true rfl) (Nat.le_of_ble_eq_true rfl) dX7_cupsOf_2 (pc' := 5) rfl (fun M_1 h m_3 => ?_)
  refine r_aload_n C dX7_cupsOf_5 (pc' := 6) rfl (j := 0) rfl ?_
  refine r_getf C (Cn := RX7) (T := TX7) 26 (mMo.kd m_3 k_a0 (by decide)) (by decide) vc_X7 in_X7 (by decide) q1250 dX7_cupsOf_6 (pc' := 9) rfl (v := va_rf (mgR M_1 a0 26)) rfl ?_
  obtain ⟨b_4, e_5, k_6, h⟩ := h
  refine r_ref [] e_5 ?_
  refine r_bipush C dX7_cupsOf_9 (pc' := 11) rfl (v := 8) rfl ?_
  refine r_iload_n C dX7_cupsOf_11 (pc' := 12) rfl (j := 1) rfl ?_
  obtain ⟨c_7, h⟩ := h
  obtain ⟨M_8, e_9, h⟩ := bn_ h
  refine r_iast C (j := 8) k_6 (vp_l (by decide) (by decide) c_7) (by decide) dX7_cupsOf_12 (pc' := 13) rfl M_8 e_9 ?_
  refine r_aload_n C dX7_cupsOf_13 (pc' := 14) rfl (j := 0) rfl ?_
  refine r_getf C (Cn := RX7) (T := TX7) 26 (mMo.kd (mo_I e_9) (mMo.kd m_3 k_a0 (by decide)) (by decide)) (by decide) vc_X7 in_X7 (by decide) q1250 dX7_cupsOf_14 (pc' := 17) rfl (v := va_rf (mgR M_8 a0 26)) rfl ?_
  obtain ⟨b_10, e_11, k_12, h⟩ := h
  refine r_ref [] e_11 ?_
  refine r_bipush C dX7_cupsOf_17 (pc' := 19) rfl (v := 9) rfl ?_
  refine r_aload_n C dX7_cupsOf_19 (pc' := 20) rfl (j := 0) rfl ?_
  refine r_getf C (Cn := RX7) (T := TX7) 0 (mMo.kd (mo_I e_9) (mMo.kd m_3 k_a0 (by decide)) (by decide)) (by decide) vc_X7 in_X7 (by decide) q1224 dX7_cupsOf_20 (pc' := 23) rfl (v := va_rf (mgR M_8 a0 0)) rfl ?_
  obtain ⟨b_13, e_14, k_15, h⟩ := h
  refine r_ref [] e_14 ?_
  refine r_bipush C dX7_cupsOf_23 (pc' := 25) rfl (v := 52) rfl ?_
  refine r_iload_n C dX7_cupsOf_25 (pc' := 26) rfl (j := 1) rfl ?_
  refine r_iadd C dX7_cupsOf_26 (pc' := 27) rfl ?_
  obtain ⟨c_16, h⟩ := h
  refine r_iald C (j := (ix_ ((52 : Int32) + x1))) k_15 c_16 rfl dX7_cupsOf_27 (pc' := 28) rfl ?_
  obtain ⟨c_17, h⟩ := h
  obtain ⟨M_18, e_19, h⟩ := bn_ h
  refine r_iast C (j := 9) k_12 (vp_l (by decide) (by decide) c_17) (by decide) dX7_cupsOf_28 (pc' := 29) rfl M_18 e_19 ?_
  refine r_aload_n C dX7_cupsOf_29 (pc' := 30) rfl (j := 0) rfl ?_
  refine r_getf C (Cn := RX7) (T := TX7) 26 (mMo.kd (mo_I e_19) (mMo.kd (mo_I e_9) (mMo.kd m_3 k_a0 (by decide)) (by decide)) (by decide)) (by decide) vc_X7 in_X7 (by decide) q1250 dX7_cupsOf_30 (pc' := 33) rfl (v := va_rf (mgR M_18 a0 26)) rfl ?_
  obtain ⟨b_20, e_21, k_22, h⟩ := h
  refine r_ref [] e_21 ?_
  refine r_bipush C dX7_cupsOf_33 (pc' := 35) rfl (v := 12) rfl ?_
  refine r_aload_n C dX7_cupsOf_35 (pc' := 36) rfl (j := 0) rfl ?_
  refine r_getf C (Cn := RX7) (T := TX7) 0 (mMo.kd (mo_I e_19) (mMo.kd (mo_I e_9) (mMo.kd m_3 k_a0 (by decide)) (by decide)) (by decide)) (by decide) vc_X7 in_X7 (by decide) q1224 dX7_cupsOf_36 (pc' := 39) rfl (v := va_rf (mgR M_18 a0 0)) rfl ?_
  obtain ⟨b_23, e_24, k_25, h⟩ := h
  refine r_ref [] e_24 ?_
  refine r_bipush C dX7_cupsOf_39 (pc' := 41) rfl (v := 68) rfl ?_
  refine r_iload_n C dX7_cupsOf_41 (pc' := 42) rfl (j := 1) rfl ?_
  refine r_iadd C dX7_cupsOf_42 (pc' := 43) rfl ?_
  obtain ⟨c_26, h⟩ := h
  refine r_iald C (j := (ix_ ((68 : Int32) + x1))) k_25 c_26 rfl dX7_cupsOf_43 (pc' := 44) rfl ?_
  obtain ⟨c_27, h⟩ := h
  obtain ⟨M_28, e_29, h⟩ := bn_ h
  refine r_iast C (j := 12) k_22 (vp_l (by decide) (by decide) c_27) (by decide) dX7_cupsOf_44 (pc' := 45) rfl M_28 e_29 ?_
  refine r_aload_n C dX7_cupsOf_45 (pc' := 46) rfl (j := 0) rfl ?_
  refine r_aload_n C dX7_cupsOf_46 (pc' := 47) rfl (j := 0) rfl ?_
  refine r_getf C (Cn := RX7) (T := TX7) 0 (mMo.kd (mo_I e_29) (mMo.kd (mo_I e_19) (mMo.kd (mo_I e_9) (mMo.kd m_3 k_a0 (by decide)) (by decide)) (by decide)) (by decide)) (by decide) vc_X7 in_X7 (by decide) q1224 dX7_cupsOf_47 (pc' := 50) rfl (v := va_rf (mgR M_28 a0 0)) rfl ?_
  obtain ⟨b_30, e_31, k_32, h⟩ := h
  refine r_ref [] e_31 ?_
  refine r_bipush C dX7_cupsOf_50 (pc' := 52) rfl (v := 60) rfl ?_
  refine r_iload_n C dX7_cupsOf_52 (pc' := 53) rfl (j := 1) rfl ?_
  refine r_iadd C dX7_cupsOf_53 (pc' := 54) rfl ?_
  obtain ⟨c_33, h⟩ := h
  refine r_iald C (j := (ix_ ((60 : Int32) + x1))) k_32 c_33 rfl dX7_cupsOf_54 (pc' := 55) rfl ?_
  refine r_iconst C dX7_cupsOf_55 (pc' := 56) rfl (v := 1) rfl ?_
  refine r_iadd C dX7_cupsOf_56 (pc' := 57) rfl ?_
  refine r_bipush C dX7_cupsOf_57 (pc' := 59) rfl (v := 103) rfl ?_
  refine r_bipush C dX7_cupsOf_59 (pc' := 61) rfl (v := 9) rfl ?_
  refine r_callVi (As := [.int ((mgI M_28 b_30 (ix_ ((60 : Int32) + x1))) + (1 : Int32)), .int (103 : Int32), .int (9 : Int32)]) (rest := []) (Cn := RX7) (T := TX7) C (mMo.kd (mo_I e_29) (mMo.kd (mo_I e_19) (mMo.kd (mo_I e_9) (mMo.kd m_3 k_a0 (by decide)) (by decide)) (by decide)) (by decide)) (by decide) vc_X7 (S_X7_byText (mMo.kd (mo_I e_29) (mMo.kd (mo_I e_19) (mMo.kd (mo_I e_9) (mMo.kd m_3 k_a0 (by decide)) (by decide)) (by decide)) (by decide)) h) (lw_V q1545 q1547 qs77 q112 q1548) rfl hd_X7_byText rfl rfl (Nat.le_of_ble_eq_true rfl) (Nat.le_of_ble_eq_true rfl) (Nat.le_of_ble_eq_true rfl) rfl rfl (Nat.le_of_ble_eq_true rfl) (Nat.le_of_ble_eq_true rfl) dX7_cupsOf_61 (pc' := 64) rfl (fun r_35 M_34 h m_36 => ?_)
  exact r_iret C hE (Nat.le_of_ble_eq_true rfl) (Nat.le_of_ble_eq_true rfl) dX7_cupsOf_64 ⟨_, rfl, h⟩
set_option maxHeartbeats 4000000 in
theorem S_X7_isPerson {D : DD} {l : Launch} {M : MM} {a0 : Nat} {x1 : Int32} {Post : Int32 → MM → Prop} (k_a0 : mkd M a0 = 7) (h : wp_X7_isPerson M a0 x1 Post) : mMet D l yX7_isPerson cX7_isPerson 2 ((some .boolean)) { frames := 1, cells := 0, slots := 0, locals := 21 } M [.ref a0, .int x1] (pI_ Post) := by
  refine m_of2 [(0, .ref a0), (1, .int x1)] (by decide +kernel) (Nat.le_of_ble_eq_true rfl) rfl (fun E hED hEl C hE => ?_)
  subst hED
  subst hEl
  unfold wp_X7_isPerson at h
  refine r_iload_n C dX7_isPerson_0 (pc' := 1) rfl (j := 1) rfl ?_
  refine r_if_lt C dX7_isPerson_1 (pc' := 4) rfl (tgt := 28) (by decide) (fun c_1 => ?_) (fun c_1 => ?_)
  · have h := it_t h c_1
    refine r_iconst C dX7_isPerson_28 (pc' := 29) rfl (v := 0) rfl ?_
    exact r_zret C hE (Or.inl rfl) (Nat.le_of_ble_eq_true rfl) (Nat.le_of_ble_eq_true rfl) dX7_isPerson_29 ⟨_, rfl, h⟩
  · have h := it_f h c_1
    refine r_iload_n C dX7_isPerson_4 (pc' := 5) rfl (j := 1) rfl ?_
    refine r_bipush C dX7_isPerson_5 (pc' := 7) rfl (v := 8) rfl ?_
    refine r_icmp_ge C dX7_isPerson_7 (pc' := 10) rfl (tgt := 28) (by decide) (fun c_2 => ?_) (fun c_2 => ?_)
    · have h := it_t h c_2
      refine r_iconst C dX7_isPerson_28 (pc' := 29) rfl (v := 0) rfl ?_
      exact r_zret C hE (Or.inl rfl) (Nat.le_of_ble_eq_true rfl) (Nat.le_of_ble_eq_true rfl) dX7_isPerson_29 ⟨_, rfl, h⟩
    · have h := it_f h c_2
      refine r_aload_n C dX7_isPerson_10 (pc' := 11) rfl (j := 0) rfl ?_
      refine r_getf C (Cn := RX7) (T := TX7) 0 k_a0 (by decide) vc_X7 in_X7 (by decide) q1224 dX7_isPerson_11 (pc' := 14) rfl (v := va_rf (mgR M a0 0)) rfl ?_
      obtain ⟨b_3, e_4, k_5, h⟩ := h
      refine r_ref [] e_4 ?_
      refine r_bipush C dX7_isPerson_14 (pc' := 16) rfl (v := 78) rfl ?_
      obtain ⟨c_6, h⟩ := h
      refine r_iald C (j := 78) k_5 (vp_l (by decide) (by decide) c_6) (by decide) dX7_isPerson_16 (pc' := 17) rfl ?_
      refine r_iload_n C dX7_isPerson_17 (pc' := 18) rfl (j := 1) rfl ?_
      refine r_callSi (As := [.int (mgI M b_3 78), .int x1]) (rest := []) C (S_X7_has h) (lw_S q1406 q1407 q112 q1408) hd_X7_has rfl rfl (Nat.le_of_ble_eq_true rfl) (Nat.le_of_ble_eq_true rfl) (Nat.le_of_ble_eq_true rfl) rfl rfl (Nat.le_of_ble_eq_true rfl) (Nat.le_of_ble_eq_true rfl) dX7_isPerson_18 (pc' := 21) rfl (fun r_8 M_7 h m_9 => ?_)
      refine r_if_eq C dX7_isPerson_21 (pc' := 24) rfl (tgt := 28) (by decide) (fun c_10 => ?_) (fun c_10 => ?_)
      · have h := it_t h c_10
        refine r_iconst C dX7_isPerson_28 (pc' := 29) rfl (v := 0) rfl ?_
        exact r_zret C hE (Or.inl rfl) (Nat.le_of_ble_eq_true rfl) (Nat.le_of_ble_eq_true rfl) dX7_isPerson_29 ⟨_, rfl, h⟩
      · have h := it_f h c_10
        refine r_iconst C dX7_isPerson_24 (pc' := 25) rfl (v := 1) rfl ?_
        refine r_goto C dX7_isPerson_25 (tgt := 29) (by decide) ?_
        exact r_zret C hE (Or.inr rfl) (Nat.le_of_ble_eq_true rfl) (Nat.le_of_ble_eq_true rfl) dX7_isPerson_29 ⟨_, rfl, h⟩
set_option maxHeartbeats 4000000 in
theorem S_X7_gives {D : DD} {l : Launch} {M : MM} {a0 : Nat} {x1 : Int32} {x2 : Int32} {Post : Int32 → MM → Prop} (k_a0 : mkd M a0 = 7) (h : wp_X7_gives M a0 x1 x2 Post) : mMet D l yX7_gives cX7_gives 3 ((some .int)) { frames := 4, cells := 0, slots := 0, locals := 96 } M [.ref a0, .int x1, .int x2] (pI_ Post) := by
  refine m_of2 [(0, .ref a0), (1, .int x1), (2, .int x2)] (by decide +kernel) (Nat.le_of_ble_eq_true rfl) rfl (fun E hED hEl C hE => ?_)
  subst hED
  subst hEl
  unfold wp_X7_gives at h
  refine r_aload_n C dX7_gives_0 (pc' := 1) rfl (j := 0) rfl ?_
  refine r_iload_n C dX7_gives_1 (pc' := 2) rfl (j := 1) rfl ?_
  refine r_callVi (As := [.int x1]) (rest := []) (Cn := RX7) (T := TX7) C k_a0 (by decide) vc_X7 (S_X7_isPerson k_a0 h) (lw_V q1526 q1528 qs73 q112 q1529) rfl hd_X7_isPerson rfl rfl (Nat.le_of_ble_eq_true rfl) (Nat.le_of_ble_eq_true rfl) (Nat.le_of_ble_eq_true rfl) rfl rfl (Nat.le_of_ble_eq_true rfl) (Nat.le_of_ble_eq_true rfl) dX7_gives_2 (pc' := 5) rfl (fun r_2 M_1 h m_3 => ?_)
  refine r_if_eq C dX7_gives_5 (pc' := 8) rfl (tgt := 16) (by decide) (fun c_4 => ?_) (fun c_4 => ?_)
  · have h := it_t h c_4
    refine r_iconst C dX7_gives_16 (pc' := 17) rfl (v := -1) rfl ?_
    exact r_iret C hE (Nat.le_of_ble_eq_true rfl) (Nat.le_of_ble_eq_true rfl) dX7_gives_17 ⟨_, rfl, h⟩
  · have h := it_f h c_4
    refine r_aload_n C dX7_gives_8 (pc' := 9) rfl (j := 0) rfl ?_
    refine r_iload_n C dX7_gives_9 (pc' := 10) rfl (j := 2) rfl ?_
    refine r_callVi (As := [.int x2]) (rest := []) (Cn := RX7) (T := TX7) C (mMo.kd m_3 k_a0 (by decide)) (by decide) vc_X7 (S_X7_isPlant (mMo.kd m_3 k_a0 (by decide)) h) (lw_V q1402 q1404 qs51 q112 q1405) rfl hd_X7_isPlant rfl rfl (Nat.le_of_ble_eq_true rfl) (Nat.le_of_ble_eq_true rfl) (Nat.le_of_ble_eq_true rfl) rfl rfl (Nat.le_of_ble_eq_true rfl) (Nat.le_of_ble_eq_true rfl) dX7_gives_10 (pc' := 13) rfl (fun r_6 M_5 h m_7 => ?_)
    refine r_if_ne C dX7_gives_13 (pc' := 16) rfl (tgt := 18) (by decide) (fun c_8 => ?_) (fun c_8 => ?_)
    · have h := it_f h c_8
      refine r_aload_n C dX7_gives_18 (pc' := 19) rfl (j := 0) rfl ?_
      refine r_iload_n C dX7_gives_19 (pc' := 20) rfl (j := 2) rfl ?_
      refine r_callVi (As := [.int x2]) (rest := []) (Cn := RX7) (T := TX7) C (mMo.kd m_7 (mMo.kd m_3 k_a0 (by decide)) (by decide)) (by decide) vc_X7 (S_X7_lives (mMo.kd m_7 (mMo.kd m_3 k_a0 (by decide)) (by decide)) h) (lw_V q1413 q1415 qs52 q112 q1416) rfl hd_X7_lives rfl rfl (Nat.le_of_ble_eq_true rfl) (Nat.le_of_ble_eq_true rfl) (Nat.le_of_ble_eq_true rfl) rfl rfl (Nat.le_of_ble_eq_true rfl) (Nat.le_of_ble_eq_true rfl) dX7_gives_20 (pc' := 23) rfl (fun r_10 M_9 h m_11 => ?_)
      refine r_if_eq C dX7_gives_23 (pc' := 26) rfl (tgt := 35) (by decide) (fun c_12 => ?_) (fun c_12 => ?_)
      · have h := it_t h c_12
        refine r_iconst C dX7_gives_35 (pc' := 36) rfl (v := 0) rfl ?_
        exact r_iret C hE (Nat.le_of_ble_eq_true rfl) (Nat.le_of_ble_eq_true rfl) dX7_gives_36 ⟨_, rfl, h⟩
      · have h := it_f h c_12
        refine r_aload_n C dX7_gives_26 (pc' := 27) rfl (j := 0) rfl ?_
        refine r_iload_n C dX7_gives_27 (pc' := 28) rfl (j := 1) rfl ?_
        refine r_iload_n C dX7_gives_28 (pc' := 29) rfl (j := 2) rfl ?_
        refine r_callVi (As := [.int x1, .int x2]) (rest := []) (Cn := RX7) (T := TX7) C (mMo.kd m_11 (mMo.kd m_7 (mMo.kd m_3 k_a0 (by decide)) (by decide)) (by decide)) (by decide) vc_X7 (S_X7_cupsOf (mMo.kd m_11 (mMo.kd m_7 (mMo.kd m_3 k_a0 (by decide)) (by decide)) (by decide)) h) (lw_V q1530 q1532 qs74 q112 q1533) rfl hd_X7_cupsOf rfl rfl (Nat.le_of_ble_eq_true rfl) (Nat.le_of_ble_eq_true rfl) (Nat.le_of_ble_eq_true rfl) rfl rfl (Nat.le_of_ble_eq_true rfl) (Nat.le_of_ble_eq_true rfl) dX7_gives_29 (pc' := 32) rfl (fun r_14 M_13 h m_15 => ?_)
        refine r_goto C dX7_gives_32 (tgt := 36) (by decide) ?_
        exact r_iret C hE (Nat.le_of_ble_eq_true rfl) (Nat.le_of_ble_eq_true rfl) dX7_gives_36 ⟨_, rfl, h⟩
    · have h := it_t h c_8
      refine r_iconst C dX7_gives_16 (pc' := 17) rfl (v := -1) rfl ?_
      exact r_iret C hE (Nat.le_of_ble_eq_true rfl) (Nat.le_of_ble_eq_true rfl) dX7_gives_17 ⟨_, rfl, h⟩
set_option maxHeartbeats 4000000 in
theorem S_X7_draws {D : DD} {l : Launch} {M : MM} {a0 : Nat} {Post : Int32 → MM → Prop} (k_a0 : mkd M a0 = 7) (h : wp_X7_draws M a0 Post) : mMet D l yX7_draws cX7_draws 1 ((some .int)) { frames := 0, cells := 0, slots := 0, locals := 0 } M [.ref a0] (pI_ Post) := by
  refine m_of2 [(0, .ref a0)] (by decide +kernel) (Nat.le_of_ble_eq_true rfl) rfl (fun E hED hEl C hE => ?_)
  subst hED
  subst hEl
  unfold wp_X7_draws at h
  refine r_aload_n C dX7_draws_0 (pc' := 1) rfl (j := 0) rfl ?_
  refine r_getf C (Cn := RX7) (T := TX7) 0 k_a0 (by decide) vc_X7 in_X7 (by decide) q1224 dX7_draws_1 (pc' := 4) rfl (v := va_rf (mgR M a0 0)) rfl ?_
  obtain ⟨b_1, e_2, k_3, h⟩ := h
  refine r_ref [] e_2 ?_
  refine r_bipush C dX7_draws_4 (pc' := 6) rfl (v := 80) rfl ?_
  refine r_sipush C dX7_draws_6 (pc' := 9) rfl (v := 25173) rfl ?_
  refine r_aload_n C dX7_draws_9 (pc' := 10) rfl (j := 0) rfl ?_
  refine r_getf C (Cn := RX7) (T := TX7) 0 k_a0 (by decide) vc_X7 in_X7 (by decide) q1224 dX7_draws_10 (pc' := 13) rfl (v := va_rf (mgR M a0 0)) rfl ?_
  obtain ⟨b_4, e_5, k_6, h⟩ := h
  refine r_ref [] e_5 ?_
  refine r_bipush C dX7_draws_13 (pc' := 15) rfl (v := 80) rfl ?_
  obtain ⟨c_7, h⟩ := h
  refine r_iald C (j := 80) k_6 (vp_l (by decide) (by decide) c_7) (by decide) dX7_draws_15 (pc' := 16) rfl ?_
  refine r_imul C dX7_draws_16 (pc' := 17) rfl ?_
  refine r_sipush C dX7_draws_17 (pc' := 20) rfl (v := 13849) rfl ?_
  refine r_iadd C dX7_draws_20 (pc' := 21) rfl ?_
  refine r_ldcw C dX7_draws_21 (pc' := 24) rfl q1572 ?_
  refine r_irem C dX7_draws_24 (pc' := 25) rfl (by decide) ?_
  obtain ⟨c_8, h⟩ := h
  obtain ⟨M_9, e_10, h⟩ := bn_ h
  refine r_iast C (j := 80) k_3 (vp_l (by decide) (by decide) c_8) (by decide) dX7_draws_25 (pc' := 26) rfl M_9 e_10 ?_
  refine r_aload_n C dX7_draws_26 (pc' := 27) rfl (j := 0) rfl ?_
  refine r_getf C (Cn := RX7) (T := TX7) 0 (mMo.kd (mo_I e_10) k_a0 (by decide)) (by decide) vc_X7 in_X7 (by decide) q1224 dX7_draws_27 (pc' := 30) rfl (v := va_rf (mgR M_9 a0 0)) rfl ?_
  obtain ⟨b_11, e_12, k_13, h⟩ := h
  refine r_ref [] e_12 ?_
  refine r_bipush C dX7_draws_30 (pc' := 32) rfl (v := 80) rfl ?_
  obtain ⟨c_14, h⟩ := h
  refine r_iald C (j := 80) k_13 (vp_l (by decide) (by decide) c_14) (by decide) dX7_draws_32 (pc' := 33) rfl ?_
  refine r_bipush C dX7_draws_33 (pc' := 35) rfl (v := 10) rfl ?_
  refine r_irem C dX7_draws_35 (pc' := 36) rfl (by decide) ?_
  exact r_iret C hE (Nat.le_of_ble_eq_true rfl) (Nat.le_of_ble_eq_true rfl) dX7_draws_36 ⟨_, rfl, h⟩
set_option maxHeartbeats 4000000 in
theorem S_X7_max {D : DD} {l : Launch} {M : MM} {x0 : Int32} {x1 : Int32} {Post : Int32 → MM → Prop} (h : wp_X7_max M x0 x1 Post) : mMet D l yX7_max cX7_max 2 ((some .int)) { frames := 0, cells := 0, slots := 0, locals := 0 } M [.int x0, .int x1] (pI_ Post) := by
  refine m_of2 [(0, .int x0), (1, .int x1)] (by decide +kernel) (Nat.le_of_ble_eq_true rfl) rfl (fun E hED hEl C hE => ?_)
  subst hED
  subst hEl
  unfold wp_X7_max at h
  refine r_iload_n C dX7_max_0 (pc' := 1) rfl (j := 0) rfl ?_
  refine r_iload_n C dX7_max_1 (pc' := 2) rfl (j := 1) rfl ?_
  refine r_icmp_le C dX7_max_2 (pc' := 5) rfl (tgt := 9) (by decide) (fun c_1 => ?_) (fun c_1 => ?_)
  · have h := it_t h c_1
    refine r_iload_n C dX7_max_9 (pc' := 10) rfl (j := 1) rfl ?_
    exact r_iret C hE (Nat.le_of_ble_eq_true rfl) (Nat.le_of_ble_eq_true rfl) dX7_max_10 ⟨_, rfl, h⟩
  · have h := it_f h c_1
    refine r_iload_n C dX7_max_5 (pc' := 6) rfl (j := 0) rfl ?_
    refine r_goto C dX7_max_6 (tgt := 10) (by decide) ?_
    exact r_iret C hE (Nat.le_of_ble_eq_true rfl) (Nat.le_of_ble_eq_true rfl) dX7_max_10 ⟨_, rfl, h⟩
set_option maxHeartbeats 4000000 in
theorem B_X7_dries_187 {E : mE} {a0 : Nat} {x1 : Int32} {x4 : Int32} {X230 : MM → Prop} {Post : MM → Prop} (C : mC E yX7_dries cX7_dries 6 (none) { frames := 3, cells := 0, slots := 0, locals := 74 }) (hE : mEnd E { frames := 3, cells := 0, slots := 0, locals := 74 } (pV_ Post)) : ∀ (n_ : Nat) (M : MM) (x5 : Int32), mkd M a0 = 7 → wl_X7_dries_187 a0 x1 x4 X230 n_ M x5 → (∀ (M' : MM), mMo M M' → X230 M' → mV E M' 0 0 230 [(0, .ref a0), (1, .int x1), (4, .int x4)] []) → mV E M 0 0 187 [(0, .ref a0), (1, .int x1), (4, .int x4), (5, .int x5)] [] := by
  intro n_
  induction n_ with
  | zero =>
    intro M x5 k_a0 h hX230
    exact absurd h (by rw [wl_X7_dries_187]; exact fun q => q)
  | succ n_ ih =>
    intro M x5 k_a0 h hX230
    rw [wl_X7_dries_187] at h
    refine r_iload C dX7_dries_187 (pc' := 189) rfl (j := 3) rfl ?_
    refine r_if_le C dX7_dries_189 (pc' := 192) rfl (tgt := 230) (by decide) (fun c_58 => ?_) (fun c_58 => ?_)
    · have h := it_t h c_58
      refine r_sub (lv' := [(0, .ref a0), (1, .int x1), (4, .int x4)]) [0, 1, 2] rfl ?_
      exact hX230 M mMo.rf h
    · have h := it_f h c_58
      refine r_aload_n C dX7_dries_192 (pc' := 193) rfl (j := 0) rfl ?_
      refine r_getf C (Cn := RX7) (T := TX7) 0 k_a0 (by decide) vc_X7 in_X7 (by decide) q1224 dX7_dries_193 (pc' := 196) rfl (v := va_rf (mgR M a0 0)) rfl ?_
      obtain ⟨b_59, e_60, k_61, h⟩ := h
      refine r_ref [] e_60 ?_
      refine r_bipush C dX7_dries_196 (pc' := 198) rfl (v := 24) rfl ?_
      refine r_bipush C dX7_dries_198 (pc' := 200) rfl (v := 7) rfl ?_
      refine r_iload_n C dX7_dries_200 (pc' := 201) rfl (j := 1) rfl ?_
      refine r_imul C dX7_dries_201 (pc' := 202) rfl ?_
      refine r_iadd C dX7_dries_202 (pc' := 203) rfl ?_
      refine r_iload C dX7_dries_203 (pc' := 205) rfl (j := 3) rfl ?_
      refine r_iadd C dX7_dries_205 (pc' := 206) rfl ?_
      refine r_aload_n C dX7_dries_206 (pc' := 207) rfl (j := 0) rfl ?_
      refine r_getf C (Cn := RX7) (T := TX7) 0 k_a0 (by decide) vc_X7 in_X7 (by decide) q1224 dX7_dries_207 (pc' := 210) rfl (v := va_rf (mgR M a0 0)) rfl ?_
      obtain ⟨b_62, e_63, k_64, h⟩ := h
      refine r_ref [] e_63 ?_
      refine r_bipush C dX7_dries_210 (pc' := 212) rfl (v := 24) rfl ?_
      refine r_bipush C dX7_dries_212 (pc' := 214) rfl (v := 7) rfl ?_
      refine r_iload_n C dX7_dries_214 (pc' := 215) rfl (j := 1) rfl ?_
      refine r_imul C dX7_dries_215 (pc' := 216) rfl ?_
      refine r_iadd C dX7_dries_216 (pc' := 217) rfl ?_
      refine r_iload C dX7_dries_217 (pc' := 219) rfl (j := 3) rfl ?_
      refine r_iadd C dX7_dries_219 (pc' := 220) rfl ?_
      refine r_iconst C dX7_dries_220 (pc' := 221) rfl (v := 1) rfl ?_
      refine r_isub C dX7_dries_221 (pc' := 222) rfl ?_
      obtain ⟨c_65, h⟩ := h
      refine r_iald C (j := (ix_ ((((24 : Int32) + ((7 : Int32) * x1)) + x5) - (1 : Int32)))) k_64 c_65 rfl dX7_dries_222 (pc' := 223) rfl ?_
      obtain ⟨c_66, h⟩ := h
      obtain ⟨M_67, e_68, h⟩ := bn_ h
      refine r_iast C (j := (ix_ (((24 : Int32) + ((7 : Int32) * x1)) + x5))) k_61 c_66 rfl dX7_dries_223 (pc' := 224) rfl M_67 e_68 ?_
      obtain ⟨x5_69, e_70, h⟩ := bn_ h
      refine r_iinc C (lv' := [(5, .int x5_69), (0, .ref a0), (1, .int x1), (4, .int x4)]) dX7_dries_224 (pc' := 227) rfl (j := 3) rfl x5_69 (by rw [e_70]; rfl) (Nat.le_of_ble_eq_true rfl) rfl ?_
      refine r_goto C dX7_dries_227 (tgt := 187) (by decide) ?_
      refine r_sub (lv' := [(0, .ref a0), (1, .int x1), (4, .int x4), (5, .int x5_69)]) [1, 2, 3, 0] rfl ?_
      exact ih M_67 x5_69 (mMo.kd (mo_I e_68) k_a0 (by decide)) h (fun M9 hm9 h9 => hX230 M9 (mMo.tr (mo_I e_68) hm9) h9)
set_option maxHeartbeats 4000000 in
theorem B_X7_dries_165 {E : mE} {M : MM} {a0 : Nat} {x1 : Int32} {x4 : Int32} {Post : MM → Prop} (C : mC E yX7_dries cX7_dries 6 (none) { frames := 3, cells := 0, slots := 0, locals := 74 }) (hE : mEnd E { frames := 3, cells := 0, slots := 0, locals := 74 } (pV_ Post)) (k_a0 : mkd M a0 = 7) (h : wb_X7_dries_165 M a0 x1 x4 Post) : mV E M 0 0 165 [(0, .ref a0), (1, .int x1), (4, .int x4)] [] := by
  unfold wb_X7_dries_165 at h
  refine r_aload_n C dX7_dries_165 (pc' := 166) rfl (j := 0) rfl ?_
  refine r_getf C (Cn := RX7) (T := TX7) 0 k_a0 (by decide) vc_X7 in_X7 (by decide) q1224 dX7_dries_166 (pc' := 169) rfl (v := va_rf (mgR M a0 0)) rfl ?_
  obtain ⟨b_48, e_49, k_50, h⟩ := h
  refine r_ref [] e_49 ?_
  refine r_bipush C dX7_dries_169 (pc' := 171) rfl (v := 77) rfl ?_
  refine r_aload_n C dX7_dries_171 (pc' := 172) rfl (j := 0) rfl ?_
  refine r_getf C (Cn := RX7) (T := TX7) 0 k_a0 (by decide) vc_X7 in_X7 (by decide) q1224 dX7_dries_172 (pc' := 175) rfl (v := va_rf (mgR M a0 0)) rfl ?_
  obtain ⟨b_51, e_52, k_53, h⟩ := h
  refine r_ref [] e_52 ?_
  refine r_bipush C dX7_dries_175 (pc' := 177) rfl (v := 77) rfl ?_
  obtain ⟨c_54, h⟩ := h
  refine r_iald C (j := 77) k_53 (vp_l (by decide) (by decide) c_54) (by decide) dX7_dries_177 (pc' := 178) rfl ?_
  refine r_iconst C dX7_dries_178 (pc' := 179) rfl (v := 1) rfl ?_
  refine r_iload_n C dX7_dries_179 (pc' := 180) rfl (j := 1) rfl ?_
  refine r_ishl C dX7_dries_180 (pc' := 181) rfl ?_
  refine r_ior C dX7_dries_181 (pc' := 182) rfl ?_
  obtain ⟨c_55, h⟩ := h
  obtain ⟨M_56, e_57, h⟩ := bn_ h
  refine r_iast C (j := 77) k_50 (vp_l (by decide) (by decide) c_55) (by decide) dX7_dries_182 (pc' := 183) rfl M_56 e_57 ?_
  refine r_bipush C dX7_dries_183 (pc' := 185) rfl (v := 6) rfl ?_
  refine r_istore C (lv' := [(5, .int (6 : Int32)), (0, .ref a0), (1, .int x1), (4, .int x4)]) dX7_dries_185 (pc' := 187) rfl (6 : Int32) rfl (Nat.le_of_ble_eq_true rfl) rfl ?_
  obtain ⟨n_71, h⟩ := h
  refine r_sub (lv' := [(0, .ref a0), (1, .int x1), (4, .int x4), (5, .int (6 : Int32))]) [1, 2, 3, 0] rfl ?_
  refine B_X7_dries_187 C hE n_71 M_56 (6 : Int32) (mMo.kd (mo_I e_57) k_a0 (by decide)) h (fun M_72 m_73 h => ?_)
  refine r_aload_n C dX7_dries_230 (pc' := 231) rfl (j := 0) rfl ?_
  refine r_getf C (Cn := RX7) (T := TX7) 0 (mMo.kd m_73 (mMo.kd (mo_I e_57) k_a0 (by decide)) (by decide)) (by decide) vc_X7 in_X7 (by decide) q1224 dX7_dries_231 (pc' := 234) rfl (v := va_rf (mgR M_72 a0 0)) rfl ?_
  obtain ⟨b_74, e_75, k_76, h⟩ := h
  refine r_ref [] e_75 ?_
  refine r_bipush C dX7_dries_234 (pc' := 236) rfl (v := 24) rfl ?_
  refine r_bipush C dX7_dries_236 (pc' := 238) rfl (v := 7) rfl ?_
  refine r_iload_n C dX7_dries_238 (pc' := 239) rfl (j := 1) rfl ?_
  refine r_imul C dX7_dries_239 (pc' := 240) rfl ?_
  refine r_iadd C dX7_dries_240 (pc' := 241) rfl ?_
  refine r_iload C dX7_dries_241 (pc' := 243) rfl (j := 2) rfl ?_
  obtain ⟨c_77, h⟩ := h
  obtain ⟨M_78, e_79, h⟩ := bn_ h
  refine r_iast C (j := (ix_ ((24 : Int32) + ((7 : Int32) * x1)))) k_76 c_77 rfl dX7_dries_243 (pc' := 244) rfl M_78 e_79 ?_
  exact r_vret C hE (Nat.le_of_ble_eq_true rfl) (Nat.le_of_ble_eq_true rfl) dX7_dries_244 ⟨rfl, h⟩
set_option maxHeartbeats 4000000 in
theorem B_X7_dries_122 {E : mE} {M : MM} {a0 : Nat} {x1 : Int32} {x4 : Int32} {as0 : Nat} {xs1 : Int32} {xs2 : Int32} {Post : MM → Prop} (C : mC E yX7_dries cX7_dries 6 (none) { frames := 3, cells := 0, slots := 0, locals := 74 }) (hE : mEnd E { frames := 3, cells := 0, slots := 0, locals := 74 } (pV_ Post)) (k_a0 : mkd M a0 = 7) (k_as0 : mkd M as0 = 100) (h : wb_X7_dries_122 M a0 x1 x4 as0 xs1 xs2 Post) : mV E M 0 0 122 [(0, .ref a0), (1, .int x1), (4, .int x4)] [.int xs2, .int xs1, .ref as0] := by
  unfold wb_X7_dries_122 at h
  obtain ⟨c_36, h⟩ := h
  obtain ⟨M_37, e_38, h⟩ := bn_ h
  refine r_iast C (j := (ix_ xs1)) k_as0 c_36 rfl dX7_dries_122 (pc' := 123) rfl M_37 e_38 ?_
  refine r_aload_n C dX7_dries_123 (pc' := 124) rfl (j := 0) rfl ?_
  refine r_getf C (Cn := RX7) (T := TX7) 0 (mMo.kd (mo_I e_38) k_a0 (by decide)) (by decide) vc_X7 in_X7 (by decide) q1224 dX7_dries_124 (pc' := 127) rfl (v := va_rf (mgR M_37 a0 0)) rfl ?_
  obtain ⟨b_39, e_40, k_41, h⟩ := h
  refine r_ref [] e_40 ?_
  refine r_bipush C dX7_dries_127 (pc' := 129) rfl (v := 12) rfl ?_
  refine r_iload_n C dX7_dries_129 (pc' := 130) rfl (j := 1) rfl ?_
  refine r_iadd C dX7_dries_130 (pc' := 131) rfl ?_
  obtain ⟨c_42, h⟩ := h
  refine r_iald C (j := (ix_ ((12 : Int32) + x1))) k_41 c_42 rfl dX7_dries_131 (pc' := 132) rfl ?_
  refine r_aload_n C dX7_dries_132 (pc' := 133) rfl (j := 0) rfl ?_
  refine r_getf C (Cn := RX7) (T := TX7) 0 (mMo.kd (mo_I e_38) k_a0 (by decide)) (by decide) vc_X7 in_X7 (by decide) q1224 dX7_dries_133 (pc' := 136) rfl (v := va_rf (mgR M_37 a0 0)) rfl ?_
  obtain ⟨b_43, e_44, k_45, h⟩ := h
  refine r_ref [] e_44 ?_
  refine r_bipush C dX7_dries_136 (pc' := 138) rfl (v := 8) rfl ?_
  refine r_iload_n C dX7_dries_138 (pc' := 139) rfl (j := 1) rfl ?_
  refine r_iadd C dX7_dries_139 (pc' := 140) rfl ?_
  obtain ⟨c_46, h⟩ := h
  refine r_iald C (j := (ix_ ((8 : Int32) + x1))) k_45 c_46 rfl dX7_dries_140 (pc' := 141) rfl ?_
  refine r_icmp_ge C dX7_dries_141 (pc' := 144) rfl (tgt := 165) (by decide) (fun c_47 => ?_) (fun c_47 => ?_)
  · have h := it_t h c_47
    refine r_sub (lv' := [(0, .ref a0), (1, .int x1), (4, .int x4)]) [0, 1, 2] rfl ?_
    exact B_X7_dries_165 C hE (mMo.kd (mo_I e_38) k_a0 (by decide)) h
  · have h := it_f h c_47
    refine r_aload_n C dX7_dries_144 (pc' := 145) rfl (j := 0) rfl ?_
    refine r_getf C (Cn := RX7) (T := TX7) 0 (mMo.kd (mo_I e_38) k_a0 (by decide)) (by decide) vc_X7 in_X7 (by decide) q1224 dX7_dries_145 (pc' := 148) rfl (v := va_rf (mgR M_37 a0 0)) rfl ?_
    obtain ⟨b_80, e_81, k_82, h⟩ := h
    refine r_ref [] e_81 ?_
    refine r_bipush C dX7_dries_148 (pc' := 150) rfl (v := 16) rfl ?_
    refine r_iload_n C dX7_dries_150 (pc' := 151) rfl (j := 1) rfl ?_
    refine r_iadd C dX7_dries_151 (pc' := 152) rfl ?_
    obtain ⟨c_83, h⟩ := h
    refine r_iald C (j := (ix_ ((16 : Int32) + x1))) k_82 c_83 rfl dX7_dries_152 (pc' := 153) rfl ?_
    refine r_aload_n C dX7_dries_153 (pc' := 154) rfl (j := 0) rfl ?_
    refine r_getf C (Cn := RX7) (T := TX7) 0 (mMo.kd (mo_I e_38) k_a0 (by decide)) (by decide) vc_X7 in_X7 (by decide) q1224 dX7_dries_154 (pc' := 157) rfl (v := va_rf (mgR M_37 a0 0)) rfl ?_
    obtain ⟨b_84, e_85, k_86, h⟩ := h
    refine r_ref [] e_85 ?_
    refine r_bipush C dX7_dries_157 (pc' := 159) rfl (v := 8) rfl ?_
    refine r_iload_n C dX7_dries_159 (pc' := 160) rfl (j := 1) rfl ?_
    refine r_iadd C dX7_dries_160 (pc' := 161) rfl ?_
    obtain ⟨c_87, h⟩ := h
    refine r_iald C (j := (ix_ ((8 : Int32) + x1))) k_86 c_87 rfl dX7_dries_161 (pc' := 162) rfl ?_
    refine r_icmp_lt C dX7_dries_162 (pc' := 165) rfl (tgt := 183) (by decide) (fun c_88 => ?_) (fun c_88 => ?_)
    · have h := it_t h c_88
      refine r_bipush C dX7_dries_183 (pc' := 185) rfl (v := 6) rfl ?_
      refine r_istore C (lv' := [(5, .int (6 : Int32)), (0, .ref a0), (1, .int x1), (4, .int x4)]) dX7_dries_185 (pc' := 187) rfl (6 : Int32) rfl (Nat.le_of_ble_eq_true rfl) rfl ?_
      obtain ⟨n_89, h⟩ := h
      refine r_sub (lv' := [(0, .ref a0), (1, .int x1), (4, .int x4), (5, .int (6 : Int32))]) [1, 2, 3, 0] rfl ?_
      refine B_X7_dries_187 C hE n_89 M_37 (6 : Int32) (mMo.kd (mo_I e_38) k_a0 (by decide)) h (fun M_90 m_91 h => ?_)
      refine r_aload_n C dX7_dries_230 (pc' := 231) rfl (j := 0) rfl ?_
      refine r_getf C (Cn := RX7) (T := TX7) 0 (mMo.kd m_91 (mMo.kd (mo_I e_38) k_a0 (by decide)) (by decide)) (by decide) vc_X7 in_X7 (by decide) q1224 dX7_dries_231 (pc' := 234) rfl (v := va_rf (mgR M_90 a0 0)) rfl ?_
      obtain ⟨b_92, e_93, k_94, h⟩ := h
      refine r_ref [] e_93 ?_
      refine r_bipush C dX7_dries_234 (pc' := 236) rfl (v := 24) rfl ?_
      refine r_bipush C dX7_dries_236 (pc' := 238) rfl (v := 7) rfl ?_
      refine r_iload_n C dX7_dries_238 (pc' := 239) rfl (j := 1) rfl ?_
      refine r_imul C dX7_dries_239 (pc' := 240) rfl ?_
      refine r_iadd C dX7_dries_240 (pc' := 241) rfl ?_
      refine r_iload C dX7_dries_241 (pc' := 243) rfl (j := 2) rfl ?_
      obtain ⟨c_95, h⟩ := h
      obtain ⟨M_96, e_97, h⟩ := bn_ h
      refine r_iast C (j := (ix_ ((24 : Int32) + ((7 : Int32) * x1)))) k_94 c_95 rfl dX7_dries_243 (pc' := 244) rfl M_96 e_97 ?_
      exact r_vret C hE (Nat.le_of_ble_eq_true rfl) (Nat.le_of_ble_eq_true rfl) dX7_dries_244 ⟨rfl, h⟩
    · have h := it_f h c_88
      refine r_sub (lv' := [(0, .ref a0), (1, .int x1), (4, .int x4)]) [0, 1, 2] rfl ?_
      exact B_X7_dries_165 C hE (mMo.kd (mo_I e_38) k_a0 (by decide)) h
set_option maxHeartbeats 4000000 in
theorem B_X7_dries_85 {E : mE} {M : MM} {a0 : Nat} {x1 : Int32} {x4 : Int32} {as0 : Nat} {xs1 : Int32} {xs2 : Int32} {Post : MM → Prop} (C : mC E yX7_dries cX7_dries 6 (none) { frames := 3, cells := 0, slots := 0, locals := 74 }) (hE : mEnd E { frames := 3, cells := 0, slots := 0, locals := 74 } (pV_ Post)) (k_a0 : mkd M a0 = 7) (k_as0 : mkd M as0 = 100) (h : wb_X7_dries_85 M a0 x1 x4 as0 xs1 xs2 Post) : mV E M 0 0 85 [(0, .ref a0), (1, .int x1), (4, .int x4)] [.int xs2, .int xs1, .ref as0] := by
  unfold wb_X7_dries_85 at h
  obtain ⟨c_25, h⟩ := h
  obtain ⟨M_26, e_27, h⟩ := bn_ h
  refine r_iast C (j := (ix_ xs1)) k_as0 c_25 rfl dX7_dries_85 (pc' := 86) rfl M_26 e_27 ?_
  refine r_aload_n C dX7_dries_86 (pc' := 87) rfl (j := 0) rfl ?_
  refine r_getf C (Cn := RX7) (T := TX7) 0 (mMo.kd (mo_I e_27) k_a0 (by decide)) (by decide) vc_X7 in_X7 (by decide) q1224 dX7_dries_87 (pc' := 90) rfl (v := va_rf (mgR M_26 a0 0)) rfl ?_
  obtain ⟨b_28, e_29, k_30, h⟩ := h
  refine r_ref [] e_29 ?_
  refine r_bipush C dX7_dries_90 (pc' := 92) rfl (v := 16) rfl ?_
  refine r_iload_n C dX7_dries_92 (pc' := 93) rfl (j := 1) rfl ?_
  refine r_iadd C dX7_dries_93 (pc' := 94) rfl ?_
  refine r_iload C dX7_dries_94 (pc' := 96) rfl (j := 2) rfl ?_
  refine r_aload_n C dX7_dries_96 (pc' := 97) rfl (j := 0) rfl ?_
  refine r_getf C (Cn := RX7) (T := TX7) 0 (mMo.kd (mo_I e_27) k_a0 (by decide)) (by decide) vc_X7 in_X7 (by decide) q1224 dX7_dries_97 (pc' := 100) rfl (v := va_rf (mgR M_26 a0 0)) rfl ?_
  obtain ⟨b_31, e_32, k_33, h⟩ := h
  refine r_ref [] e_32 ?_
  refine r_iconst C dX7_dries_100 (pc' := 101) rfl (v := 0) rfl ?_
  refine r_iload_n C dX7_dries_101 (pc' := 102) rfl (j := 1) rfl ?_
  refine r_iadd C dX7_dries_102 (pc' := 103) rfl ?_
  obtain ⟨c_34, h⟩ := h
  refine r_iald C (j := (ix_ ((0 : Int32) + x1))) k_33 c_34 rfl dX7_dries_103 (pc' := 104) rfl ?_
  refine r_icmp_ne C dX7_dries_104 (pc' := 107) rfl (tgt := 121) (by decide) (fun c_35 => ?_) (fun c_35 => ?_)
  · have h := it_f h c_35
    refine r_iconst C dX7_dries_121 (pc' := 122) rfl (v := 0) rfl ?_
    refine r_sub (lv' := [(0, .ref a0), (1, .int x1), (4, .int x4)]) [0, 1, 2] rfl ?_
    exact B_X7_dries_122 C hE (mMo.kd (mo_I e_27) k_a0 (by decide)) k_30 h
  · have h := it_t h c_35
    refine r_aload_n C dX7_dries_107 (pc' := 108) rfl (j := 0) rfl ?_
    refine r_getf C (Cn := RX7) (T := TX7) 0 (mMo.kd (mo_I e_27) k_a0 (by decide)) (by decide) vc_X7 in_X7 (by decide) q1224 dX7_dries_108 (pc' := 111) rfl (v := va_rf (mgR M_26 a0 0)) rfl ?_
    obtain ⟨b_98, e_99, k_100, h⟩ := h
    refine r_ref [] e_99 ?_
    refine r_bipush C dX7_dries_111 (pc' := 113) rfl (v := 16) rfl ?_
    refine r_iload_n C dX7_dries_113 (pc' := 114) rfl (j := 1) rfl ?_
    refine r_iadd C dX7_dries_114 (pc' := 115) rfl ?_
    obtain ⟨c_101, h⟩ := h
    refine r_iald C (j := (ix_ ((16 : Int32) + x1))) k_100 c_101 rfl dX7_dries_115 (pc' := 116) rfl ?_
    refine r_iconst C dX7_dries_116 (pc' := 117) rfl (v := 1) rfl ?_
    refine r_iadd C dX7_dries_117 (pc' := 118) rfl ?_
    refine r_goto C dX7_dries_118 (tgt := 122) (by decide) ?_
    refine r_sub (lv' := [(0, .ref a0), (1, .int x1), (4, .int x4)]) [0, 1, 2] rfl ?_
    exact B_X7_dries_122 C hE (mMo.kd (mo_I e_27) k_a0 (by decide)) k_30 h
set_option maxHeartbeats 4000000 in
theorem B_X7_dries_31 {E : mE} {M : MM} {a0 : Nat} {x1 : Int32} {x3 : Int32} {Post : MM → Prop} (C : mC E yX7_dries cX7_dries 6 (none) { frames := 3, cells := 0, slots := 0, locals := 74 }) (hE : mEnd E { frames := 3, cells := 0, slots := 0, locals := 74 } (pV_ Post)) (k_a0 : mkd M a0 = 7) (h : wb_X7_dries_31 M a0 x1 x3 Post) : mV E M 0 0 31 [(0, .ref a0), (1, .int x1), (3, .int x3)] [] := by
  unfold wb_X7_dries_31 at h
  refine r_iconst C dX7_dries_31 (pc' := 32) rfl (v := 0) rfl ?_
  refine r_aload_n C dX7_dries_32 (pc' := 33) rfl (j := 0) rfl ?_
  refine r_getf C (Cn := RX7) (T := TX7) 0 k_a0 (by decide) vc_X7 in_X7 (by decide) q1224 dX7_dries_33 (pc' := 36) rfl (v := va_rf (mgR M a0 0)) rfl ?_
  obtain ⟨b_8, e_9, k_10, h⟩ := h
  refine r_ref [] e_9 ?_
  refine r_iconst C dX7_dries_36 (pc' := 37) rfl (v := 4) rfl ?_
  refine r_iload_n C dX7_dries_37 (pc' := 38) rfl (j := 1) rfl ?_
  refine r_iadd C dX7_dries_38 (pc' := 39) rfl ?_
  obtain ⟨c_11, h⟩ := h
  refine r_iald C (j := (ix_ ((4 : Int32) + x1))) k_10 c_11 rfl dX7_dries_39 (pc' := 40) rfl ?_
  refine r_iload_n C dX7_dries_40 (pc' := 41) rfl (j := 2) rfl ?_
  refine r_isub C dX7_dries_41 (pc' := 42) rfl ?_
  refine r_callSi (As := [.int (0 : Int32), .int ((mgI M b_8 (ix_ ((4 : Int32) + x1))) - x3)]) (rest := []) C (S_X7_max h) (lw_S q1581 q1582 q112 q1583) hd_X7_max rfl rfl (Nat.le_of_ble_eq_true rfl) (Nat.le_of_ble_eq_true rfl) (Nat.le_of_ble_eq_true rfl) rfl rfl (Nat.le_of_ble_eq_true rfl) (Nat.le_of_ble_eq_true rfl) dX7_dries_42 (pc' := 45) rfl (fun r_13 M_12 h m_14 => ?_)
  refine r_istore C (lv' := [(4, .int r_13), (0, .ref a0), (1, .int x1), (3, .int x3)]) dX7_dries_45 (pc' := 47) rfl r_13 rfl (Nat.le_of_ble_eq_true rfl) rfl ?_
  refine r_aload_n C dX7_dries_47 (pc' := 48) rfl (j := 1) rfl ?_
  refine r_getf C (Cn := RX7) (T := TX7) 0 (mMo.kd m_14 k_a0 (by decide)) (by decide) vc_X7 in_X7 (by decide) q1224 dX7_dries_48 (pc' := 51) rfl (v := va_rf (mgR M_12 a0 0)) rfl ?_
  obtain ⟨b_15, e_16, k_17, h⟩ := h
  refine r_ref [] e_16 ?_
  refine r_iconst C dX7_dries_51 (pc' := 52) rfl (v := 4) rfl ?_
  refine r_iload_n C dX7_dries_52 (pc' := 53) rfl (j := 2) rfl ?_
  refine r_iadd C dX7_dries_53 (pc' := 54) rfl ?_
  refine r_iload C dX7_dries_54 (pc' := 56) rfl (j := 0) rfl ?_
  obtain ⟨c_18, h⟩ := h
  obtain ⟨M_19, e_20, h⟩ := bn_ h
  refine r_iast C (j := (ix_ ((4 : Int32) + x1))) k_17 c_18 rfl dX7_dries_56 (pc' := 57) rfl M_19 e_20 ?_
  refine r_aload_n C dX7_dries_57 (pc' := 58) rfl (j := 1) rfl ?_
  refine r_getf C (Cn := RX7) (T := TX7) 0 (mMo.kd (mo_I e_20) (mMo.kd m_14 k_a0 (by decide)) (by decide)) (by decide) vc_X7 in_X7 (by decide) q1224 dX7_dries_58 (pc' := 61) rfl (v := va_rf (mgR M_19 a0 0)) rfl ?_
  obtain ⟨b_21, e_22, k_23, h⟩ := h
  refine r_ref [] e_22 ?_
  refine r_bipush C dX7_dries_61 (pc' := 63) rfl (v := 12) rfl ?_
  refine r_iload_n C dX7_dries_63 (pc' := 64) rfl (j := 2) rfl ?_
  refine r_iadd C dX7_dries_64 (pc' := 65) rfl ?_
  refine r_iload C dX7_dries_65 (pc' := 67) rfl (j := 0) rfl ?_
  refine r_if_ne C dX7_dries_67 (pc' := 70) rfl (tgt := 84) (by decide) (fun c_24 => ?_) (fun c_24 => ?_)
  · have h := it_f h c_24
    refine r_iconst C dX7_dries_84 (pc' := 85) rfl (v := 0) rfl ?_
    refine r_sub (lv' := [(0, .ref a0), (1, .int x1), (4, .int r_13)]) [1, 2, 0] rfl ?_
    exact B_X7_dries_85 C hE (mMo.kd (mo_I e_20) (mMo.kd m_14 k_a0 (by decide)) (by decide)) k_23 h
  · have h := it_t h c_24
    refine r_aload_n C dX7_dries_70 (pc' := 71) rfl (j := 1) rfl ?_
    refine r_getf C (Cn := RX7) (T := TX7) 0 (mMo.kd (mo_I e_20) (mMo.kd m_14 k_a0 (by decide)) (by decide)) (by decide) vc_X7 in_X7 (by decide) q1224 dX7_dries_71 (pc' := 74) rfl (v := va_rf (mgR M_19 a0 0)) rfl ?_
    obtain ⟨b_102, e_103, k_104, h⟩ := h
    refine r_ref [] e_103 ?_
    refine r_bipush C dX7_dries_74 (pc' := 76) rfl (v := 12) rfl ?_
    refine r_iload_n C dX7_dries_76 (pc' := 77) rfl (j := 2) rfl ?_
    refine r_iadd C dX7_dries_77 (pc' := 78) rfl ?_
    obtain ⟨c_105, h⟩ := h
    refine r_iald C (j := (ix_ ((12 : Int32) + x1))) k_104 c_105 rfl dX7_dries_78 (pc' := 79) rfl ?_
    refine r_iconst C dX7_dries_79 (pc' := 80) rfl (v := 1) rfl ?_
    refine r_iadd C dX7_dries_80 (pc' := 81) rfl ?_
    refine r_goto C dX7_dries_81 (tgt := 85) (by decide) ?_
    refine r_sub (lv' := [(0, .ref a0), (1, .int x1), (4, .int r_13)]) [1, 2, 0] rfl ?_
    exact B_X7_dries_85 C hE (mMo.kd (mo_I e_20) (mMo.kd m_14 k_a0 (by decide)) (by decide)) k_23 h
set_option maxHeartbeats 4000000 in
theorem S_X7_dries {D : DD} {l : Launch} {M : MM} {a0 : Nat} {x1 : Int32} {x2 : Int32} {Post : MM → Prop} (k_a0 : mkd M a0 = 7) (h : wp_X7_dries M a0 x1 x2 Post) : mMet D l yX7_dries cX7_dries 6 (none) { frames := 3, cells := 0, slots := 0, locals := 74 } M [.ref a0, .int x1, .int x2] (pV_ Post) := by
  refine m_of2 [(0, .ref a0), (1, .int x1), (2, .int x2)] (by decide +kernel) (Nat.le_of_ble_eq_true rfl) rfl (fun E hED hEl C hE => ?_)
  subst hED
  subst hEl
  unfold wp_X7_dries at h
  refine r_aload_n C dX7_dries_0 (pc' := 1) rfl (j := 0) rfl ?_
  refine r_iload_n C dX7_dries_1 (pc' := 2) rfl (j := 1) rfl ?_
  refine r_callVv (As := [.int x1]) (rest := []) (Cn := RX7) (T := TX7) C k_a0 (by decide) vc_X7 (S_X7_feelsPlant k_a0 h) (lw_V q1534 q1536 qs75 q112 q1537) rfl hd_X7_feelsPlant rfl rfl (Nat.le_of_ble_eq_true rfl) (Nat.le_of_ble_eq_true rfl) (Nat.le_of_ble_eq_true rfl) rfl rfl (Nat.le_of_ble_eq_true rfl) (Nat.le_of_ble_eq_true rfl) dX7_dries_2 (pc' := 5) rfl (fun M_1 h m_3 => ?_)
  refine r_aload_n C dX7_dries_5 (pc' := 6) rfl (j := 0) rfl ?_
  refine r_iconst C dX7_dries_6 (pc' := 7) rfl (v := 0) rfl ?_
  refine r_bipush C dX7_dries_7 (pc' := 9) rfl (v := 101) rfl ?_
  refine r_bipush C dX7_dries_9 (pc' := 11) rfl (v := 9) rfl ?_
  refine r_callVi (As := [.int (0 : Int32), .int (101 : Int32), .int (9 : Int32)]) (rest := []) (Cn := RX7) (T := TX7) C (mMo.kd m_3 k_a0 (by decide)) (by decide) vc_X7 (S_X7_byText (mMo.kd m_3 k_a0 (by decide)) h) (lw_V q1545 q1547 qs77 q112 q1548) rfl hd_X7_byText rfl rfl (Nat.le_of_ble_eq_true rfl) (Nat.le_of_ble_eq_true rfl) (Nat.le_of_ble_eq_true rfl) rfl rfl (Nat.le_of_ble_eq_true rfl) (Nat.le_of_ble_eq_true rfl) dX7_dries_11 (pc' := 14) rfl (fun r_5 M_4 h m_6 => ?_)
  refine r_istore_n C (lv' := [(3, .int r_5), (0, .ref a0), (1, .int x1), (2, .int x2)]) dX7_dries_14 (pc' := 15) rfl rfl r_5 rfl (Nat.le_of_ble_eq_true rfl) rfl ?_
  refine r_iload_n C dX7_dries_15 (pc' := 16) rfl (j := 3) rfl ?_
  refine r_if_eq C dX7_dries_16 (pc' := 19) rfl (tgt := 31) (by decide) (fun c_7 => ?_) (fun c_7 => ?_)
  · have h := it_t h c_7
    refine r_sub (lv' := [(0, .ref a0), (1, .int x1), (3, .int r_5)]) [1, 2, 0] rfl ?_
    exact B_X7_dries_31 C hE (mMo.kd m_6 (mMo.kd m_3 k_a0 (by decide)) (by decide)) h
  · have h := it_f h c_7
    refine r_iload_n C dX7_dries_19 (pc' := 20) rfl (j := 0) rfl ?_
    refine r_aload_n C dX7_dries_20 (pc' := 21) rfl (j := 1) rfl ?_
    refine r_iconst C dX7_dries_21 (pc' := 22) rfl (v := 0) rfl ?_
    refine r_bipush C dX7_dries_22 (pc' := 24) rfl (v := 104) rfl ?_
    refine r_bipush C dX7_dries_24 (pc' := 26) rfl (v := 9) rfl ?_
    refine r_callVi (As := [.int (0 : Int32), .int (104 : Int32), .int (9 : Int32)]) (rest := [.int r_5]) (Cn := RX7) (T := TX7) C (mMo.kd m_6 (mMo.kd m_3 k_a0 (by decide)) (by decide)) (by decide) vc_X7 (S_X7_byText (mMo.kd m_6 (mMo.kd m_3 k_a0 (by decide)) (by decide)) h) (lw_V q1545 q1547 qs77 q112 q1548) rfl hd_X7_byText rfl rfl (Nat.le_of_ble_eq_true rfl) (Nat.le_of_ble_eq_true rfl) (Nat.le_of_ble_eq_true rfl) rfl rfl (Nat.le_of_ble_eq_true rfl) (Nat.le_of_ble_eq_true rfl) dX7_dries_26 (pc' := 29) rfl (fun r_107 M_106 h m_108 => ?_)
    refine r_iadd C dX7_dries_29 (pc' := 30) rfl ?_
    obtain ⟨x3_109, e_110, h⟩ := bn_ h
    refine r_istore_n C (lv' := [(3, .int x3_109), (0, .ref a0), (1, .int x1), (2, .int x2)]) dX7_dries_30 (pc' := 31) rfl rfl x3_109 e_110 (Nat.le_of_ble_eq_true rfl) rfl ?_
    refine r_sub (lv' := [(0, .ref a0), (1, .int x1), (3, .int x3_109)]) [1, 2, 0] rfl ?_
    exact B_X7_dries_31 C hE (mMo.kd m_108 (mMo.kd m_6 (mMo.kd m_3 k_a0 (by decide)) (by decide)) (by decide)) h
set_option maxHeartbeats 4000000 in
theorem S_X7_waters {D : DD} {l : Launch} {M : MM} {a0 : Nat} {x1 : Int32} {x2 : Int32} {Post : MM → Prop} (k_a0 : mkd M a0 = 7) (h : wp_X7_waters M a0 x1 x2 Post) : mMet D l yX7_waters cX7_waters 5 (none) { frames := 4, cells := 0, slots := 0, locals := 96 } M [.ref a0, .int x1, .int x2] (pV_ Post) := by
  refine m_of2 [(0, .ref a0), (1, .int x1), (2, .int x2)] (by decide +kernel) (Nat.le_of_ble_eq_true rfl) rfl (fun E hED hEl C hE => ?_)
  subst hED
  subst hEl
  unfold wp_X7_waters at h
  refine r_aload_n C dX7_waters_0 (pc' := 1) rfl (j := 0) rfl ?_
  refine r_iload_n C dX7_waters_1 (pc' := 2) rfl (j := 1) rfl ?_
  refine r_iload_n C dX7_waters_2 (pc' := 3) rfl (j := 2) rfl ?_
  refine r_callVi (As := [.int x1, .int x2]) (rest := []) (Cn := RX7) (T := TX7) C k_a0 (by decide) vc_X7 (S_X7_cupsOf k_a0 h) (lw_V q1530 q1532 qs74 q112 q1533) rfl hd_X7_cupsOf rfl rfl (Nat.le_of_ble_eq_true rfl) (Nat.le_of_ble_eq_true rfl) (Nat.le_of_ble_eq_true rfl) rfl rfl (Nat.le_of_ble_eq_true rfl) (Nat.le_of_ble_eq_true rfl) dX7_waters_3 (pc' := 6) rfl (fun r_2 M_1 h m_3 => ?_)
  refine r_istore_n C (lv' := [(3, .int r_2), (0, .ref a0), (1, .int x1), (2, .int x2)]) dX7_waters_6 (pc' := 7) rfl rfl r_2 rfl (Nat.le_of_ble_eq_true rfl) rfl ?_
  refine r_aload_n C dX7_waters_7 (pc' := 8) rfl (j := 1) rfl ?_
  refine r_getf C (Cn := RX7) (T := TX7) 0 (mMo.kd m_3 k_a0 (by decide)) (by decide) vc_X7 in_X7 (by decide) q1224 dX7_waters_8 (pc' := 11) rfl (v := va_rf (mgR M_1 a0 0)) rfl ?_
  obtain ⟨b_4, e_5, k_6, h⟩ := h
  refine r_ref [] e_5 ?_
  refine r_iconst C dX7_waters_11 (pc' := 12) rfl (v := 4) rfl ?_
  refine r_iload_n C dX7_waters_12 (pc' := 13) rfl (j := 3) rfl ?_
  refine r_iadd C dX7_waters_13 (pc' := 14) rfl ?_
  obtain ⟨c_7, h⟩ := h
  refine r_iald C (j := (ix_ ((4 : Int32) + x2))) k_6 c_7 rfl dX7_waters_14 (pc' := 15) rfl ?_
  refine r_iload_n C dX7_waters_15 (pc' := 16) rfl (j := 0) rfl ?_
  refine r_iadd C dX7_waters_16 (pc' := 17) rfl ?_
  obtain ⟨x4_8, e_9, h⟩ := bn_ h
  refine r_istore C (lv' := [(4, .int x4_8), (3, .int r_2), (0, .ref a0), (1, .int x1), (2, .int x2)]) dX7_waters_17 (pc' := 19) rfl x4_8 e_9 (Nat.le_of_ble_eq_true rfl) rfl ?_
  refine r_aload_n C dX7_waters_19 (pc' := 20) rfl (j := 2) rfl ?_
  refine r_getf C (Cn := RX7) (T := TX7) 0 (mMo.kd m_3 k_a0 (by decide)) (by decide) vc_X7 in_X7 (by decide) q1224 dX7_waters_20 (pc' := 23) rfl (v := va_rf (mgR M_1 a0 0)) rfl ?_
  obtain ⟨b_10, e_11, k_12, h⟩ := h
  refine r_ref [] e_11 ?_
  refine r_iconst C dX7_waters_23 (pc' := 24) rfl (v := 4) rfl ?_
  refine r_iload_n C dX7_waters_24 (pc' := 25) rfl (j := 4) rfl ?_
  refine r_iadd C dX7_waters_25 (pc' := 26) rfl ?_
  refine r_aload_n C dX7_waters_26 (pc' := 27) rfl (j := 2) rfl ?_
  refine r_getf C (Cn := RX7) (T := TX7) 0 (mMo.kd m_3 k_a0 (by decide)) (by decide) vc_X7 in_X7 (by decide) q1224 dX7_waters_27 (pc' := 30) rfl (v := va_rf (mgR M_1 a0 0)) rfl ?_
  obtain ⟨b_13, e_14, k_15, h⟩ := h
  refine r_ref [] e_14 ?_
  refine r_iconst C dX7_waters_30 (pc' := 31) rfl (v := 0) rfl ?_
  refine r_iload_n C dX7_waters_31 (pc' := 32) rfl (j := 4) rfl ?_
  refine r_iadd C dX7_waters_32 (pc' := 33) rfl ?_
  obtain ⟨c_16, h⟩ := h
  refine r_iald C (j := (ix_ ((0 : Int32) + x2))) k_15 c_16 rfl dX7_waters_33 (pc' := 34) rfl ?_
  refine r_iload C dX7_waters_34 (pc' := 36) rfl (j := 0) rfl ?_
  refine r_callSi (As := [.int (mgI M_1 b_13 (ix_ ((0 : Int32) + x2))), .int x4_8]) (rest := [.int ((4 : Int32) + x2), .ref b_10]) C (S_X7_min h) (lw_S q1417 q1418 q112 q1419) hd_X7_min rfl rfl (Nat.le_of_ble_eq_true rfl) (Nat.le_of_ble_eq_true rfl) (Nat.le_of_ble_eq_true rfl) rfl rfl (Nat.le_of_ble_eq_true rfl) (Nat.le_of_ble_eq_true rfl) dX7_waters_36 (pc' := 39) rfl (fun r_18 M_17 h m_19 => ?_)
  obtain ⟨c_20, h⟩ := h
  obtain ⟨M_21, e_22, h⟩ := bn_ h
  refine r_iast C (j := (ix_ ((4 : Int32) + x2))) (mMo.kd m_19 k_12 (by decide)) c_20 rfl dX7_waters_39 (pc' := 40) rfl M_21 e_22 ?_
  refine r_aload_n C dX7_waters_40 (pc' := 41) rfl (j := 2) rfl ?_
  refine r_getf C (Cn := RX7) (T := TX7) 0 (mMo.kd (mo_I e_22) (mMo.kd m_19 (mMo.kd m_3 k_a0 (by decide)) (by decide)) (by decide)) (by decide) vc_X7 in_X7 (by decide) q1224 dX7_waters_41 (pc' := 44) rfl (v := va_rf (mgR M_21 a0 0)) rfl ?_
  obtain ⟨b_23, e_24, k_25, h⟩ := h
  refine r_ref [] e_24 ?_
  refine r_bipush C dX7_waters_44 (pc' := 46) rfl (v := 68) rfl ?_
  refine r_iload_n C dX7_waters_46 (pc' := 47) rfl (j := 3) rfl ?_
  refine r_iadd C dX7_waters_47 (pc' := 48) rfl ?_
  refine r_aload_n C dX7_waters_48 (pc' := 49) rfl (j := 2) rfl ?_
  refine r_getf C (Cn := RX7) (T := TX7) 0 (mMo.kd (mo_I e_22) (mMo.kd m_19 (mMo.kd m_3 k_a0 (by decide)) (by decide)) (by decide)) (by decide) vc_X7 in_X7 (by decide) q1224 dX7_waters_49 (pc' := 52) rfl (v := va_rf (mgR M_21 a0 0)) rfl ?_
  obtain ⟨b_26, e_27, k_28, h⟩ := h
  refine r_ref [] e_27 ?_
  refine r_bipush C dX7_waters_52 (pc' := 54) rfl (v := 68) rfl ?_
  refine r_iload_n C dX7_waters_54 (pc' := 55) rfl (j := 3) rfl ?_
  refine r_iadd C dX7_waters_55 (pc' := 56) rfl ?_
  obtain ⟨c_29, h⟩ := h
  refine r_iald C (j := (ix_ ((68 : Int32) + x1))) k_28 c_29 rfl dX7_waters_56 (pc' := 57) rfl ?_
  refine r_iload_n C dX7_waters_57 (pc' := 58) rfl (j := 1) rfl ?_
  refine r_iadd C dX7_waters_58 (pc' := 59) rfl ?_
  obtain ⟨c_30, h⟩ := h
  obtain ⟨M_31, e_32, h⟩ := bn_ h
  refine r_iast C (j := (ix_ ((68 : Int32) + x1))) k_25 c_30 rfl dX7_waters_59 (pc' := 60) rfl M_31 e_32 ?_
  refine r_aload_n C dX7_waters_60 (pc' := 61) rfl (j := 2) rfl ?_
  refine r_aload_n C dX7_waters_61 (pc' := 62) rfl (j := 2) rfl ?_
  refine r_getf C (Cn := RX7) (T := TX7) 27 (mMo.kd (mo_I e_32) (mMo.kd (mo_I e_22) (mMo.kd m_19 (mMo.kd m_3 k_a0 (by decide)) (by decide)) (by decide)) (by decide)) (by decide) vc_X7 in_X7 (by decide) q1251 dX7_waters_62 (pc' := 65) rfl (v := .int (mgI M_31 a0 27)) rfl ?_
  refine r_iload_n C dX7_waters_65 (pc' := 66) rfl (j := 1) rfl ?_
  refine r_iadd C dX7_waters_66 (pc' := 67) rfl ?_
  obtain ⟨M_33, e_34, h⟩ := bn_ h
  refine r_putI C (Cn := RX7) (T := TX7) tyX7 27 (mMo.kd (mo_I e_32) (mMo.kd (mo_I e_22) (mMo.kd m_19 (mMo.kd m_3 k_a0 (by decide)) (by decide)) (by decide)) (by decide)) (by decide) vc_X7 in_X7 tyX7_ok nmX7 (by decide) q1251 rfl rfl dX7_waters_67 (pc' := 70) rfl rfl rfl M_33 e_34 ?_
  refine r_aload_n C dX7_waters_70 (pc' := 71) rfl (j := 2) rfl ?_
  refine r_aload_n C dX7_waters_71 (pc' := 72) rfl (j := 2) rfl ?_
  refine r_getf C (Cn := RX7) (T := TX7) 28 (mMo.kd (mo_I e_34) (mMo.kd (mo_I e_32) (mMo.kd (mo_I e_22) (mMo.kd m_19 (mMo.kd m_3 k_a0 (by decide)) (by decide)) (by decide)) (by decide)) (by decide)) (by decide) vc_X7 in_X7 (by decide) q1252 dX7_waters_72 (pc' := 75) rfl (v := .int (mgI M_33 a0 28)) rfl ?_
  refine r_iload C dX7_waters_75 (pc' := 77) rfl (j := 0) rfl ?_
  refine r_iadd C dX7_waters_77 (pc' := 78) rfl ?_
  refine r_aload_n C dX7_waters_78 (pc' := 79) rfl (j := 2) rfl ?_
  refine r_getf C (Cn := RX7) (T := TX7) 0 (mMo.kd (mo_I e_34) (mMo.kd (mo_I e_32) (mMo.kd (mo_I e_22) (mMo.kd m_19 (mMo.kd m_3 k_a0 (by decide)) (by decide)) (by decide)) (by decide)) (by decide)) (by decide) vc_X7 in_X7 (by decide) q1224 dX7_waters_79 (pc' := 82) rfl (v := va_rf (mgR M_33 a0 0)) rfl ?_
  obtain ⟨b_35, e_36, k_37, h⟩ := h
  refine r_ref [] e_36 ?_
  refine r_iconst C dX7_waters_82 (pc' := 83) rfl (v := 4) rfl ?_
  refine r_iload_n C dX7_waters_83 (pc' := 84) rfl (j := 4) rfl ?_
  refine r_iadd C dX7_waters_84 (pc' := 85) rfl ?_
  obtain ⟨c_38, h⟩ := h
  refine r_iald C (j := (ix_ ((4 : Int32) + x2))) k_37 c_38 rfl dX7_waters_85 (pc' := 86) rfl ?_
  refine r_isub C dX7_waters_86 (pc' := 87) rfl ?_
  obtain ⟨M_39, e_40, h⟩ := bn_ h
  refine r_putI C (Cn := RX7) (T := TX7) tyX7 28 (mMo.kd (mo_I e_34) (mMo.kd (mo_I e_32) (mMo.kd (mo_I e_22) (mMo.kd m_19 (mMo.kd m_3 k_a0 (by decide)) (by decide)) (by decide)) (by decide)) (by decide)) (by decide) vc_X7 in_X7 tyX7_ok nmX7 (by decide) q1252 rfl rfl dX7_waters_87 (pc' := 90) rfl rfl rfl M_39 e_40 ?_
  refine r_aload_n C dX7_waters_90 (pc' := 91) rfl (j := 2) rfl ?_
  refine r_getf C (Cn := RX7) (T := TX7) 30 (mMo.kd (mo_I e_40) (mMo.kd (mo_I e_34) (mMo.kd (mo_I e_32) (mMo.kd (mo_I e_22) (mMo.kd m_19 (mMo.kd m_3 k_a0 (by decide)) (by decide)) (by decide)) (by decide)) (by decide)) (by decide)) (by decide) vc_X7 in_X7 (by decide) q1254 dX7_waters_91 (pc' := 94) rfl (v := va_rf (mgR M_39 a0 30)) rfl ?_
  obtain ⟨b_41, e_42, k_43, h⟩ := h
  refine r_ref [] e_42 ?_
  refine r_iload_n C dX7_waters_94 (pc' := 95) rfl (j := 3) rfl ?_
  refine r_aload_n C dX7_waters_95 (pc' := 96) rfl (j := 2) rfl ?_
  refine r_getf C (Cn := RX7) (T := TX7) 30 (mMo.kd (mo_I e_40) (mMo.kd (mo_I e_34) (mMo.kd (mo_I e_32) (mMo.kd (mo_I e_22) (mMo.kd m_19 (mMo.kd m_3 k_a0 (by decide)) (by decide)) (by decide)) (by decide)) (by decide)) (by decide)) (by decide) vc_X7 in_X7 (by decide) q1254 dX7_waters_96 (pc' := 99) rfl (v := va_rf (mgR M_39 a0 30)) rfl ?_
  obtain ⟨b_44, e_45, k_46, h⟩ := h
  refine r_ref [] e_45 ?_
  refine r_iload_n C dX7_waters_99 (pc' := 100) rfl (j := 3) rfl ?_
  obtain ⟨c_47, h⟩ := h
  refine r_iald C (j := (ix_ x1)) k_46 c_47 rfl dX7_waters_100 (pc' := 101) rfl ?_
  refine r_iload_n C dX7_waters_101 (pc' := 102) rfl (j := 1) rfl ?_
  refine r_iadd C dX7_waters_102 (pc' := 103) rfl ?_
  obtain ⟨c_48, h⟩ := h
  obtain ⟨M_49, e_50, h⟩ := bn_ h
  refine r_iast C (j := (ix_ x1)) k_43 c_48 rfl dX7_waters_103 (pc' := 104) rfl M_49 e_50 ?_
  refine r_iload_n C dX7_waters_104 (pc' := 105) rfl (j := 1) rfl ?_
  refine r_if_le C dX7_waters_105 (pc' := 108) rfl (tgt := 138) (by decide) (fun c_51 => ?_) (fun c_51 => ?_)
  · have h := it_t h c_51
    exact r_vret C hE (Nat.le_of_ble_eq_true rfl) (Nat.le_of_ble_eq_true rfl) dX7_waters_138 ⟨rfl, h⟩
  · have h := it_f h c_51
    refine r_aload_n C dX7_waters_108 (pc' := 109) rfl (j := 2) rfl ?_
    refine r_getf C (Cn := RX7) (T := TX7) 0 (mMo.kd (mo_I e_50) (mMo.kd (mo_I e_40) (mMo.kd (mo_I e_34) (mMo.kd (mo_I e_32) (mMo.kd (mo_I e_22) (mMo.kd m_19 (mMo.kd m_3 k_a0 (by decide)) (by decide)) (by decide)) (by decide)) (by decide)) (by decide)) (by decide)) (by decide) vc_X7 in_X7 (by decide) q1224 dX7_waters_109 (pc' := 112) rfl (v := va_rf (mgR M_49 a0 0)) rfl ?_
    obtain ⟨b_52, e_53, k_54, h⟩ := h
    refine r_ref [] e_53 ?_
    refine r_bipush C dX7_waters_112 (pc' := 114) rfl (v := 20) rfl ?_
    refine r_iload_n C dX7_waters_114 (pc' := 115) rfl (j := 4) rfl ?_
    refine r_iadd C dX7_waters_115 (pc' := 116) rfl ?_
    obtain ⟨c_55, h⟩ := h
    refine r_iald C (j := (ix_ ((20 : Int32) + x2))) k_54 c_55 rfl dX7_waters_116 (pc' := 117) rfl ?_
    refine r_bipush C dX7_waters_117 (pc' := 119) rfl (v := -2) rfl ?_
    refine r_icmp_eq C dX7_waters_119 (pc' := 122) rfl (tgt := 138) (by decide) (fun c_56 => ?_) (fun c_56 => ?_)
    · have h := it_t h c_56
      exact r_vret C hE (Nat.le_of_ble_eq_true rfl) (Nat.le_of_ble_eq_true rfl) dX7_waters_138 ⟨rfl, h⟩
    · have h := it_f h c_56
      refine r_aload_n C dX7_waters_122 (pc' := 123) rfl (j := 2) rfl ?_
      refine r_getf C (Cn := RX7) (T := TX7) 0 (mMo.kd (mo_I e_50) (mMo.kd (mo_I e_40) (mMo.kd (mo_I e_34) (mMo.kd (mo_I e_32) (mMo.kd (mo_I e_22) (mMo.kd m_19 (mMo.kd m_3 k_a0 (by decide)) (by decide)) (by decide)) (by decide)) (by decide)) (by decide)) (by decide)) (by decide) vc_X7 in_X7 (by decide) q1224 dX7_waters_123 (pc' := 126) rfl (v := va_rf (mgR M_49 a0 0)) rfl ?_
      obtain ⟨b_57, e_58, k_59, h⟩ := h
      refine r_ref [] e_58 ?_
      refine r_bipush C dX7_waters_126 (pc' := 128) rfl (v := 20) rfl ?_
      refine r_iload_n C dX7_waters_128 (pc' := 129) rfl (j := 4) rfl ?_
      refine r_iadd C dX7_waters_129 (pc' := 130) rfl ?_
      refine r_aload_n C dX7_waters_130 (pc' := 131) rfl (j := 2) rfl ?_
      refine r_getf C (Cn := RX7) (T := TX7) 0 (mMo.kd (mo_I e_50) (mMo.kd (mo_I e_40) (mMo.kd (mo_I e_34) (mMo.kd (mo_I e_32) (mMo.kd (mo_I e_22) (mMo.kd m_19 (mMo.kd m_3 k_a0 (by decide)) (by decide)) (by decide)) (by decide)) (by decide)) (by decide)) (by decide)) (by decide) vc_X7 in_X7 (by decide) q1224 dX7_waters_131 (pc' := 134) rfl (v := va_rf (mgR M_49 a0 0)) rfl ?_
      obtain ⟨b_60, e_61, k_62, h⟩ := h
      refine r_ref [] e_61 ?_
      refine r_bipush C dX7_waters_134 (pc' := 136) rfl (v := 79) rfl ?_
      obtain ⟨c_63, h⟩ := h
      refine r_iald C (j := 79) k_62 (vp_l (by decide) (by decide) c_63) (by decide) dX7_waters_136 (pc' := 137) rfl ?_
      obtain ⟨c_64, h⟩ := h
      obtain ⟨M_65, e_66, h⟩ := bn_ h
      refine r_iast C (j := (ix_ ((20 : Int32) + x2))) k_59 c_64 rfl dX7_waters_137 (pc' := 138) rfl M_65 e_66 ?_
      exact r_vret C hE (Nat.le_of_ble_eq_true rfl) (Nat.le_of_ble_eq_true rfl) dX7_waters_138 ⟨rfl, h⟩
set_option maxHeartbeats 4000000 in
theorem B_X7_dayGoes_37 {E : mE} {a0 : Nat} {x1 : Int32} {X62 : MM → Prop} {Post : MM → Prop} (C : mC E yX7_dayGoes cX7_dayGoes 3 (none) { frames := 5, cells := 0, slots := 0, locals := 120 }) (hE : mEnd E { frames := 5, cells := 0, slots := 0, locals := 120 } (pV_ Post)) : ∀ (n_ : Nat) (M : MM) (x2 : Int32), mkd M a0 = 7 → wl_X7_dayGoes_37 a0 x1 X62 n_ M x2 → (∀ (M' : MM), mMo M M' → X62 M' → mV E M' 0 0 62 [(0, .ref a0), (1, .int x1)] []) → mV E M 0 0 37 [(0, .ref a0), (1, .int x1), (2, .int x2)] [] := by
  intro n_
  induction n_ with
  | zero =>
    intro M x2 k_a0 h hX62
    exact absurd h (by rw [wl_X7_dayGoes_37]; exact fun q => q)
  | succ n_ ih =>
    intro M x2 k_a0 h hX62
    rw [wl_X7_dayGoes_37] at h
    refine r_iload_n C dX7_dayGoes_37 (pc' := 38) rfl (j := 2) rfl ?_
    refine r_iconst C dX7_dayGoes_38 (pc' := 39) rfl (v := 4) rfl ?_
    refine r_icmp_ge C dX7_dayGoes_39 (pc' := 42) rfl (tgt := 62) (by decide) (fun c_16 => ?_) (fun c_16 => ?_)
    · have h := it_t h c_16
      refine r_sub (lv' := [(0, .ref a0), (1, .int x1)]) [0, 1] rfl ?_
      exact hX62 M mMo.rf h
    · have h := it_f h c_16
      refine r_aload_n C dX7_dayGoes_42 (pc' := 43) rfl (j := 0) rfl ?_
      refine r_iload_n C dX7_dayGoes_43 (pc' := 44) rfl (j := 2) rfl ?_
      refine r_callVi (As := [.int x2]) (rest := []) (Cn := RX7) (T := TX7) C k_a0 (by decide) vc_X7 (S_X7_lives k_a0 h) (lw_V q1413 q1415 qs52 q112 q1416) rfl hd_X7_lives rfl rfl (Nat.le_of_ble_eq_true rfl) (Nat.le_of_ble_eq_true rfl) (Nat.le_of_ble_eq_true rfl) rfl rfl (Nat.le_of_ble_eq_true rfl) (Nat.le_of_ble_eq_true rfl) dX7_dayGoes_44 (pc' := 47) rfl (fun r_18 M_17 h m_19 => ?_)
      refine r_if_eq C dX7_dayGoes_47 (pc' := 50) rfl (tgt := 56) (by decide) (fun c_20 => ?_) (fun c_20 => ?_)
      · have h := it_t h c_20
        obtain ⟨x2_21, e_22, h⟩ := bn_ h
        refine r_iinc C (lv' := [(2, .int x2_21), (0, .ref a0), (1, .int x1)]) dX7_dayGoes_56 (pc' := 59) rfl (j := 2) rfl x2_21 (by rw [e_22]; rfl) (Nat.le_of_ble_eq_true rfl) rfl ?_
        refine r_goto C dX7_dayGoes_59 (tgt := 37) (by decide) ?_
        refine r_sub (lv' := [(0, .ref a0), (1, .int x1), (2, .int x2_21)]) [1, 2, 0] rfl ?_
        exact ih M_17 x2_21 (mMo.kd m_19 k_a0 (by decide)) h (fun M9 hm9 h9 => hX62 M9 (mMo.tr m_19 hm9) h9)
      · have h := it_f h c_20
        refine r_aload_n C dX7_dayGoes_50 (pc' := 51) rfl (j := 0) rfl ?_
        refine r_iload_n C dX7_dayGoes_51 (pc' := 52) rfl (j := 1) rfl ?_
        refine r_iload_n C dX7_dayGoes_52 (pc' := 53) rfl (j := 2) rfl ?_
        refine r_callVv (As := [.int x1, .int x2]) (rest := []) (Cn := RX7) (T := TX7) C (mMo.kd m_19 k_a0 (by decide)) (by decide) vc_X7 (S_X7_waters (mMo.kd m_19 k_a0 (by decide)) h) (lw_V q1573 q1575 qs82 q112 q1576) rfl hd_X7_waters rfl rfl (Nat.le_of_ble_eq_true rfl) (Nat.le_of_ble_eq_true rfl) (Nat.le_of_ble_eq_true rfl) rfl rfl (Nat.le_of_ble_eq_true rfl) (Nat.le_of_ble_eq_true rfl) dX7_dayGoes_53 (pc' := 56) rfl (fun M_23 h m_25 => ?_)
        obtain ⟨x2_26, e_27, h⟩ := bn_ h
        refine r_iinc C (lv' := [(2, .int x2_26), (0, .ref a0), (1, .int x1)]) dX7_dayGoes_56 (pc' := 59) rfl (j := 2) rfl x2_26 (by rw [e_27]; rfl) (Nat.le_of_ble_eq_true rfl) rfl ?_
        refine r_goto C dX7_dayGoes_59 (tgt := 37) (by decide) ?_
        refine r_sub (lv' := [(0, .ref a0), (1, .int x1), (2, .int x2_26)]) [1, 2, 0] rfl ?_
        exact ih M_23 x2_26 (mMo.kd m_25 (mMo.kd m_19 k_a0 (by decide)) (by decide)) h (fun M9 hm9 h9 => hX62 M9 (mMo.tr (mMo.tr m_19 m_25) hm9) h9)
set_option maxHeartbeats 4000000 in
theorem B_X7_dayGoes_2 {E : mE} {a0 : Nat} {X68 : MM → Prop} {Post : MM → Prop} (C : mC E yX7_dayGoes cX7_dayGoes 3 (none) { frames := 5, cells := 0, slots := 0, locals := 120 }) (hE : mEnd E { frames := 5, cells := 0, slots := 0, locals := 120 } (pV_ Post)) : ∀ (n_ : Nat) (M : MM) (x1 : Int32), mkd M a0 = 7 → wl_X7_dayGoes_2 a0 X68 n_ M x1 → (∀ (M' : MM), mMo M M' → X68 M' → mV E M' 0 0 68 [(0, .ref a0)] []) → mV E M 0 0 2 [(0, .ref a0), (1, .int x1)] [] := by
  intro n_
  induction n_ with
  | zero =>
    intro M x1 k_a0 h hX68
    exact absurd h (by rw [wl_X7_dayGoes_2]; exact fun q => q)
  | succ n_ ih =>
    intro M x1 k_a0 h hX68
    rw [wl_X7_dayGoes_2] at h
    refine r_iload_n C dX7_dayGoes_2 (pc' := 3) rfl (j := 1) rfl ?_
    refine r_bipush C dX7_dayGoes_3 (pc' := 5) rfl (v := 8) rfl ?_
    refine r_icmp_ge C dX7_dayGoes_5 (pc' := 8) rfl (tgt := 68) (by decide) (fun c_1 => ?_) (fun c_1 => ?_)
    · have h := it_t h c_1
      refine r_sub (lv' := [(0, .ref a0)]) [0] rfl ?_
      exact hX68 M mMo.rf h
    · have h := it_f h c_1
      refine r_aload_n C dX7_dayGoes_8 (pc' := 9) rfl (j := 0) rfl ?_
      refine r_iload_n C dX7_dayGoes_9 (pc' := 10) rfl (j := 1) rfl ?_
      refine r_callVi (As := [.int x1]) (rest := []) (Cn := RX7) (T := TX7) C k_a0 (by decide) vc_X7 (S_X7_isPerson k_a0 h) (lw_V q1526 q1528 qs73 q112 q1529) rfl hd_X7_isPerson rfl rfl (Nat.le_of_ble_eq_true rfl) (Nat.le_of_ble_eq_true rfl) (Nat.le_of_ble_eq_true rfl) rfl rfl (Nat.le_of_ble_eq_true rfl) (Nat.le_of_ble_eq_true rfl) dX7_dayGoes_10 (pc' := 13) rfl (fun r_3 M_2 h m_4 => ?_)
      refine r_if_eq C dX7_dayGoes_13 (pc' := 16) rfl (tgt := 62) (by decide) (fun c_5 => ?_) (fun c_5 => ?_)
      · have h := it_t h c_5
        obtain ⟨x1_6, e_7, h⟩ := bn_ h
        refine r_iinc C (lv' := [(1, .int x1_6), (0, .ref a0)]) dX7_dayGoes_62 (pc' := 65) rfl (j := 1) rfl x1_6 (by rw [e_7]; rfl) (Nat.le_of_ble_eq_true rfl) rfl ?_
        refine r_goto C dX7_dayGoes_65 (tgt := 2) (by decide) ?_
        refine r_sub (lv' := [(0, .ref a0), (1, .int x1_6)]) [1, 0] rfl ?_
        exact ih M_2 x1_6 (mMo.kd m_4 k_a0 (by decide)) h (fun M9 hm9 h9 => hX68 M9 (mMo.tr m_4 hm9) h9)
      · have h := it_f h c_5
        refine r_aload_n C dX7_dayGoes_16 (pc' := 17) rfl (j := 0) rfl ?_
        refine r_callVi (As := []) (rest := []) (Cn := RX7) (T := TX7) C (mMo.kd m_4 k_a0 (by decide)) (by decide) vc_X7 (S_X7_draws (mMo.kd m_4 k_a0 (by decide)) h) (lw_V q1568 q1570 qs81 q112 q1571) rfl hd_X7_draws rfl rfl (Nat.le_of_ble_eq_true rfl) (Nat.le_of_ble_eq_true rfl) (Nat.le_of_ble_eq_true rfl) rfl rfl (Nat.le_of_ble_eq_true rfl) (Nat.le_of_ble_eq_true rfl) dX7_dayGoes_17 (pc' := 20) rfl (fun r_9 M_8 h m_10 => ?_)
        refine r_aload_n C dX7_dayGoes_20 (pc' := 21) rfl (j := 0) rfl ?_
        refine r_getf C (Cn := RX7) (T := TX7) 0 (mMo.kd m_10 (mMo.kd m_4 k_a0 (by decide)) (by decide)) (by decide) vc_X7 in_X7 (by decide) q1224 dX7_dayGoes_21 (pc' := 24) rfl (v := va_rf (mgR M_8 a0 0)) rfl ?_
        obtain ⟨b_11, e_12, k_13, h⟩ := h
        refine r_ref [] e_12 ?_
        refine r_bipush C dX7_dayGoes_24 (pc' := 26) rfl (v := 52) rfl ?_
        refine r_iload_n C dX7_dayGoes_26 (pc' := 27) rfl (j := 1) rfl ?_
        refine r_iadd C dX7_dayGoes_27 (pc' := 28) rfl ?_
        obtain ⟨c_14, h⟩ := h
        refine r_iald C (j := (ix_ ((52 : Int32) + x1))) k_13 c_14 rfl dX7_dayGoes_28 (pc' := 29) rfl ?_
        refine r_icmp_lt C dX7_dayGoes_29 (pc' := 32) rfl (tgt := 35) (by decide) (fun c_15 => ?_) (fun c_15 => ?_)
        · have h := it_t h c_15
          refine r_iconst C dX7_dayGoes_35 (pc' := 36) rfl (v := 0) rfl ?_
          refine r_istore_n C (lv' := [(2, .int (0 : Int32)), (0, .ref a0), (1, .int x1)]) dX7_dayGoes_36 (pc' := 37) rfl rfl (0 : Int32) rfl (Nat.le_of_ble_eq_true rfl) rfl ?_
          obtain ⟨n_28, h⟩ := h
          refine r_sub (lv' := [(0, .ref a0), (1, .int x1), (2, .int (0 : Int32))]) [1, 2, 0] rfl ?_
          refine B_X7_dayGoes_37 C hE n_28 M_8 (0 : Int32) (mMo.kd m_10 (mMo.kd m_4 k_a0 (by decide)) (by decide)) h (fun M_29 m_30 h => ?_)
          obtain ⟨x1_31, e_32, h⟩ := bn_ h
          refine r_iinc C (lv' := [(1, .int x1_31), (0, .ref a0)]) dX7_dayGoes_62 (pc' := 65) rfl (j := 1) rfl x1_31 (by rw [e_32]; rfl) (Nat.le_of_ble_eq_true rfl) rfl ?_
          refine r_goto C dX7_dayGoes_65 (tgt := 2) (by decide) ?_
          refine r_sub (lv' := [(0, .ref a0), (1, .int x1_31)]) [1, 0] rfl ?_
          exact ih M_29 x1_31 (mMo.kd m_30 (mMo.kd m_10 (mMo.kd m_4 k_a0 (by decide)) (by decide)) (by decide)) h (fun M9 hm9 h9 => hX68 M9 (mMo.tr (mMo.tr (mMo.tr m_4 m_10) m_30) hm9) h9)
        · have h := it_f h c_15
          refine r_goto C dX7_dayGoes_32 (tgt := 62) (by decide) ?_
          obtain ⟨x1_33, e_34, h⟩ := bn_ h
          refine r_iinc C (lv' := [(1, .int x1_33), (0, .ref a0)]) dX7_dayGoes_62 (pc' := 65) rfl (j := 1) rfl x1_33 (by rw [e_34]; rfl) (Nat.le_of_ble_eq_true rfl) rfl ?_
          refine r_goto C dX7_dayGoes_65 (tgt := 2) (by decide) ?_
          refine r_sub (lv' := [(0, .ref a0), (1, .int x1_33)]) [1, 0] rfl ?_
          exact ih M_8 x1_33 (mMo.kd m_10 (mMo.kd m_4 k_a0 (by decide)) (by decide)) h (fun M9 hm9 h9 => hX68 M9 (mMo.tr (mMo.tr m_4 m_10) hm9) h9)
set_option maxHeartbeats 4000000 in
theorem B_X7_dayGoes_114 {E : mE} {M : MM} {a0 : Nat} {x1 : Int32} {x2 : Int32} {as0 : Nat} {xs1 : Int32} {xs2 : Int32} {R : MM → Int32 → Prop} {X130 : MM → Prop} {Post : MM → Prop} (C : mC E yX7_dayGoes cX7_dayGoes 3 (none) { frames := 5, cells := 0, slots := 0, locals := 120 }) (hE : mEnd E { frames := 5, cells := 0, slots := 0, locals := 120 } (pV_ Post)) (k_a0 : mkd M a0 = 7) (k_as0 : mkd M as0 = 7) (h : wb_X7_dayGoes_114 M a0 x1 x2 as0 xs1 xs2 R X130) (hR : ∀ (M' : MM) (x1' : Int32), mMo M M' → mkd M' a0 = 7 → R M' x1' → mV E M' 0 0 70 [(0, .ref a0), (1, .int x1')] []) (hX130 : ∀ (M' : MM), mMo M M' → X130 M' → mV E M' 0 0 130 [(0, .ref a0)] []) : mV E M 0 0 114 [(0, .ref a0), (1, .int x1), (2, .int x2)] [.int xs2, .int xs1, .ref as0] := by
  unfold wb_X7_dayGoes_114 at h
  refine r_iadd C dX7_dayGoes_114 (pc' := 115) rfl ?_
  obtain ⟨M_48, e_49, h⟩ := bn_ h
  refine r_putI C (Cn := RX7) (T := TX7) tyX7 29 k_as0 (by decide) vc_X7 in_X7 tyX7_ok nmX7 (by decide) q1253 rfl rfl dX7_dayGoes_115 (pc' := 118) rfl rfl rfl M_48 e_49 ?_
  refine r_aload_n C dX7_dayGoes_118 (pc' := 119) rfl (j := 0) rfl ?_
  refine r_iload_n C dX7_dayGoes_119 (pc' := 120) rfl (j := 1) rfl ?_
  refine r_iload_n C dX7_dayGoes_120 (pc' := 121) rfl (j := 2) rfl ?_
  refine r_callVv (As := [.int x1, .int x2]) (rest := []) (Cn := RX7) (T := TX7) C (mMo.kd (mo_I e_49) k_a0 (by decide)) (by decide) vc_X7 (S_X7_dries (mMo.kd (mo_I e_49) k_a0 (by decide)) h) (lw_V q1577 q1579 qs83 q112 q1580) rfl hd_X7_dries rfl rfl (Nat.le_of_ble_eq_true rfl) (Nat.le_of_ble_eq_true rfl) (Nat.le_of_ble_eq_true rfl) rfl rfl (Nat.le_of_ble_eq_true rfl) (Nat.le_of_ble_eq_true rfl) dX7_dayGoes_121 (pc' := 124) rfl (fun M_50 h m_52 => ?_)
  obtain ⟨x1_53, e_54, h⟩ := bn_ h
  refine r_iinc C (lv' := [(1, .int x1_53), (0, .ref a0), (2, .int x2)]) dX7_dayGoes_124 (pc' := 127) rfl (j := 1) rfl x1_53 (by rw [e_54]; rfl) (Nat.le_of_ble_eq_true rfl) rfl ?_
  refine r_goto C dX7_dayGoes_127 (tgt := 70) (by decide) ?_
  refine r_sub (lv' := [(0, .ref a0), (1, .int x1_53)]) [1, 0] rfl ?_
  exact hR M_50 x1_53 (mMo.tr (mo_I e_49) m_52) (mMo.kd m_52 (mMo.kd (mo_I e_49) k_a0 (by decide)) (by decide)) h
set_option maxHeartbeats 4000000 in
theorem B_X7_dayGoes_99 {E : mE} {M : MM} {a0 : Nat} {x1 : Int32} {xs0 : Int32} {R : MM → Int32 → Prop} {X130 : MM → Prop} {Post : MM → Prop} (C : mC E yX7_dayGoes cX7_dayGoes 3 (none) { frames := 5, cells := 0, slots := 0, locals := 120 }) (hE : mEnd E { frames := 5, cells := 0, slots := 0, locals := 120 } (pV_ Post)) (k_a0 : mkd M a0 = 7) (h : wb_X7_dayGoes_99 M a0 x1 xs0 R X130) (hR : ∀ (M' : MM) (x1' : Int32), mMo M M' → mkd M' a0 = 7 → R M' x1' → mV E M' 0 0 70 [(0, .ref a0), (1, .int x1')] []) (hX130 : ∀ (M' : MM), mMo M M' → X130 M' → mV E M' 0 0 130 [(0, .ref a0)] []) : mV E M 0 0 99 [(0, .ref a0), (1, .int x1)] [.int xs0] := by
  unfold wb_X7_dayGoes_99 at h
  refine r_istore_n C (lv' := [(2, .int xs0), (0, .ref a0), (1, .int x1)]) dX7_dayGoes_99 (pc' := 100) rfl rfl xs0 rfl (Nat.le_of_ble_eq_true rfl) rfl ?_
  refine r_aload_n C dX7_dayGoes_100 (pc' := 101) rfl (j := 1) rfl ?_
  refine r_aload_n C dX7_dayGoes_101 (pc' := 102) rfl (j := 1) rfl ?_
  refine r_getf C (Cn := RX7) (T := TX7) 29 k_a0 (by decide) vc_X7 in_X7 (by decide) q1253 dX7_dayGoes_102 (pc' := 105) rfl (v := .int (mgI M a0 29)) rfl ?_
  refine r_iload_n C dX7_dayGoes_105 (pc' := 106) rfl (j := 0) rfl ?_
  refine r_if_eq C dX7_dayGoes_106 (pc' := 109) rfl (tgt := 113) (by decide) (fun c_47 => ?_) (fun c_47 => ?_)
  · have h := it_t h c_47
    refine r_iconst C dX7_dayGoes_113 (pc' := 114) rfl (v := 0) rfl ?_
    refine r_sub (lv' := [(0, .ref a0), (1, .int x1), (2, .int xs0)]) [1, 2, 0] rfl ?_
    exact B_X7_dayGoes_114 C hE k_a0 k_a0 h (fun M8 v0 hm8 g0 h8 => hR M8 v0 hm8 g0 h8) (fun M9 hm9 h9 => hX130 M9 hm9 h9)
  · have h := it_f h c_47
    refine r_iconst C dX7_dayGoes_109 (pc' := 110) rfl (v := 1) rfl ?_
    refine r_goto C dX7_dayGoes_110 (tgt := 114) (by decide) ?_
    refine r_sub (lv' := [(0, .ref a0), (1, .int x1), (2, .int xs0)]) [1, 2, 0] rfl ?_
    exact B_X7_dayGoes_114 C hE k_a0 k_a0 h (fun M8 v0 hm8 g0 h8 => hR M8 v0 hm8 g0 h8) (fun M9 hm9 h9 => hX130 M9 hm9 h9)
set_option maxHeartbeats 4000000 in
theorem B_X7_dayGoes_70 {E : mE} {a0 : Nat} {X130 : MM → Prop} {Post : MM → Prop} (C : mC E yX7_dayGoes cX7_dayGoes 3 (none) { frames := 5, cells := 0, slots := 0, locals := 120 }) (hE : mEnd E { frames := 5, cells := 0, slots := 0, locals := 120 } (pV_ Post)) : ∀ (n_ : Nat) (M : MM) (x1 : Int32), mkd M a0 = 7 → wl_X7_dayGoes_70 a0 X130 n_ M x1 → (∀ (M' : MM), mMo M M' → X130 M' → mV E M' 0 0 130 [(0, .ref a0)] []) → mV E M 0 0 70 [(0, .ref a0), (1, .int x1)] [] := by
  intro n_
  induction n_ with
  | zero =>
    intro M x1 k_a0 h hX130
    exact absurd h (by rw [wl_X7_dayGoes_70]; exact fun q => q)
  | succ n_ ih =>
    intro M x1 k_a0 h hX130
    rw [wl_X7_dayGoes_70] at h
    refine r_iload_n C dX7_dayGoes_70 (pc' := 71) rfl (j := 1) rfl ?_
    refine r_iconst C dX7_dayGoes_71 (pc' := 72) rfl (v := 4) rfl ?_
    refine r_icmp_ge C dX7_dayGoes_72 (pc' := 75) rfl (tgt := 130) (by decide) (fun c_38 => ?_) (fun c_38 => ?_)
    · have h := it_t h c_38
      refine r_sub (lv' := [(0, .ref a0)]) [0] rfl ?_
      exact hX130 M mMo.rf h
    · have h := it_f h c_38
      refine r_aload_n C dX7_dayGoes_75 (pc' := 76) rfl (j := 0) rfl ?_
      refine r_iload_n C dX7_dayGoes_76 (pc' := 77) rfl (j := 1) rfl ?_
      refine r_callVi (As := [.int x1]) (rest := []) (Cn := RX7) (T := TX7) C k_a0 (by decide) vc_X7 (S_X7_lives k_a0 h) (lw_V q1413 q1415 qs52 q112 q1416) rfl hd_X7_lives rfl rfl (Nat.le_of_ble_eq_true rfl) (Nat.le_of_ble_eq_true rfl) (Nat.le_of_ble_eq_true rfl) rfl rfl (Nat.le_of_ble_eq_true rfl) (Nat.le_of_ble_eq_true rfl) dX7_dayGoes_77 (pc' := 80) rfl (fun r_40 M_39 h m_41 => ?_)
      refine r_if_ne C dX7_dayGoes_80 (pc' := 83) rfl (tgt := 86) (by decide) (fun c_42 => ?_) (fun c_42 => ?_)
      · have h := it_f h c_42
        refine r_aload_n C dX7_dayGoes_86 (pc' := 87) rfl (j := 0) rfl ?_
        refine r_callVi (As := []) (rest := []) (Cn := RX7) (T := TX7) C (mMo.kd m_41 k_a0 (by decide)) (by decide) vc_X7 (S_X7_draws (mMo.kd m_41 k_a0 (by decide)) h) (lw_V q1568 q1570 qs81 q112 q1571) rfl hd_X7_draws rfl rfl (Nat.le_of_ble_eq_true rfl) (Nat.le_of_ble_eq_true rfl) (Nat.le_of_ble_eq_true rfl) rfl rfl (Nat.le_of_ble_eq_true rfl) (Nat.le_of_ble_eq_true rfl) dX7_dayGoes_87 (pc' := 90) rfl (fun r_44 M_43 h m_45 => ?_)
        refine r_iconst C dX7_dayGoes_90 (pc' := 91) rfl (v := 5) rfl ?_
        refine r_icmp_ge C dX7_dayGoes_91 (pc' := 94) rfl (tgt := 98) (by decide) (fun c_46 => ?_) (fun c_46 => ?_)
        · have h := it_t h c_46
          refine r_iconst C dX7_dayGoes_98 (pc' := 99) rfl (v := 0) rfl ?_
          refine r_sub (lv' := [(0, .ref a0), (1, .int x1)]) [0, 1] rfl ?_
          exact B_X7_dayGoes_99 C hE (mMo.kd m_45 (mMo.kd m_41 k_a0 (by decide)) (by decide)) h (fun M8 v0 hm8 g0 h8 => ih M8 v0 g0 h8 (fun M9 hm9 h9 => hX130 M9 (mMo.tr (mMo.tr (mMo.tr m_41 m_45) hm8) hm9) h9)) (fun M9 hm9 h9 => hX130 M9 (mMo.tr (mMo.tr m_41 m_45) hm9) h9)
        · have h := it_f h c_46
          refine r_iconst C dX7_dayGoes_94 (pc' := 95) rfl (v := 1) rfl ?_
          refine r_goto C dX7_dayGoes_95 (tgt := 99) (by decide) ?_
          refine r_sub (lv' := [(0, .ref a0), (1, .int x1)]) [0, 1] rfl ?_
          exact B_X7_dayGoes_99 C hE (mMo.kd m_45 (mMo.kd m_41 k_a0 (by decide)) (by decide)) h (fun M8 v0 hm8 g0 h8 => ih M8 v0 g0 h8 (fun M9 hm9 h9 => hX130 M9 (mMo.tr (mMo.tr (mMo.tr m_41 m_45) hm8) hm9) h9)) (fun M9 hm9 h9 => hX130 M9 (mMo.tr (mMo.tr m_41 m_45) hm9) h9)
      · have h := it_t h c_42
        refine r_goto C dX7_dayGoes_83 (tgt := 124) (by decide) ?_
        obtain ⟨x1_55, e_56, h⟩ := bn_ h
        refine r_iinc C (lv' := [(1, .int x1_55), (0, .ref a0)]) dX7_dayGoes_124 (pc' := 127) rfl (j := 1) rfl x1_55 (by rw [e_56]; rfl) (Nat.le_of_ble_eq_true rfl) rfl ?_
        refine r_goto C dX7_dayGoes_127 (tgt := 70) (by decide) ?_
        refine r_sub (lv' := [(0, .ref a0), (1, .int x1_55)]) [1, 0] rfl ?_
        exact ih M_39 x1_55 (mMo.kd m_41 k_a0 (by decide)) h (fun M9 hm9 h9 => hX130 M9 (mMo.tr m_41 hm9) h9)
set_option maxHeartbeats 4000000 in
theorem S_X7_dayGoes {D : DD} {l : Launch} {M : MM} {a0 : Nat} {Post : MM → Prop} (k_a0 : mkd M a0 = 7) (h : wp_X7_dayGoes M a0 Post) : mMet D l yX7_dayGoes cX7_dayGoes 3 (none) { frames := 5, cells := 0, slots := 0, locals := 120 } M [.ref a0] (pV_ Post) := by
  refine m_of2 [(0, .ref a0)] (by decide +kernel) (Nat.le_of_ble_eq_true rfl) rfl (fun E hED hEl C hE => ?_)
  subst hED
  subst hEl
  unfold wp_X7_dayGoes at h
  refine r_iconst C dX7_dayGoes_0 (pc' := 1) rfl (v := 0) rfl ?_
  refine r_istore_n C (lv' := [(1, .int (0 : Int32)), (0, .ref a0)]) dX7_dayGoes_1 (pc' := 2) rfl rfl (0 : Int32) rfl (Nat.le_of_ble_eq_true rfl) rfl ?_
  obtain ⟨n_35, h⟩ := h
  refine r_sub (lv' := [(0, .ref a0), (1, .int (0 : Int32))]) [1, 0] rfl ?_
  refine B_X7_dayGoes_2 C hE n_35 M (0 : Int32) k_a0 h (fun M_36 m_37 h => ?_)
  refine r_iconst C dX7_dayGoes_68 (pc' := 69) rfl (v := 0) rfl ?_
  refine r_istore_n C (lv' := [(1, .int (0 : Int32)), (0, .ref a0)]) dX7_dayGoes_69 (pc' := 70) rfl rfl (0 : Int32) rfl (Nat.le_of_ble_eq_true rfl) rfl ?_
  obtain ⟨n_57, h⟩ := h
  refine r_sub (lv' := [(0, .ref a0), (1, .int (0 : Int32))]) [1, 0] rfl ?_
  refine B_X7_dayGoes_70 C hE n_57 M_36 (0 : Int32) (mMo.kd m_37 k_a0 (by decide)) h (fun M_58 m_59 h => ?_)
  refine r_aload_n C dX7_dayGoes_130 (pc' := 131) rfl (j := 0) rfl ?_
  refine r_getf C (Cn := RX7) (T := TX7) 0 (mMo.kd m_59 (mMo.kd m_37 k_a0 (by decide)) (by decide)) (by decide) vc_X7 in_X7 (by decide) q1224 dX7_dayGoes_131 (pc' := 134) rfl (v := va_rf (mgR M_58 a0 0)) rfl ?_
  obtain ⟨b_60, e_61, k_62, h⟩ := h
  refine r_ref [] e_61 ?_
  refine r_bipush C dX7_dayGoes_134 (pc' := 136) rfl (v := 79) rfl ?_
  refine r_aload_n C dX7_dayGoes_136 (pc' := 137) rfl (j := 0) rfl ?_
  refine r_getf C (Cn := RX7) (T := TX7) 0 (mMo.kd m_59 (mMo.kd m_37 k_a0 (by decide)) (by decide)) (by decide) vc_X7 in_X7 (by decide) q1224 dX7_dayGoes_137 (pc' := 140) rfl (v := va_rf (mgR M_58 a0 0)) rfl ?_
  obtain ⟨b_63, e_64, k_65, h⟩ := h
  refine r_ref [] e_64 ?_
  refine r_bipush C dX7_dayGoes_140 (pc' := 142) rfl (v := 79) rfl ?_
  obtain ⟨c_66, h⟩ := h
  refine r_iald C (j := 79) k_65 (vp_l (by decide) (by decide) c_66) (by decide) dX7_dayGoes_142 (pc' := 143) rfl ?_
  refine r_iconst C dX7_dayGoes_143 (pc' := 144) rfl (v := 1) rfl ?_
  refine r_iadd C dX7_dayGoes_144 (pc' := 145) rfl ?_
  obtain ⟨c_67, h⟩ := h
  obtain ⟨M_68, e_69, h⟩ := bn_ h
  refine r_iast C (j := 79) k_62 (vp_l (by decide) (by decide) c_67) (by decide) dX7_dayGoes_145 (pc' := 146) rfl M_68 e_69 ?_
  exact r_vret C hE (Nat.le_of_ble_eq_true rfl) (Nat.le_of_ble_eq_true rfl) dX7_dayGoes_146 ⟨rfl, h⟩
set_option maxHeartbeats 4000000 in
theorem B_X7_daysGo_17 {E : mE} {a0 : Nat} {x1 : Int32} {X36 : MM → Prop} {Post : MM → Prop} (C : mC E yX7_daysGo cX7_daysGo 3 (none) { frames := 6, cells := 0, slots := 0, locals := 142 }) (hE : mEnd E { frames := 6, cells := 0, slots := 0, locals := 142 } (pV_ Post)) : ∀ (n_ : Nat) (M : MM) (x2 : Int32), mkd M a0 = 7 → wl_X7_daysGo_17 a0 x1 X36 n_ M x2 → (∀ (M' : MM), mMo M M' → X36 M' → mV E M' 0 0 36 [(0, .ref a0), (1, .int x1)] []) → mV E M 0 0 17 [(0, .ref a0), (1, .int x1), (2, .int x2)] [] := by
  intro n_
  induction n_ with
  | zero =>
    intro M x2 k_a0 h hX36
    exact absurd h (by rw [wl_X7_daysGo_17]; exact fun q => q)
  | succ n_ ih =>
    intro M x2 k_a0 h hX36
    rw [wl_X7_daysGo_17] at h
    refine r_iload_n C dX7_daysGo_17 (pc' := 18) rfl (j := 2) rfl ?_
    refine r_bipush C dX7_daysGo_18 (pc' := 20) rfl (v := 8) rfl ?_
    refine r_icmp_ge C dX7_daysGo_20 (pc' := 23) rfl (tgt := 36) (by decide) (fun c_7 => ?_) (fun c_7 => ?_)
    · have h := it_t h c_7
      refine r_sub (lv' := [(0, .ref a0), (1, .int x1)]) [0, 1] rfl ?_
      exact hX36 M mMo.rf h
    · have h := it_f h c_7
      refine r_aload_n C dX7_daysGo_23 (pc' := 24) rfl (j := 0) rfl ?_
      refine r_getf C (Cn := RX7) (T := TX7) 30 k_a0 (by decide) vc_X7 in_X7 (by decide) q1254 dX7_daysGo_24 (pc' := 27) rfl (v := va_rf (mgR M a0 30)) rfl ?_
      obtain ⟨b_8, e_9, k_10, h⟩ := h
      refine r_ref [] e_9 ?_
      refine r_iload_n C dX7_daysGo_27 (pc' := 28) rfl (j := 2) rfl ?_
      refine r_iconst C dX7_daysGo_28 (pc' := 29) rfl (v := 0) rfl ?_
      obtain ⟨c_11, h⟩ := h
      obtain ⟨M_12, e_13, h⟩ := bn_ h
      refine r_iast C (j := (ix_ x2)) k_10 c_11 rfl dX7_daysGo_29 (pc' := 30) rfl M_12 e_13 ?_
      obtain ⟨x2_14, e_15, h⟩ := bn_ h
      refine r_iinc C (lv' := [(2, .int x2_14), (0, .ref a0), (1, .int x1)]) dX7_daysGo_30 (pc' := 33) rfl (j := 2) rfl x2_14 (by rw [e_15]; rfl) (Nat.le_of_ble_eq_true rfl) rfl ?_
      refine r_goto C dX7_daysGo_33 (tgt := 17) (by decide) ?_
      refine r_sub (lv' := [(0, .ref a0), (1, .int x1), (2, .int x2_14)]) [1, 2, 0] rfl ?_
      exact ih M_12 x2_14 (mMo.kd (mo_I e_13) k_a0 (by decide)) h (fun M9 hm9 h9 => hX36 M9 (mMo.tr (mo_I e_13) hm9) h9)
set_option maxHeartbeats 4000000 in
theorem B_X7_daysGo_38 {E : mE} {a0 : Nat} {x1 : Int32} {X66 : MM → Prop} {Post : MM → Prop} (C : mC E yX7_daysGo cX7_daysGo 3 (none) { frames := 6, cells := 0, slots := 0, locals := 142 }) (hE : mEnd E { frames := 6, cells := 0, slots := 0, locals := 142 } (pV_ Post)) : ∀ (n_ : Nat) (M : MM) (x2 : Int32), mkd M a0 = 7 → wl_X7_daysGo_38 a0 x1 X66 n_ M x2 → (∀ (M' : MM), mMo M M' → X66 M' → mV E M' 0 0 66 [] []) → mV E M 0 0 38 [(0, .ref a0), (1, .int x1), (2, .int x2)] [] := by
  intro n_
  induction n_ with
  | zero =>
    intro M x2 k_a0 h hX66
    exact absurd h (by rw [wl_X7_daysGo_38]; exact fun q => q)
  | succ n_ ih =>
    intro M x2 k_a0 h hX66
    rw [wl_X7_daysGo_38] at h
    refine r_iload_n C dX7_daysGo_38 (pc' := 39) rfl (j := 2) rfl ?_
    refine r_iload_n C dX7_daysGo_39 (pc' := 40) rfl (j := 1) rfl ?_
    refine r_icmp_ge C dX7_daysGo_40 (pc' := 43) rfl (tgt := 66) (by decide) (fun c_19 => ?_) (fun c_19 => ?_)
    · have h := it_t h c_19
      refine r_sub (lv' := []) [] rfl ?_
      exact hX66 M mMo.rf h
    · have h := it_f h c_19
      refine r_aload_n C dX7_daysGo_43 (pc' := 44) rfl (j := 0) rfl ?_
      refine r_getf C (Cn := RX7) (T := TX7) 0 k_a0 (by decide) vc_X7 in_X7 (by decide) q1224 dX7_daysGo_44 (pc' := 47) rfl (v := va_rf (mgR M a0 0)) rfl ?_
      obtain ⟨b_20, e_21, k_22, h⟩ := h
      refine r_ref [] e_21 ?_
      refine r_bipush C dX7_daysGo_47 (pc' := 49) rfl (v := 79) rfl ?_
      obtain ⟨c_23, h⟩ := h
      refine r_iald C (j := 79) k_22 (vp_l (by decide) (by decide) c_23) (by decide) dX7_daysGo_49 (pc' := 50) rfl ?_
      refine r_sipush C dX7_daysGo_50 (pc' := 53) rfl (v := 9999) rfl ?_
      refine r_icmp_ge C dX7_daysGo_53 (pc' := 56) rfl (tgt := 66) (by decide) (fun c_24 => ?_) (fun c_24 => ?_)
      · have h := it_t h c_24
        refine r_sub (lv' := []) [] rfl ?_
        exact hX66 M mMo.rf h
      · have h := it_f h c_24
        refine r_aload_n C dX7_daysGo_56 (pc' := 57) rfl (j := 0) rfl ?_
        refine r_callVv (As := []) (rest := []) (Cn := RX7) (T := TX7) C k_a0 (by decide) vc_X7 (S_X7_dayGoes k_a0 h) (lw_V q1564 q1566 qs80 q112 q1567) rfl hd_X7_dayGoes rfl rfl (Nat.le_of_ble_eq_true rfl) (Nat.le_of_ble_eq_true rfl) (Nat.le_of_ble_eq_true rfl) rfl rfl (Nat.le_of_ble_eq_true rfl) (Nat.le_of_ble_eq_true rfl) dX7_daysGo_57 (pc' := 60) rfl (fun M_25 h m_27 => ?_)
        obtain ⟨x2_28, e_29, h⟩ := bn_ h
        refine r_iinc C (lv' := [(2, .int x2_28), (0, .ref a0), (1, .int x1)]) dX7_daysGo_60 (pc' := 63) rfl (j := 2) rfl x2_28 (by rw [e_29]; rfl) (Nat.le_of_ble_eq_true rfl) rfl ?_
        refine r_goto C dX7_daysGo_63 (tgt := 38) (by decide) ?_
        refine r_sub (lv' := [(0, .ref a0), (1, .int x1), (2, .int x2_28)]) [1, 2, 0] rfl ?_
        exact ih M_25 x2_28 (mMo.kd m_27 k_a0 (by decide)) h (fun M9 hm9 h9 => hX66 M9 (mMo.tr m_27 hm9) h9)
set_option maxHeartbeats 4000000 in
theorem S_X7_daysGo {D : DD} {l : Launch} {M : MM} {a0 : Nat} {x1 : Int32} {Post : MM → Prop} (k_a0 : mkd M a0 = 7) (h : wp_X7_daysGo M a0 x1 Post) : mMet D l yX7_daysGo cX7_daysGo 3 (none) { frames := 6, cells := 0, slots := 0, locals := 142 } M [.ref a0, .int x1] (pV_ Post) := by
  refine m_of2 [(0, .ref a0), (1, .int x1)] (by decide +kernel) (Nat.le_of_ble_eq_true rfl) rfl (fun E hED hEl C hE => ?_)
  subst hED
  subst hEl
  unfold wp_X7_daysGo at h
  refine r_aload_n C dX7_daysGo_0 (pc' := 1) rfl (j := 0) rfl ?_
  refine r_iconst C dX7_daysGo_1 (pc' := 2) rfl (v := 0) rfl ?_
  obtain ⟨M_1, e_2, h⟩ := bn_ h
  refine r_putI C (Cn := RX7) (T := TX7) tyX7 27 k_a0 (by decide) vc_X7 in_X7 tyX7_ok nmX7 (by decide) q1251 rfl rfl dX7_daysGo_2 (pc' := 5) rfl rfl rfl M_1 e_2 ?_
  refine r_aload_n C dX7_daysGo_5 (pc' := 6) rfl (j := 0) rfl ?_
  refine r_iconst C dX7_daysGo_6 (pc' := 7) rfl (v := 0) rfl ?_
  obtain ⟨M_3, e_4, h⟩ := bn_ h
  refine r_putI C (Cn := RX7) (T := TX7) tyX7 28 (mMo.kd (mo_I e_2) k_a0 (by decide)) (by decide) vc_X7 in_X7 tyX7_ok nmX7 (by decide) q1252 rfl rfl dX7_daysGo_7 (pc' := 10) rfl rfl rfl M_3 e_4 ?_
  refine r_aload_n C dX7_daysGo_10 (pc' := 11) rfl (j := 0) rfl ?_
  refine r_iconst C dX7_daysGo_11 (pc' := 12) rfl (v := 0) rfl ?_
  obtain ⟨M_5, e_6, h⟩ := bn_ h
  refine r_putI C (Cn := RX7) (T := TX7) tyX7 29 (mMo.kd (mo_I e_4) (mMo.kd (mo_I e_2) k_a0 (by decide)) (by decide)) (by decide) vc_X7 in_X7 tyX7_ok nmX7 (by decide) q1253 rfl rfl dX7_daysGo_12 (pc' := 15) rfl rfl rfl M_5 e_6 ?_
  refine r_iconst C dX7_daysGo_15 (pc' := 16) rfl (v := 0) rfl ?_
  refine r_istore_n C (lv' := [(2, .int (0 : Int32)), (0, .ref a0), (1, .int x1)]) dX7_daysGo_16 (pc' := 17) rfl rfl (0 : Int32) rfl (Nat.le_of_ble_eq_true rfl) rfl ?_
  obtain ⟨n_16, h⟩ := h
  refine r_sub (lv' := [(0, .ref a0), (1, .int x1), (2, .int (0 : Int32))]) [1, 2, 0] rfl ?_
  refine B_X7_daysGo_17 C hE n_16 M_5 (0 : Int32) (mMo.kd (mo_I e_6) (mMo.kd (mo_I e_4) (mMo.kd (mo_I e_2) k_a0 (by decide)) (by decide)) (by decide)) h (fun M_17 m_18 h => ?_)
  refine r_iconst C dX7_daysGo_36 (pc' := 37) rfl (v := 0) rfl ?_
  refine r_istore_n C (lv' := [(2, .int (0 : Int32)), (0, .ref a0), (1, .int x1)]) dX7_daysGo_37 (pc' := 38) rfl rfl (0 : Int32) rfl (Nat.le_of_ble_eq_true rfl) rfl ?_
  obtain ⟨n_30, h⟩ := h
  refine r_sub (lv' := [(0, .ref a0), (1, .int x1), (2, .int (0 : Int32))]) [1, 2, 0] rfl ?_
  refine B_X7_daysGo_38 C hE n_30 M_17 (0 : Int32) (mMo.kd m_18 (mMo.kd (mo_I e_6) (mMo.kd (mo_I e_4) (mMo.kd (mo_I e_2) k_a0 (by decide)) (by decide)) (by decide)) (by decide)) h (fun M_31 m_32 h => ?_)
  exact r_vret C hE (Nat.le_of_ble_eq_true rfl) (Nat.le_of_ble_eq_true rfl) dX7_daysGo_66 ⟨rfl, h⟩
set_option maxHeartbeats 4000000 in
theorem S_X7_days {D : DD} {l : Launch} {M : MM} {a0 : Nat} {x1 : Int32} {Post : Int32 → MM → Prop} (k_a0 : mkd M a0 = 7) (h : wp_X7_days M a0 x1 Post) : mMet D l yX7_days cX7_days 2 ((some .int)) { frames := 7, cells := 0, slots := 0, locals := 164 } M [.ref a0, .int x1] (pI_ Post) := by
  refine m_of2 [(0, .ref a0), (1, .int x1)] (by decide +kernel) (Nat.le_of_ble_eq_true rfl) rfl (fun E hED hEl C hE => ?_)
  subst hED
  subst hEl
  unfold wp_X7_days at h
  refine r_iload_n C dX7_days_0 (pc' := 1) rfl (j := 1) rfl ?_
  refine r_iconst C dX7_days_1 (pc' := 2) rfl (v := 1) rfl ?_
  refine r_bipush C dX7_days_2 (pc' := 4) rfl (v := 60) rfl ?_
  refine r_callSi (As := [.int x1, .int (1 : Int32), .int (60 : Int32)]) (rest := []) C (S_X7_in h) (lw_S q1391 q1392 q112 q1393) hd_X7_in rfl rfl (Nat.le_of_ble_eq_true rfl) (Nat.le_of_ble_eq_true rfl) (Nat.le_of_ble_eq_true rfl) rfl rfl (Nat.le_of_ble_eq_true rfl) (Nat.le_of_ble_eq_true rfl) dX7_days_4 (pc' := 7) rfl (fun r_2 M_1 h m_3 => ?_)
  refine r_if_ne C dX7_days_7 (pc' := 10) rfl (tgt := 12) (by decide) (fun c_4 => ?_) (fun c_4 => ?_)
  · have h := it_f h c_4
    refine r_aload_n C dX7_days_12 (pc' := 13) rfl (j := 0) rfl ?_
    refine r_iload_n C dX7_days_13 (pc' := 14) rfl (j := 1) rfl ?_
    refine r_callVv (As := [.int x1]) (rest := []) (Cn := RX7) (T := TX7) C (mMo.kd m_3 k_a0 (by decide)) (by decide) vc_X7 (S_X7_daysGo (mMo.kd m_3 k_a0 (by decide)) h) (lw_V q1560 q1562 qs79 q112 q1563) rfl hd_X7_daysGo rfl rfl (Nat.le_of_ble_eq_true rfl) (Nat.le_of_ble_eq_true rfl) (Nat.le_of_ble_eq_true rfl) rfl rfl (Nat.le_of_ble_eq_true rfl) (Nat.le_of_ble_eq_true rfl) dX7_days_14 (pc' := 17) rfl (fun M_5 h m_7 => ?_)
    refine r_aload_n C dX7_days_17 (pc' := 18) rfl (j := 0) rfl ?_
    refine r_getf C (Cn := RX7) (T := TX7) 27 (mMo.kd m_7 (mMo.kd m_3 k_a0 (by decide)) (by decide)) (by decide) vc_X7 in_X7 (by decide) q1251 dX7_days_18 (pc' := 21) rfl (v := .int (mgI M_5 a0 27)) rfl ?_
    exact r_iret C hE (Nat.le_of_ble_eq_true rfl) (Nat.le_of_ble_eq_true rfl) dX7_days_21 ⟨_, rfl, h⟩
  · have h := it_t h c_4
    refine r_iconst C dX7_days_10 (pc' := 11) rfl (v := -1) rfl ?_
    exact r_iret C hE (Nat.le_of_ble_eq_true rfl) (Nat.le_of_ble_eq_true rfl) dX7_days_11 ⟨_, rfl, h⟩
set_option maxHeartbeats 4000000 in
theorem B_X7_copies_2 {E : mE} {a0 : Nat} {a1 : Nat} {X20 : MM → Prop} {Post : MM → Prop} (C : mC E yX7_copies cX7_copies 3 (none) { frames := 0, cells := 0, slots := 0, locals := 0 }) (hE : mEnd E { frames := 0, cells := 0, slots := 0, locals := 0 } (pV_ Post)) : ∀ (n_ : Nat) (M : MM) (x2 : Int32), mkd M a0 = 100 → mkd M a1 = 100 → wl_X7_copies_2 a0 a1 X20 n_ M x2 → (∀ (M' : MM), mMo M M' → X20 M' → mV E M' 0 0 20 [] []) → mV E M 0 0 2 [(0, .ref a0), (1, .ref a1), (2, .int x2)] [] := by
  intro n_
  induction n_ with
  | zero =>
    intro M x2 k_a0 k_a1 h hX20
    exact absurd h (by rw [wl_X7_copies_2]; exact fun q => q)
  | succ n_ ih =>
    intro M x2 k_a0 k_a1 h hX20
    rw [wl_X7_copies_2] at h
    refine r_iload_n C dX7_copies_2 (pc' := 3) rfl (j := 2) rfl ?_
    refine r_bipush C dX7_copies_3 (pc' := 5) rfl (v := 81) rfl ?_
    refine r_icmp_ge C dX7_copies_5 (pc' := 8) rfl (tgt := 20) (by decide) (fun c_1 => ?_) (fun c_1 => ?_)
    · have h := it_t h c_1
      refine r_sub (lv' := []) [] rfl ?_
      exact hX20 M mMo.rf h
    · have h := it_f h c_1
      refine r_aload_n C dX7_copies_8 (pc' := 9) rfl (j := 1) rfl ?_
      refine r_iload_n C dX7_copies_9 (pc' := 10) rfl (j := 2) rfl ?_
      refine r_aload_n C dX7_copies_10 (pc' := 11) rfl (j := 0) rfl ?_
      refine r_iload_n C dX7_copies_11 (pc' := 12) rfl (j := 2) rfl ?_
      obtain ⟨c_2, h⟩ := h
      refine r_iald C (j := (ix_ x2)) k_a0 c_2 rfl dX7_copies_12 (pc' := 13) rfl ?_
      obtain ⟨c_3, h⟩ := h
      obtain ⟨M_4, e_5, h⟩ := bn_ h
      refine r_iast C (j := (ix_ x2)) k_a1 c_3 rfl dX7_copies_13 (pc' := 14) rfl M_4 e_5 ?_
      obtain ⟨x2_6, e_7, h⟩ := bn_ h
      refine r_iinc C (lv' := [(2, .int x2_6), (0, .ref a0), (1, .ref a1)]) dX7_copies_14 (pc' := 17) rfl (j := 2) rfl x2_6 (by rw [e_7]; rfl) (Nat.le_of_ble_eq_true rfl) rfl ?_
      refine r_goto C dX7_copies_17 (tgt := 2) (by decide) ?_
      refine r_sub (lv' := [(0, .ref a0), (1, .ref a1), (2, .int x2_6)]) [1, 2, 0] rfl ?_
      exact ih M_4 x2_6 (mMo.kd (mo_I e_5) k_a0 (by decide)) (mMo.kd (mo_I e_5) k_a1 (by decide)) h (fun M9 hm9 h9 => hX20 M9 (mMo.tr (mo_I e_5) hm9) h9)
set_option maxHeartbeats 4000000 in
theorem S_X7_copies {D : DD} {l : Launch} {M : MM} {a0 : Nat} {a1 : Nat} {Post : MM → Prop} (k_a0 : mkd M a0 = 100) (k_a1 : mkd M a1 = 100) (h : wp_X7_copies M a0 a1 Post) : mMet D l yX7_copies cX7_copies 3 (none) { frames := 0, cells := 0, slots := 0, locals := 0 } M [.ref a0, .ref a1] (pV_ Post) := by
  refine m_of2 [(0, .ref a0), (1, .ref a1)] (by decide +kernel) (Nat.le_of_ble_eq_true rfl) rfl (fun E hED hEl C hE => ?_)
  subst hED
  subst hEl
  unfold wp_X7_copies at h
  refine r_iconst C dX7_copies_0 (pc' := 1) rfl (v := 0) rfl ?_
  refine r_istore_n C (lv' := [(2, .int (0 : Int32)), (0, .ref a0), (1, .ref a1)]) dX7_copies_1 (pc' := 2) rfl rfl (0 : Int32) rfl (Nat.le_of_ble_eq_true rfl) rfl ?_
  obtain ⟨n_8, h⟩ := h
  refine r_sub (lv' := [(0, .ref a0), (1, .ref a1), (2, .int (0 : Int32))]) [1, 2, 0] rfl ?_
  refine B_X7_copies_2 C hE n_8 M (0 : Int32) k_a0 k_a1 h (fun M_9 m_10 h => ?_)
  exact r_vret C hE (Nat.le_of_ble_eq_true rfl) (Nat.le_of_ble_eq_true rfl) dX7_copies_20 ⟨rfl, h⟩
