set_option maxRecDepth 100000

def wb_L_law_317 (L : Nat) (xs : Nat → Int32) (D : DD) (bc bs : Nat) (k n : Nat) (M : MM) (a0 : Nat) (a1 : Nat) (a2 : Nat) (x3 : Int32) (xs0 : Int32) (as1 : Nat) (xs2 : Int32) (xs3 : Int32) (R : Nat → Nat → MM → Int32 → Prop) (Post : Int32 → MM → Prop) : Prop :=
  wp_X7_card M as1 xs2 xs3 (fun r_70 M_69 => if xs0 = r_70 then (∀ x3_73, x3_73 = x3 + 6 → R k n M_69 x3_73)
  else (Post (0 : Int32) M_69))
def wb_L_law_295 (L : Nat) (xs : Nat → Int32) (D : DD) (bc bs : Nat) (k n : Nat) (M : MM) (a0 : Nat) (a1 : Nat) (a2 : Nat) (x3 : Int32) (as0 : Nat) (xs1 : Int32) (xs2 : Int32) (R : Nat → Nat → MM → Int32 → Prop) (Post : Int32 → MM → Prop) : Prop :=
  wp_X0_card M as0 xs1 xs2 (fun r_64 M_63 => vp_in (x3 + (1 : Int32)) L ∧ vp_in (x3 + (2 : Int32)) L ∧ if (xs (ix_ (x3 + (2 : Int32)))) = 0 then (wb_L_law_317 L xs D bc bs k n M_63 a0 a1 a2 x3 r_64 a2 (xs (ix_ (x3 + (1 : Int32)))) (0 : Int32) R Post)
  else (wb_L_law_317 L xs D bc bs k n M_63 a0 a1 a2 x3 r_64 a2 (xs (ix_ (x3 + (1 : Int32)))) (1 : Int32) R Post))
def wl_L_law_18 (L : Nat) (xs : Nat → Int32) (D : DD) (bc bs : Nat) (a0 : Nat) (a1 : Nat) (a2 : Nat) (Post : Int32 → MM → Prop) : Nat → Nat → Nat → MM → Int32 → Prop
  | 0, _, _, _, _ => False
  | n_ + 1, k, n, M, x3 =>
  if ((nI L) - (6 : Int32)) < x3 then (Post (1 : Int32) M)
  else (vp_in x3 L ∧ if ((xs (ix_ x3)) &&& (63 : Int32)) = 0 then (vp_in (x3 + (1 : Int32)) L ∧ vp_in (x3 + (2 : Int32)) L ∧ vp_in (x3 + (3 : Int32)) L ∧ vp_in (x3 + (4 : Int32)) L ∧ wp_X0_plant M a1 (xs (ix_ (x3 + (1 : Int32)))) (xs (ix_ (x3 + (2 : Int32)))) (xs (ix_ (x3 + (3 : Int32)))) (xs (ix_ (x3 + (4 : Int32)))) (fun r_31 M_30 => vp_in (x3 + (1 : Int32)) L ∧ vp_in (x3 + (2 : Int32)) L ∧ vp_in (x3 + (3 : Int32)) L ∧ vp_in (x3 + (4 : Int32)) L ∧ wp_X7_plant M_30 a2 (xs (ix_ (x3 + (1 : Int32)))) (xs (ix_ (x3 + (2 : Int32)))) (xs (ix_ (x3 + (3 : Int32)))) (xs (ix_ (x3 + (4 : Int32)))) (fun r_38 M_37 => if r_31 = r_38 then (∀ x3_41, x3_41 = x3 + 6 → wl_L_law_18 L xs D bc bs a0 a1 a2 Post n_ k n M_37 x3_41)
  else (Post (0 : Int32) M_37))))
  else (if ((xs (ix_ x3)) &&& (63 : Int32)) = 1 then (vp_in (x3 + (1 : Int32)) L ∧ vp_in (x3 + (2 : Int32)) L ∧ vp_in (x3 + (3 : Int32)) L ∧ wp_X0_person M a1 (xs (ix_ (x3 + (1 : Int32)))) (xs (ix_ (x3 + (2 : Int32)))) (xs (ix_ (x3 + (3 : Int32)))) (fun r_48 M_47 => vp_in (x3 + (1 : Int32)) L ∧ vp_in (x3 + (2 : Int32)) L ∧ vp_in (x3 + (3 : Int32)) L ∧ wp_X7_person M_47 a2 (xs (ix_ (x3 + (1 : Int32)))) (xs (ix_ (x3 + (2 : Int32)))) (xs (ix_ (x3 + (3 : Int32)))) (fun r_54 M_53 => if r_48 = r_54 then (∀ x3_57, x3_57 = x3 + 6 → wl_L_law_18 L xs D bc bs a0 a1 a2 Post n_ k n M_53 x3_57)
  else (Post (0 : Int32) M_53))))
  else (if ((xs (ix_ x3)) &&& (63 : Int32)) = 2 then (vp_in (x3 + (1 : Int32)) L ∧ vp_in (x3 + (2 : Int32)) L ∧ if (xs (ix_ (x3 + (2 : Int32)))) = 0 then (wb_L_law_295 L xs D bc bs k n M a0 a1 a2 x3 a1 (xs (ix_ (x3 + (1 : Int32)))) (0 : Int32) (wl_L_law_18 L xs D bc bs a0 a1 a2 Post n_) Post)
  else (wb_L_law_295 L xs D bc bs k n M a0 a1 a2 x3 a1 (xs (ix_ (x3 + (1 : Int32)))) (1 : Int32) (wl_L_law_18 L xs D bc bs a0 a1 a2 Post n_) Post))
  else (if ((xs (ix_ x3)) &&& (63 : Int32)) = 3 then (vp_in (x3 + (1 : Int32)) L ∧ vp_in (x3 + (2 : Int32)) L ∧ wp_X0_pour M a1 (xs (ix_ (x3 + (1 : Int32)))) (xs (ix_ (x3 + (2 : Int32)))) (fun r_79 M_78 => vp_in (x3 + (1 : Int32)) L ∧ vp_in (x3 + (2 : Int32)) L ∧ wp_X7_pour M_78 a2 (xs (ix_ (x3 + (1 : Int32)))) (xs (ix_ (x3 + (2 : Int32)))) (fun r_84 M_83 => if r_79 = r_84 then (∀ x3_87, x3_87 = x3 + 6 → wl_L_law_18 L xs D bc bs a0 a1 a2 Post n_ k n M_83 x3_87)
  else (Post (0 : Int32) M_83))))
  else (if ((xs (ix_ x3)) &&& (63 : Int32)) = 4 then (vp_in (x3 + (1 : Int32)) L ∧ vp_in (x3 + (2 : Int32)) L ∧ vp_in (x3 + (3 : Int32)) L ∧ vp_in (x3 + (4 : Int32)) L ∧ vp_in (x3 + (5 : Int32)) L ∧ wp_X0_feed M a1 (xs (ix_ (x3 + (1 : Int32)))) (xs (ix_ (x3 + (2 : Int32)))) (xs (ix_ (x3 + (3 : Int32)))) (xs (ix_ (x3 + (4 : Int32)))) (xs (ix_ (x3 + (5 : Int32)))) (fun r_96 M_95 => vp_in (x3 + (1 : Int32)) L ∧ vp_in (x3 + (2 : Int32)) L ∧ vp_in (x3 + (3 : Int32)) L ∧ vp_in (x3 + (4 : Int32)) L ∧ vp_in (x3 + (5 : Int32)) L ∧ wp_X7_feed M_95 a2 (xs (ix_ (x3 + (1 : Int32)))) (xs (ix_ (x3 + (2 : Int32)))) (xs (ix_ (x3 + (3 : Int32)))) (xs (ix_ (x3 + (4 : Int32)))) (xs (ix_ (x3 + (5 : Int32)))) (fun r_104 M_103 => if r_96 = r_104 then (∀ x3_107, x3_107 = x3 + 6 → wl_L_law_18 L xs D bc bs a0 a1 a2 Post n_ k n M_103 x3_107)
  else (Post (0 : Int32) M_103))))
  else (if ((xs (ix_ x3)) &&& (63 : Int32)) = 5 then (vp_in (x3 + (1 : Int32)) L ∧ ∃ c_111 s_112, (k + c_111 ≤ bc ∧ n + s_112 ≤ bs) ∧ wp_X0_law D c_111 s_112 M a1 (xs (ix_ (x3 + (1 : Int32)))) (fun r_115 M_114 => vp_in (x3 + (1 : Int32)) L ∧ wp_X7_law M_114 a2 (xs (ix_ (x3 + (1 : Int32)))) (fun r_119 M_118 => if r_115 = r_119 then (∀ x3_122, x3_122 = x3 + 6 → wl_L_law_18 L xs D bc bs a0 a1 a2 Post n_ (k + c_111) (n + s_112) M_118 x3_122)
  else (Post (0 : Int32) M_118))))
  else (if ((xs (ix_ x3)) &&& (63 : Int32)) = 6 then (vp_in (x3 + (1 : Int32)) L ∧ vp_in (x3 + (2 : Int32)) L ∧ ∃ c_127 s_128, (k + c_127 ≤ bc ∧ n + s_128 ≤ bs) ∧ wp_X0_rule D c_127 s_128 M a1 (xs (ix_ (x3 + (1 : Int32)))) (xs (ix_ (x3 + (2 : Int32)))) (fun r_131 M_130 => vp_in (x3 + (1 : Int32)) L ∧ vp_in (x3 + (2 : Int32)) L ∧ wp_X7_rule M_130 a2 (xs (ix_ (x3 + (1 : Int32)))) (xs (ix_ (x3 + (2 : Int32)))) (fun r_136 M_135 => if r_131 = r_136 then (∀ x3_139, x3_139 = x3 + 6 → wl_L_law_18 L xs D bc bs a0 a1 a2 Post n_ (k + c_127) (n + s_128) M_135 x3_139)
  else (Post (0 : Int32) M_135))))
  else (if ((xs (ix_ x3)) &&& (63 : Int32)) = 7 then (vp_in (x3 + (1 : Int32)) L ∧ wp_X0_days M a1 (xs (ix_ (x3 + (1 : Int32)))) (fun r_144 M_143 => vp_in (x3 + (1 : Int32)) L ∧ wp_X7_days M_143 a2 (xs (ix_ (x3 + (1 : Int32)))) (fun r_148 M_147 => if r_144 = r_148 then (∀ x3_151, x3_151 = x3 + 6 → wl_L_law_18 L xs D bc bs a0 a1 a2 Post n_ k n M_147 x3_151)
  else (Post (0 : Int32) M_147))))
  else (if ((xs (ix_ x3)) &&& (63 : Int32)) = 8 then (vp_in (x3 + (1 : Int32)) L ∧ vp_in (x3 + (2 : Int32)) L ∧ wp_X0_tried M a1 (xs (ix_ (x3 + (1 : Int32)))) (xs (ix_ (x3 + (2 : Int32)))) (fun r_157 M_156 => vp_in (x3 + (1 : Int32)) L ∧ vp_in (x3 + (2 : Int32)) L ∧ wp_X7_tried M_156 a2 (xs (ix_ (x3 + (1 : Int32)))) (xs (ix_ (x3 + (2 : Int32)))) (fun r_162 M_161 => if r_157 = r_162 then (∀ x3_165, x3_165 = x3 + 6 → wl_L_law_18 L xs D bc bs a0 a1 a2 Post n_ k n M_161 x3_165)
  else (Post (0 : Int32) M_161))))
  else (if ((xs (ix_ x3)) &&& (63 : Int32)) = 9 then (vp_in (x3 + (1 : Int32)) L ∧ vp_in (x3 + (2 : Int32)) L ∧ wp_X0_plantIs M a1 (xs (ix_ (x3 + (1 : Int32)))) (xs (ix_ (x3 + (2 : Int32)))) (fun r_171 M_170 => vp_in (x3 + (1 : Int32)) L ∧ vp_in (x3 + (2 : Int32)) L ∧ wp_X7_plantIs M_170 a2 (xs (ix_ (x3 + (1 : Int32)))) (xs (ix_ (x3 + (2 : Int32)))) (fun r_176 M_175 => if r_171 = r_176 then (∀ x3_179, x3_179 = x3 + 6 → wl_L_law_18 L xs D bc bs a0 a1 a2 Post n_ k n M_175 x3_179)
  else (Post (0 : Int32) M_175))))
  else (if ((xs (ix_ x3)) &&& (63 : Int32)) = 10 then (vp_in (x3 + (1 : Int32)) L ∧ vp_in (x3 + (2 : Int32)) L ∧ wp_X0_gives M a1 (xs (ix_ (x3 + (1 : Int32)))) (xs (ix_ (x3 + (2 : Int32)))) (fun r_185 M_184 => vp_in (x3 + (1 : Int32)) L ∧ vp_in (x3 + (2 : Int32)) L ∧ wp_X7_gives M_184 a2 (xs (ix_ (x3 + (1 : Int32)))) (xs (ix_ (x3 + (2 : Int32)))) (fun r_190 M_189 => if r_185 = r_190 then (∀ x3_193, x3_193 = x3 + 6 → wl_L_law_18 L xs D bc bs a0 a1 a2 Post n_ k n M_189 x3_193)
  else (Post (0 : Int32) M_189))))
  else (if ((xs (ix_ x3)) &&& (63 : Int32)) = 11 then (vp_in (x3 + (1 : Int32)) L ∧ vp_in (x3 + (2 : Int32)) L ∧ vp_in (x3 + (3 : Int32)) L ∧ vp_in (x3 + (4 : Int32)) L ∧ wp_X0_exactly M a1 (xs (ix_ (x3 + (1 : Int32)))) (xs (ix_ (x3 + (2 : Int32)))) (xs (ix_ (x3 + (3 : Int32)))) (xs (ix_ (x3 + (4 : Int32)))) (fun r_201 M_200 => vp_in (x3 + (1 : Int32)) L ∧ vp_in (x3 + (2 : Int32)) L ∧ vp_in (x3 + (3 : Int32)) L ∧ vp_in (x3 + (4 : Int32)) L ∧ wp_X7_exactly M_200 a2 (xs (ix_ (x3 + (1 : Int32)))) (xs (ix_ (x3 + (2 : Int32)))) (xs (ix_ (x3 + (3 : Int32)))) (xs (ix_ (x3 + (4 : Int32)))) (fun r_208 M_207 => if r_201 = r_208 then (∀ x3_211, x3_211 = x3 + 6 → wl_L_law_18 L xs D bc bs a0 a1 a2 Post n_ k n M_207 x3_211)
  else (Post (0 : Int32) M_207))))
  else (if ((xs (ix_ x3)) &&& (63 : Int32)) = 12 then (vp_in (x3 + (1 : Int32)) L ∧ vp_in (x3 + (2 : Int32)) L ∧ vp_in (x3 + (3 : Int32)) L ∧ vp_in (x3 + (4 : Int32)) L ∧ wp_X0_chance M a1 (xs (ix_ (x3 + (1 : Int32)))) (xs (ix_ (x3 + (2 : Int32)))) (xs (ix_ (x3 + (3 : Int32)))) (xs (ix_ (x3 + (4 : Int32)))) (fun r_219 M_218 => vp_in (x3 + (1 : Int32)) L ∧ vp_in (x3 + (2 : Int32)) L ∧ vp_in (x3 + (3 : Int32)) L ∧ vp_in (x3 + (4 : Int32)) L ∧ wp_X7_chance M_218 a2 (xs (ix_ (x3 + (1 : Int32)))) (xs (ix_ (x3 + (2 : Int32)))) (xs (ix_ (x3 + (3 : Int32)))) (xs (ix_ (x3 + (4 : Int32)))) (fun r_226 M_225 => if r_219 = r_226 then (∀ x3_229, x3_229 = x3 + 6 → wl_L_law_18 L xs D bc bs a0 a1 a2 Post n_ k n M_225 x3_229)
  else (Post (0 : Int32) M_225))))
  else (if ((xs (ix_ x3)) &&& (63 : Int32)) = 13 then (vp_in (x3 + (1 : Int32)) L ∧ vp_in (x3 + (2 : Int32)) L ∧ vp_in (x3 + (3 : Int32)) L ∧ vp_in (x3 + (4 : Int32)) L ∧ wp_X0_toAsk M a1 (xs (ix_ (x3 + (1 : Int32)))) (xs (ix_ (x3 + (2 : Int32)))) (xs (ix_ (x3 + (3 : Int32)))) (xs (ix_ (x3 + (4 : Int32)))) (fun r_237 M_236 => vp_in (x3 + (1 : Int32)) L ∧ vp_in (x3 + (2 : Int32)) L ∧ vp_in (x3 + (3 : Int32)) L ∧ vp_in (x3 + (4 : Int32)) L ∧ wp_X7_toAsk M_236 a2 (xs (ix_ (x3 + (1 : Int32)))) (xs (ix_ (x3 + (2 : Int32)))) (xs (ix_ (x3 + (3 : Int32)))) (xs (ix_ (x3 + (4 : Int32)))) (fun r_244 M_243 => if r_237 = r_244 then (∀ x3_247, x3_247 = x3 + 6 → wl_L_law_18 L xs D bc bs a0 a1 a2 Post n_ k n M_243 x3_247)
  else (Post (0 : Int32) M_243))))
  else (if ((xs (ix_ x3)) &&& (63 : Int32)) = 14 then (vp_in (x3 + (1 : Int32)) L ∧ vp_in (x3 + (2 : Int32)) L ∧ vp_in (x3 + (3 : Int32)) L ∧ vp_in (x3 + (4 : Int32)) L ∧ wp_X0_few M a1 (xs (ix_ (x3 + (1 : Int32)))) (xs (ix_ (x3 + (2 : Int32)))) (xs (ix_ (x3 + (3 : Int32)))) (xs (ix_ (x3 + (4 : Int32)))) (fun r_255 M_254 => vp_in (x3 + (1 : Int32)) L ∧ vp_in (x3 + (2 : Int32)) L ∧ vp_in (x3 + (3 : Int32)) L ∧ vp_in (x3 + (4 : Int32)) L ∧ wp_X7_few M_254 a2 (xs (ix_ (x3 + (1 : Int32)))) (xs (ix_ (x3 + (2 : Int32)))) (xs (ix_ (x3 + (3 : Int32)))) (xs (ix_ (x3 + (4 : Int32)))) (fun r_262 M_261 => if r_255 = r_262 then (∀ x3_265, x3_265 = x3 + 6 → wl_L_law_18 L xs D bc bs a0 a1 a2 Post n_ k n M_261 x3_265)
  else (Post (0 : Int32) M_261))))
  else (if ((xs (ix_ x3)) &&& (63 : Int32)) = 15 then (vp_in (x3 + (1 : Int32)) L ∧ vp_in (x3 + (2 : Int32)) L ∧ vp_in (x3 + (3 : Int32)) L ∧ vp_in (x3 + (4 : Int32)) L ∧ wp_X0_pot M a1 (xs (ix_ (x3 + (1 : Int32)))) (xs (ix_ (x3 + (2 : Int32)))) (xs (ix_ (x3 + (3 : Int32)))) (xs (ix_ (x3 + (4 : Int32)))) (fun r_273 M_272 => vp_in (x3 + (1 : Int32)) L ∧ vp_in (x3 + (2 : Int32)) L ∧ vp_in (x3 + (3 : Int32)) L ∧ vp_in (x3 + (4 : Int32)) L ∧ wp_X7_pot M_272 a2 (xs (ix_ (x3 + (1 : Int32)))) (xs (ix_ (x3 + (2 : Int32)))) (xs (ix_ (x3 + (3 : Int32)))) (xs (ix_ (x3 + (4 : Int32)))) (fun r_280 M_279 => if r_273 = r_280 then (∀ x3_283, x3_283 = x3 + 6 → wl_L_law_18 L xs D bc bs a0 a1 a2 Post n_ k n M_279 x3_283)
  else (Post (0 : Int32) M_279))))
  else (if ((xs (ix_ x3)) &&& (63 : Int32)) = 16 then (vp_in (x3 + (1 : Int32)) L ∧ vp_in (x3 + (2 : Int32)) L ∧ vp_in (x3 + (3 : Int32)) L ∧ vp_in (x3 + (4 : Int32)) L ∧ vp_in (x3 + (5 : Int32)) L ∧ wp_X0_ruleFor M a1 (xs (ix_ (x3 + (1 : Int32)))) (xs (ix_ (x3 + (2 : Int32)))) (xs (ix_ (x3 + (3 : Int32)))) (xs (ix_ (x3 + (4 : Int32)))) (xs (ix_ (x3 + (5 : Int32)))) (fun r_292 M_291 => vp_in (x3 + (1 : Int32)) L ∧ vp_in (x3 + (2 : Int32)) L ∧ vp_in (x3 + (3 : Int32)) L ∧ vp_in (x3 + (4 : Int32)) L ∧ vp_in (x3 + (5 : Int32)) L ∧ wp_X7_ruleFor M_291 a2 (xs (ix_ (x3 + (1 : Int32)))) (xs (ix_ (x3 + (2 : Int32)))) (xs (ix_ (x3 + (3 : Int32)))) (xs (ix_ (x3 + (4 : Int32)))) (xs (ix_ (x3 + (5 : Int32)))) (fun r_300 M_299 => if r_292 = r_300 then (∀ x3_303, x3_303 = x3 + 6 → wl_L_law_18 L xs D bc bs a0 a1 a2 Post n_ k n M_299 x3_303)
  else (Post (0 : Int32) M_299))))
  else (if ((xs (ix_ x3)) &&& (63 : Int32)) = 17 then (vp_in (x3 + (1 : Int32)) L ∧ vp_in (x3 + (2 : Int32)) L ∧ wp_X0_lasts M a1 (xs (ix_ (x3 + (1 : Int32)))) (xs (ix_ (x3 + (2 : Int32)))) (fun r_309 M_308 => vp_in (x3 + (1 : Int32)) L ∧ vp_in (x3 + (2 : Int32)) L ∧ wp_X7_lasts M_308 a2 (xs (ix_ (x3 + (1 : Int32)))) (xs (ix_ (x3 + (2 : Int32)))) (fun r_314 M_313 => if r_309 = r_314 then (∀ x3_317, x3_317 = x3 + 6 → wl_L_law_18 L xs D bc bs a0 a1 a2 Post n_ k n M_313 x3_317)
  else (Post (0 : Int32) M_313))))
  else (if ((xs (ix_ x3)) &&& (63 : Int32)) = 18 then (vp_in (x3 + (1 : Int32)) L ∧ vp_in (x3 + (2 : Int32)) L ∧ wp_X0_needs M a1 (xs (ix_ (x3 + (1 : Int32)))) (xs (ix_ (x3 + (2 : Int32)))) (fun r_323 M_322 => vp_in (x3 + (1 : Int32)) L ∧ vp_in (x3 + (2 : Int32)) L ∧ wp_X7_needs M_322 a2 (xs (ix_ (x3 + (1 : Int32)))) (xs (ix_ (x3 + (2 : Int32)))) (fun r_328 M_327 => if r_323 = r_328 then (∀ x3_331, x3_331 = x3 + 6 → wl_L_law_18 L xs D bc bs a0 a1 a2 Post n_ k n M_327 x3_331)
  else (Post (0 : Int32) M_327))))
  else (if ((xs (ix_ x3)) &&& (63 : Int32)) = 19 then (vp_in (x3 + (1 : Int32)) L ∧ vp_in (x3 + (2 : Int32)) L ∧ vp_in (x3 + (3 : Int32)) L ∧ wp_X0_week M a1 (xs (ix_ (x3 + (1 : Int32)))) (xs (ix_ (x3 + (2 : Int32)))) (xs (ix_ (x3 + (3 : Int32)))) (fun r_338 M_337 => vp_in (x3 + (1 : Int32)) L ∧ vp_in (x3 + (2 : Int32)) L ∧ vp_in (x3 + (3 : Int32)) L ∧ wp_X7_week M_337 a2 (xs (ix_ (x3 + (1 : Int32)))) (xs (ix_ (x3 + (2 : Int32)))) (xs (ix_ (x3 + (3 : Int32)))) (fun r_344 M_343 => if r_338 = r_344 then (∀ x3_347, x3_347 = x3 + 6 → wl_L_law_18 L xs D bc bs a0 a1 a2 Post n_ k n M_343 x3_347)
  else (Post (0 : Int32) M_343))))
  else (if ((xs (ix_ x3)) &&& (63 : Int32)) = 20 then (vp_in (x3 + (1 : Int32)) L ∧ vp_in (x3 + (2 : Int32)) L ∧ vp_in (x3 + (3 : Int32)) L ∧ vp_in (x3 + (4 : Int32)) L ∧ wp_X0_movesOut M a1 (xs (ix_ (x3 + (1 : Int32)))) (xs (ix_ (x3 + (2 : Int32)))) (xs (ix_ (x3 + (3 : Int32)))) (xs (ix_ (x3 + (4 : Int32)))) (fun r_355 M_354 => vp_in (x3 + (1 : Int32)) L ∧ vp_in (x3 + (2 : Int32)) L ∧ vp_in (x3 + (3 : Int32)) L ∧ vp_in (x3 + (4 : Int32)) L ∧ wp_X7_movesOut M_354 a2 (xs (ix_ (x3 + (1 : Int32)))) (xs (ix_ (x3 + (2 : Int32)))) (xs (ix_ (x3 + (3 : Int32)))) (xs (ix_ (x3 + (4 : Int32)))) (fun r_362 M_361 => if r_355 = r_362 then (∀ x3_365, x3_365 = x3 + 6 → wl_L_law_18 L xs D bc bs a0 a1 a2 Post n_ k n M_361 x3_365)
  else (Post (0 : Int32) M_361))))
  else (if ((xs (ix_ x3)) &&& (63 : Int32)) = 21 then (vp_in (x3 + (1 : Int32)) L ∧ vp_in (x3 + (2 : Int32)) L ∧ wp_X0_spread M a1 (xs (ix_ (x3 + (1 : Int32)))) (xs (ix_ (x3 + (2 : Int32)))) (fun r_371 M_370 => vp_in (x3 + (1 : Int32)) L ∧ vp_in (x3 + (2 : Int32)) L ∧ wp_X7_spread M_370 a2 (xs (ix_ (x3 + (1 : Int32)))) (xs (ix_ (x3 + (2 : Int32)))) (fun r_376 M_375 => if r_371 = r_376 then (∀ x3_379, x3_379 = x3 + 6 → wl_L_law_18 L xs D bc bs a0 a1 a2 Post n_ k n M_375 x3_379)
  else (Post (0 : Int32) M_375))))
  else (if ((xs (ix_ x3)) &&& (63 : Int32)) = 22 then (vp_in (x3 + (1 : Int32)) L ∧ vp_in (x3 + (2 : Int32)) L ∧ vp_in (x3 + (3 : Int32)) L ∧ wp_X0_comes M a1 (xs (ix_ (x3 + (1 : Int32)))) (xs (ix_ (x3 + (2 : Int32)))) (xs (ix_ (x3 + (3 : Int32)))) (fun r_386 M_385 => vp_in (x3 + (1 : Int32)) L ∧ vp_in (x3 + (2 : Int32)) L ∧ vp_in (x3 + (3 : Int32)) L ∧ wp_X7_comes M_385 a2 (xs (ix_ (x3 + (1 : Int32)))) (xs (ix_ (x3 + (2 : Int32)))) (xs (ix_ (x3 + (3 : Int32)))) (fun r_392 M_391 => if r_386 = r_392 then (∀ x3_395, x3_395 = x3 + 6 → wl_L_law_18 L xs D bc bs a0 a1 a2 Post n_ k n M_391 x3_395)
  else (Post (0 : Int32) M_391))))
  else (if ((xs (ix_ x3)) &&& (63 : Int32)) = 23 then (vp_in (x3 + (1 : Int32)) L ∧ vp_in (x3 + (2 : Int32)) L ∧ wp_X0_share M a1 (xs (ix_ (x3 + (1 : Int32)))) (xs (ix_ (x3 + (2 : Int32)))) (fun r_401 M_400 => vp_in (x3 + (1 : Int32)) L ∧ vp_in (x3 + (2 : Int32)) L ∧ wp_X7_share M_400 a2 (xs (ix_ (x3 + (1 : Int32)))) (xs (ix_ (x3 + (2 : Int32)))) (fun r_406 M_405 => if r_401 = r_406 then (∀ x3_409, x3_409 = x3 + 6 → wl_L_law_18 L xs D bc bs a0 a1 a2 Post n_ k n M_405 x3_409)
  else (Post (0 : Int32) M_405))))
  else (if ((xs (ix_ x3)) &&& (63 : Int32)) = 24 then (vp_in (x3 + (1 : Int32)) L ∧ vp_in (x3 + (2 : Int32)) L ∧ vp_in (x3 + (3 : Int32)) L ∧ (k + 2 ≤ bc ∧ n + 91 ≤ bs) ∧ wp_X0_rota M a1 (xs (ix_ (x3 + (1 : Int32)))) (xs (ix_ (x3 + (2 : Int32)))) (xs (ix_ (x3 + (3 : Int32)))) (fun r_417 M_416 => vp_in (x3 + (1 : Int32)) L ∧ vp_in (x3 + (2 : Int32)) L ∧ vp_in (x3 + (3 : Int32)) L ∧ wp_X7_rota M_416 a2 (xs (ix_ (x3 + (1 : Int32)))) (xs (ix_ (x3 + (2 : Int32)))) (xs (ix_ (x3 + (3 : Int32)))) (fun r_423 M_422 => if r_417 = r_423 then (∀ x3_426, x3_426 = x3 + 6 → wl_L_law_18 L xs D bc bs a0 a1 a2 Post n_ (k + 2) (n + 91) M_422 x3_426)
  else (Post (0 : Int32) M_422))))
  else (if ((xs (ix_ x3)) &&& (63 : Int32)) = 25 then (vp_in (x3 + (1 : Int32)) L ∧ vp_in (x3 + (2 : Int32)) L ∧ wp_X0_alone M a1 (xs (ix_ (x3 + (1 : Int32)))) (xs (ix_ (x3 + (2 : Int32)))) (fun r_432 M_431 => vp_in (x3 + (1 : Int32)) L ∧ vp_in (x3 + (2 : Int32)) L ∧ wp_X7_alone M_431 a2 (xs (ix_ (x3 + (1 : Int32)))) (xs (ix_ (x3 + (2 : Int32)))) (fun r_437 M_436 => if r_432 = r_437 then (∀ x3_440, x3_440 = x3 + 6 → wl_L_law_18 L xs D bc bs a0 a1 a2 Post n_ k n M_436 x3_440)
  else (Post (0 : Int32) M_436))))
  else (if ((xs (ix_ x3)) &&& (63 : Int32)) = 26 then (vp_in (x3 + (1 : Int32)) L ∧ vp_in (x3 + (2 : Int32)) L ∧ vp_in (x3 + (3 : Int32)) L ∧ vp_in (x3 + (4 : Int32)) L ∧ vp_in (x3 + (5 : Int32)) L ∧ wp_X0_whoDid M a1 (xs (ix_ (x3 + (1 : Int32)))) (xs (ix_ (x3 + (2 : Int32)))) (xs (ix_ (x3 + (3 : Int32)))) (xs (ix_ (x3 + (4 : Int32)))) (xs (ix_ (x3 + (5 : Int32)))) (fun r_449 M_448 => vp_in (x3 + (1 : Int32)) L ∧ vp_in (x3 + (2 : Int32)) L ∧ vp_in (x3 + (3 : Int32)) L ∧ vp_in (x3 + (4 : Int32)) L ∧ vp_in (x3 + (5 : Int32)) L ∧ wp_X7_whoDid M_448 a2 (xs (ix_ (x3 + (1 : Int32)))) (xs (ix_ (x3 + (2 : Int32)))) (xs (ix_ (x3 + (3 : Int32)))) (xs (ix_ (x3 + (4 : Int32)))) (xs (ix_ (x3 + (5 : Int32)))) (fun r_457 M_456 => if r_449 = r_457 then (∀ x3_460, x3_460 = x3 + 6 → wl_L_law_18 L xs D bc bs a0 a1 a2 Post n_ k n M_456 x3_460)
  else (Post (0 : Int32) M_456))))
  else (if ((xs (ix_ x3)) &&& (63 : Int32)) = 27 then (vp_in (x3 + (1 : Int32)) L ∧ vp_in (x3 + (2 : Int32)) L ∧ vp_in (x3 + (3 : Int32)) L ∧ vp_in (x3 + (4 : Int32)) L ∧ wp_X0_can M a1 (xs (ix_ (x3 + (1 : Int32)))) (xs (ix_ (x3 + (2 : Int32)))) (xs (ix_ (x3 + (3 : Int32)))) (xs (ix_ (x3 + (4 : Int32)))) (fun r_468 M_467 => vp_in (x3 + (1 : Int32)) L ∧ vp_in (x3 + (2 : Int32)) L ∧ vp_in (x3 + (3 : Int32)) L ∧ vp_in (x3 + (4 : Int32)) L ∧ wp_X7_can M_467 a2 (xs (ix_ (x3 + (1 : Int32)))) (xs (ix_ (x3 + (2 : Int32)))) (xs (ix_ (x3 + (3 : Int32)))) (xs (ix_ (x3 + (4 : Int32)))) (fun r_475 M_474 => if r_468 = r_475 then (∀ x3_478, x3_478 = x3 + 6 → wl_L_law_18 L xs D bc bs a0 a1 a2 Post n_ k n M_474 x3_478)
  else (Post (0 : Int32) M_474))))
  else (if ((xs (ix_ x3)) &&& (63 : Int32)) = 28 then (vp_in (x3 + (1 : Int32)) L ∧ wp_X0_seed M a1 (xs (ix_ (x3 + (1 : Int32)))) (fun r_483 M_482 => vp_in (x3 + (1 : Int32)) L ∧ wp_X7_seed M_482 a2 (xs (ix_ (x3 + (1 : Int32)))) (fun r_487 M_486 => if r_483 = r_487 then (∀ x3_490, x3_490 = x3 + 6 → wl_L_law_18 L xs D bc bs a0 a1 a2 Post n_ k n M_486 x3_490)
  else (Post (0 : Int32) M_486))))
  else (if ((xs (ix_ x3)) &&& (63 : Int32)) = 29 then (wp_X0_keep M a1 (fun r_494 M_493 => wp_X7_keep M_493 a2 (fun r_497 M_496 => if r_494 = r_497 then (∀ x3_500, x3_500 = x3 + 6 → wl_L_law_18 L xs D bc bs a0 a1 a2 Post n_ k n M_496 x3_500)
  else (Post (0 : Int32) M_496))))
  else (if ((xs (ix_ x3)) &&& (63 : Int32)) = 30 then (wp_X0_undo M a1 (fun r_504 M_503 => wp_X7_undo M_503 a2 (fun r_507 M_506 => if r_504 = r_507 then (∀ x3_510, x3_510 = x3 + 6 → wl_L_law_18 L xs D bc bs a0 a1 a2 Post n_ k n M_506 x3_510)
  else (Post (0 : Int32) M_506))))
  else (if ((xs (ix_ x3)) &&& (63 : Int32)) = 31 then (vp_in (x3 + (1 : Int32)) L ∧ vp_in (x3 + (2 : Int32)) L ∧ wp_X0_check M a1 (xs (ix_ (x3 + (1 : Int32)))) (xs (ix_ (x3 + (2 : Int32)))) (fun r_516 M_515 => vp_in (x3 + (1 : Int32)) L ∧ vp_in (x3 + (2 : Int32)) L ∧ wp_X7_check M_515 a2 (xs (ix_ (x3 + (1 : Int32)))) (xs (ix_ (x3 + (2 : Int32)))) (fun r_521 M_520 => if r_516 = r_521 then (∀ x3_524, x3_524 = x3 + 6 → wl_L_law_18 L xs D bc bs a0 a1 a2 Post n_ k n M_520 x3_524)
  else (Post (0 : Int32) M_520))))
  else (if ((xs (ix_ x3)) &&& (63 : Int32)) = 32 then (vp_in (x3 + (1 : Int32)) L ∧ wp_X0_count M a1 (xs (ix_ (x3 + (1 : Int32)))) (fun r_529 M_528 => vp_in (x3 + (1 : Int32)) L ∧ wp_X7_count M_528 a2 (xs (ix_ (x3 + (1 : Int32)))) (fun r_533 M_532 => if r_529 = r_533 then (∀ x3_536, x3_536 = x3 + 6 → wl_L_law_18 L xs D bc bs a0 a1 a2 Post n_ k n M_532 x3_536)
  else (Post (0 : Int32) M_532))))
  else (∀ x3_538, x3_538 = x3 + 6 → wl_L_law_18 L xs D bc bs a0 a1 a2 Post n_ k n M x3_538))))))))))))))))))))))))))))))))))
def wp_L_law (L : Nat) (xs : Nat → Int32) (D : DD) (bc bs : Nat) (M : MM) (a0 : Nat) (Post : Int32 → MM → Prop) : Prop :=
  ∀ b_3, b_3 = msz M → ∀ M_5, M_5 = mnw M 1 0 → (0 + 1 ≤ bc ∧ 0 + 33 ≤ bs) ∧ ((0 + 1) + 281 ≤ bc ∧ (0 + 33) + 2807 ≤ bs) ∧ wp_X0_init M_5 b_3 (fun M_9 => ∀ b_14, b_14 = msz M_9 → ∀ M_16, M_16 = mnw M_9 7 0 → (((0 + 1) + 281) + 1 ≤ bc ∧ ((0 + 33) + 2807) + 54 ≤ bs) ∧ ((((0 + 1) + 281) + 1) + 32 ≤ bc ∧ (((0 + 33) + 2807) + 54) + 3868 ≤ bs) ∧ wp_X7_init M_16 b_14 (fun M_20 => ∃ n_540, wl_L_law_18 L xs D bc bs a0 b_3 b_14 Post n_540 ((((0 + 1) + 281) + 1) + 32) ((((0 + 33) + 2807) + 54) + 3868) M_20 (0 : Int32)))
-- ===== end of PART A; then your names; then what follows =====
/-! THE CLAIM OUT OF ONE WALK OF THE LAW'S BODY. Your part is whole_start (and what it stands on); all else here is the same for every law, but numbers. -/
def R_law : String := "LandingTreeLaw"
def lw_P (b : Addr) (xs : List Int32) (args : Array Value) (s : State) : Prop := args = #[.ref b] ∧ s.IntsAt b xs ∧ xs.length ≤ 384 ∧ (Jvm.Cond.and given_1 narrow_1).before args s = true
def lw_Q (_ : Array Value) (s : State) (o : Outcome) (t : State) : Prop := o = .returned (some (.int 1)) ∧ Framed s o t [] 1200000 5502250
def lw_Z (below : List Frame) (a : Array Value) (s : State) : State → Prop := fun t => ∃ o, t.status = .running ∧ Ended t below o ∧ lw_Q a s o t
/-- the law's own end, with 1 on the stack, nothing written that was there before, its room as the claim has it -/
theorem lw_ret {p : Program} {l : Launch} {e : Env} {s : State} {m : MethodId} {below : List Frame} {meth : Method} {c : Code} {b : Nat} (hx : p.tables.exec = Jvm.exec) (hb : c.code = code) (hr : meth.sig.returnType = ret) (hlocks : meth.locks = false) {pc : Nat} {H : Heap} {ls : Array Slot} (hdg : decode code pc = .ok (.ireturn, 1)) : W p l e room_1 s m #[Value.ref b] below meth c H [] 1200000 5502250 (lw_Z below #[Value.ref b] s) (F0 m pc ls [.int 1]) := by
  intro T hT X
  obtain ⟨fs, hret, hrun, hended, hW, hframe⟩ := X.leave (v := some (.int 1)) (hlocks := hlocks) (fun h => by rw [hr] at h; cases h)
  have hmeth' : T.vm.method? m = some meth := X.method'
  refine ⟨T.setFrames fs, ?_, .returned (some (.int 1)), hrun, hended, rfl, ⟨_, rfl⟩, hW, hframe⟩
  jvm_step X.here [X.here.top, hx, hb, hdg, hmeth', hr, ret, narrow_b1]
  (try refine ⟨rfl, ?_⟩); (try refine ⟨rfl, ?_⟩)
  first | (intro acts; rw [hret _ acts rfl rfl rfl]) | rw [hret _ _ rfl rfl rfl]
  exact Steps.refl _
/-- what holds at the law's entry: the machine, the code, the tables' words (any of lw_tbl by 'hts w (by decide +kernel)'), the script of L ints xs at the cell b, what the Statement gives of the start (any of its parts by flat_of_before) -/
def lw_At (p : Program) (s : State) (m : MethodId) (meth : Method) (c : Code) (b L : Nat) (xs : Nat → Int32) : Prop :=
  p.tables.exec = Jvm.exec ∧ c.code = code ∧ meth.sig.returnType = ret ∧ c.maxLocals = 4 ∧ s.vm.findClass R_law = some m.cls ∧ (∀ w ∈ lw_tbl, w.before #[Value.ref b] s = true) ∧ va_X b L xs s s.heap ∧ b < s.heap.size ∧ meth.locks = false ∧ (Jvm.Cond.and given_1 narrow_1).before #[Value.ref b] s = true

abbrev yL_law : MethodName := x
/-- what is fixed in the law's body: its script, its end -/
def mEndL (E : mE) (b L : Nat) (xs : Nat → Int32) (Post : Int32 → MM → Prop) : Prop := E.2.2.2.2 = lw_Z E.1.2.2.2.2.2.2.2.1 #[Value.ref b] E.1.2.2.2.2.1 ∧ E.1.2.2.2.2.2.2.1 = #[Value.ref b] ∧ (∀ v M', Post v M' → v = 1) ∧ va_X b L xs E.1.2.2.2.2.1 E.1.2.2.2.2.1.heap ∧ b < E.2.1.2.1 ∧ E.2.1.2.1 = E.1.2.2.2.2.1.heap.size
theorem r_sld {E : mE} {M : MM} {k n pc : Nat} {lv : List (Nat × Value)} {st : List Value} {b L : Nat} {xs : Nat → Int32} {Post : Int32 → MM → Prop} {i : Int32} (C : mC E yL_law cL_law 4 (some .boolean) room_1) (hE : mEndL E b L xs Post) (hin : vp_in i L) (hd : decode cL_law pc = .ok (.iaload, 1)) {pc' : Nat} (hp : pc + 1 = pc') (K : mV E M k n pc' lv (.int (xs (ix_ i)) :: st)) : mV E M k n pc lv (.int i :: .ref b :: st) := by
  subst hp
  obtain ⟨⟨p, l, e, R, s, m, args, below, meth, c⟩, D, nL', M0, QQ⟩ := E
  obtain ⟨hx, hb, hml, hr, hown, hts, hlk, hKK, hB, hR, hnm, hnl⟩ := C
  intro H locs ls a1 a2 a3 a4 a5
  obtain ⟨hQ, hag, hPo, hX, hbB, hBs⟩ := hE
  obtain ⟨scr, h1, h2, h3, h4, h5⟩ := hX
  have hlt : i.toNatClampNeg < L := Nat.not_le.mp fun q => hin (Or.inr q)
  exact W.iald (v := .int (xs i.toNatClampNeg)) hx hb (by rw [a3 b hbB]; exact h1) h2 h3 (by rw [h4]; exact hin) (h5 _ hlt) rfl rfl hd (K H locs ls a1 a2 a3 a4 a5)
theorem r_slen {E : mE} {M : MM} {k n pc : Nat} {lv : List (Nat × Value)} {st : List Value} {b L : Nat} {xs : Nat → Int32} {Post : Int32 → MM → Prop} (C : mC E yL_law cL_law 4 (some .boolean) room_1) (hE : mEndL E b L xs Post) (hd : decode cL_law pc = .ok (.arraylength, 1)) {pc' : Nat} (hp : pc + 1 = pc') (K : mV E M k n pc' lv (.int (nI L) :: st)) : mV E M k n pc lv (.ref b :: st) := by
  subst hp
  obtain ⟨⟨p, l, e, R, s, m, args, below, meth, c⟩, D, nL', M0, QQ⟩ := E
  obtain ⟨hx, hb, hml, hr, hown, hts, hlk, hKK, hB, hR, hnm, hnl⟩ := C
  intro H locs ls a1 a2 a3 a4 a5
  obtain ⟨hQ, hag, hPo, hX, hbB, hBs⟩ := hE
  obtain ⟨scr, h1, h2, h3, h4, h5⟩ := hX
  exact W.alen (n := nI L) hx hb (by rw [a3 b hbB]; exact h1) h2 (by rw [h4] <;> rfl) rfl rfl hd (K H locs ls a1 a2 a3 a4 a5)
theorem r_lawret {E : mE} {M : MM} {k n pc : Nat} {lv : List (Nat × Value)} {b L : Nat} {xs : Nat → Int32} {Post : Int32 → MM → Prop} {v : Int32} (C : mC E yL_law cL_law 4 (some .boolean) room_1) (hE : mEndL E b L xs Post) (hv : Post v M) (hk1 : k ≤ 1200000) (hn1 : n ≤ 5502250) (hd : decode cL_law pc = .ok (.ireturn, 1)) : mV E M k n pc lv [.int v] := by
  obtain ⟨⟨p, l, e, R, s, m, args, below, meth, c⟩, D, nL', M0, QQ⟩ := E
  obtain ⟨hx, hb, hml, hr, hown, hts, hlk, hKK, hB, hR, hnm, hnl⟩ := C
  intro H locs ls a1 a2 a3 a4 a5
  obtain ⟨hQ, hag, hPo, hX, hbB, hBs⟩ := hE
  have e1 : v = 1 := hPo _ _ hv
  have hQ : QQ = lw_Z below #[Value.ref b] s := hQ
  have hag : args = #[Value.ref b] := hag
  have hR : R = room_1 := hR
  have hBs : D.2.1 = s.heap.size := hBs
  subst e1
  subst hQ
  subst hag
  subst hR
  refine va_forget (fun q hq => by rw [← hBs]; exact a4 q hq) ?_
  refine W.widen (k := 1200000) (n := 5502250) hk1 hn1 ?_
  exact lw_ret hx hb hr hlk hd

theorem hd_L_law : mHd yL_law 1 := ⟨by decide, by decide, by decide +kernel⟩
set_option maxHeartbeats 4000000 in
theorem B_L_law_317 {E : mE} {L : Nat} {xs : Nat → Int32} {k n : Nat} {M : MM} {a0 : Nat} {a1 : Nat} {a2 : Nat} {x3 : Int32} {xs0 : Int32} {as1 : Nat} {xs2 : Int32} {xs3 : Int32} {R : Nat → Nat → MM → Int32 → Prop} {Post : Int32 → MM → Prop} (C : mC E yL_law cL_law 4 (some .boolean) room_1) (hE : mEndL E a0 L xs Post) (hkb : k ≤ 1200000) (hnb : n ≤ 5502250) (k_a1 : mkd M a1 = 1) (k_a2 : mkd M a2 = 7) (k_as1 : mkd M as1 = 7) (h : wb_L_law_317 L xs E.2.1 1200000 5502250 k n M a0 a1 a2 x3 xs0 as1 xs2 xs3 R Post) (hR : ∀ (k' n' : Nat) (M' : MM) (x3' : Int32), k' ≤ 1200000 → n' ≤ 5502250 → mMo M M' → mkd M' a1 = 1 → mkd M' a2 = 7 → R k' n' M' x3' → mV E M' k' n' 18 [(0, .ref a0), (1, .ref a1), (2, .ref a2), (3, .int x3')] []) : mV E M k n 317 [(0, .ref a0), (1, .ref a1), (2, .ref a2), (3, .int x3)] [.int xs3, .int xs2, .ref as1, .int xs0] := by
  unfold wb_L_law_317 at h
  refine r_callVi (As := [.int xs2, .int xs3]) (rest := [.int xs0]) (Cn := RX7) (T := TX7) C k_as1 (by decide) vc_X7 (S_X7_card k_as1 h) (lw_V q1398 q1399 q1400 q112 q1401) rfl hd_X7_card rfl rfl (Nat.le_of_ble_eq_true rfl) (Nat.le_of_ble_eq_true rfl) (Nat.le_of_ble_eq_true rfl) rfl rfl hkb hnb dL_law_317 (pc' := 320) rfl (fun r_70 M_69 h m_71 => ?_)
  refine r_icmp_eq C dL_law_320 (pc' := 323) rfl (tgt := 1504) (by decide) (fun c_72 => ?_) (fun c_72 => ?_)
  · have h := it_t h c_72
    obtain ⟨x3_73, e_74, h⟩ := bn_ h
    refine r_iinc C (lv' := [(3, .int x3_73), (0, .ref a0), (1, .ref a1), (2, .ref a2)]) dL_law_1504 (pc' := 1507) rfl (j := 3) rfl x3_73 (by rw [e_74]; rfl) (Nat.le_of_ble_eq_true rfl) rfl ?_
    refine r_goto C dL_law_1507 (tgt := 18) (by decide) ?_
    refine r_sub (lv' := [(0, .ref a0), (1, .ref a1), (2, .ref a2), (3, .int x3_73)]) [1, 2, 3, 0] rfl ?_
    exact hR k n M_69 x3_73 hkb hnb m_71 (mMo.kd m_71 k_a1 (by decide)) (mMo.kd m_71 k_a2 (by decide)) h
  · have h := it_f h c_72
    refine r_iconst C dL_law_323 (pc' := 324) rfl (v := 0) rfl ?_
    exact r_lawret C hE h hkb hnb dL_law_324
set_option maxHeartbeats 4000000 in
theorem B_L_law_295 {E : mE} {L : Nat} {xs : Nat → Int32} {k n : Nat} {M : MM} {a0 : Nat} {a1 : Nat} {a2 : Nat} {x3 : Int32} {as0 : Nat} {xs1 : Int32} {xs2 : Int32} {R : Nat → Nat → MM → Int32 → Prop} {Post : Int32 → MM → Prop} (C : mC E yL_law cL_law 4 (some .boolean) room_1) (hE : mEndL E a0 L xs Post) (hkb : k ≤ 1200000) (hnb : n ≤ 5502250) (k_a1 : mkd M a1 = 1) (k_a2 : mkd M a2 = 7) (k_as0 : mkd M as0 = 1) (h : wb_L_law_295 L xs E.2.1 1200000 5502250 k n M a0 a1 a2 x3 as0 xs1 xs2 R Post) (hR : ∀ (k' n' : Nat) (M' : MM) (x3' : Int32), k' ≤ 1200000 → n' ≤ 5502250 → mMo M M' → mkd M' a1 = 1 → mkd M' a2 = 7 → R k' n' M' x3' → mV E M' k' n' 18 [(0, .ref a0), (1, .ref a1), (2, .ref a2), (3, .int x3')] []) : mV E M k n 295 [(0, .ref a0), (1, .ref a1), (2, .ref a2), (3, .int x3)] [.int xs2, .int xs1, .ref as0] := by
  unfold wb_L_law_295 at h
  refine r_callVi (As := [.int xs1, .int xs2]) (rest := []) (Cn := RX0) (T := TX0) C k_as0 (by decide) vc_X0 (S_X0_card k_as0 h) (lw_V q469 q470 q471 q105 q472) rfl hd_X0_card rfl rfl (Nat.le_of_ble_eq_true rfl) (Nat.le_of_ble_eq_true rfl) (Nat.le_of_ble_eq_true rfl) rfl rfl hkb hnb dL_law_295 (pc' := 298) rfl (fun r_64 M_63 h m_65 => ?_)
  refine r_aload_n C dL_law_298 (pc' := 299) rfl (j := 2) rfl ?_
  refine r_aload_n C dL_law_299 (pc' := 300) rfl (j := 0) rfl ?_
  refine r_iload_n C dL_law_300 (pc' := 301) rfl (j := 3) rfl ?_
  refine r_iconst C dL_law_301 (pc' := 302) rfl (v := 1) rfl ?_
  refine r_iadd C dL_law_302 (pc' := 303) rfl ?_
  obtain ⟨c_66, h⟩ := h
  refine r_sld C hE c_66 dL_law_303 (pc' := 304) rfl ?_
  refine r_aload_n C dL_law_304 (pc' := 305) rfl (j := 0) rfl ?_
  refine r_iload_n C dL_law_305 (pc' := 306) rfl (j := 3) rfl ?_
  refine r_iconst C dL_law_306 (pc' := 307) rfl (v := 2) rfl ?_
  refine r_iadd C dL_law_307 (pc' := 308) rfl ?_
  obtain ⟨c_67, h⟩ := h
  refine r_sld C hE c_67 dL_law_308 (pc' := 309) rfl ?_
  refine r_if_eq C dL_law_309 (pc' := 312) rfl (tgt := 316) (by decide) (fun c_68 => ?_) (fun c_68 => ?_)
  · have h := it_t h c_68
    refine r_iconst C dL_law_316 (pc' := 317) rfl (v := 0) rfl ?_
    refine r_sub (lv' := [(0, .ref a0), (1, .ref a1), (2, .ref a2), (3, .int x3)]) [0, 1, 2, 3] rfl ?_
    exact B_L_law_317 C hE hkb hnb (mMo.kd m_65 k_a1 (by decide)) (mMo.kd m_65 k_a2 (by decide)) (mMo.kd m_65 k_a2 (by decide)) h (fun k8 n8 M8 v0 b8 c8 hm8 g1 g2 h8 => hR k8 n8 M8 v0 b8 c8 (mMo.tr m_65 hm8) g1 g2 h8)
  · have h := it_f h c_68
    refine r_iconst C dL_law_312 (pc' := 313) rfl (v := 1) rfl ?_
    refine r_goto C dL_law_313 (tgt := 317) (by decide) ?_
    refine r_sub (lv' := [(0, .ref a0), (1, .ref a1), (2, .ref a2), (3, .int x3)]) [0, 1, 2, 3] rfl ?_
    exact B_L_law_317 C hE hkb hnb (mMo.kd m_65 k_a1 (by decide)) (mMo.kd m_65 k_a2 (by decide)) (mMo.kd m_65 k_a2 (by decide)) h (fun k8 n8 M8 v0 b8 c8 hm8 g1 g2 h8 => hR k8 n8 M8 v0 b8 c8 (mMo.tr m_65 hm8) g1 g2 h8)
set_option maxHeartbeats 4000000 in
theorem B_L_law_18 {E : mE} {L : Nat} {xs : Nat → Int32} {a0 : Nat} {a1 : Nat} {a2 : Nat} {Post : Int32 → MM → Prop} (C : mC E yL_law cL_law 4 (some .boolean) room_1) (hE : mEndL E a0 L xs Post) : ∀ (n_ : Nat) (k n : Nat) (M : MM) (x3 : Int32), k ≤ 1200000 → n ≤ 5502250 → mkd M a1 = 1 → mkd M a2 = 7 → wl_L_law_18 L xs E.2.1 1200000 5502250 a0 a1 a2 Post n_ k n M x3 → mV E M k n 18 [(0, .ref a0), (1, .ref a1), (2, .ref a2), (3, .int x3)] [] := by
  intro n_
  induction n_ with
  | zero =>
    intro k n M x3 hkb hnb k_a1 k_a2 h
    exact absurd h (by rw [wl_L_law_18]; exact fun q => q)
  | succ n_ ih =>
    intro k n M x3 hkb hnb k_a1 k_a2 h
    rw [wl_L_law_18] at h
    refine r_iload_n C dL_law_18 (pc' := 19) rfl (j := 3) rfl ?_
    refine r_aload_n C dL_law_19 (pc' := 20) rfl (j := 0) rfl ?_
    refine r_slen C hE dL_law_20 (pc' := 21) rfl ?_
    refine r_bipush C dL_law_21 (pc' := 23) rfl (v := 6) rfl ?_
    refine r_isub C dL_law_23 (pc' := 24) rfl ?_
    refine r_icmp_gt C dL_law_24 (pc' := 27) rfl (tgt := 1510) (by decide) (fun c_23 => ?_) (fun c_23 => ?_)
    · have h := it_t h c_23
      refine r_iconst C dL_law_1510 (pc' := 1511) rfl (v := 1) rfl ?_
      exact r_lawret C hE h hkb hnb dL_law_1511
    · have h := it_f h c_23
      refine r_aload_n C dL_law_27 (pc' := 28) rfl (j := 0) rfl ?_
      refine r_iload_n C dL_law_28 (pc' := 29) rfl (j := 3) rfl ?_
      obtain ⟨c_24, h⟩ := h
      refine r_sld C hE c_24 dL_law_29 (pc' := 30) rfl ?_
      refine r_bipush C dL_law_30 (pc' := 32) rfl (v := 63) rfl ?_
      refine r_iand C dL_law_32 (pc' := 33) rfl ?_
      by_cases c_25 : ((xs (ix_ x3)) &&& (63 : Int32)) = 0
      · have h := it_t h c_25
        refine r_tsIn C dL_law_33 (off := 147) (tgt := 180) (by rw [c_25]; decide) (by rw [c_25]; decide) (by rw [c_25]; decide) (by decide) ?_
        refine r_aload_n C dL_law_180 (pc' := 181) rfl (j := 1) rfl ?_
        refine r_aload_n C dL_law_181 (pc' := 182) rfl (j := 0) rfl ?_
        refine r_iload_n C dL_law_182 (pc' := 183) rfl (j := 3) rfl ?_
        refine r_iconst C dL_law_183 (pc' := 184) rfl (v := 1) rfl ?_
        refine r_iadd C dL_law_184 (pc' := 185) rfl ?_
        obtain ⟨c_26, h⟩ := h
        refine r_sld C hE c_26 dL_law_185 (pc' := 186) rfl ?_
        refine r_aload_n C dL_law_186 (pc' := 187) rfl (j := 0) rfl ?_
        refine r_iload_n C dL_law_187 (pc' := 188) rfl (j := 3) rfl ?_
        refine r_iconst C dL_law_188 (pc' := 189) rfl (v := 2) rfl ?_
        refine r_iadd C dL_law_189 (pc' := 190) rfl ?_
        obtain ⟨c_27, h⟩ := h
        refine r_sld C hE c_27 dL_law_190 (pc' := 191) rfl ?_
        refine r_aload_n C dL_law_191 (pc' := 192) rfl (j := 0) rfl ?_
        refine r_iload_n C dL_law_192 (pc' := 193) rfl (j := 3) rfl ?_
        refine r_iconst C dL_law_193 (pc' := 194) rfl (v := 3) rfl ?_
        refine r_iadd C dL_law_194 (pc' := 195) rfl ?_
        obtain ⟨c_28, h⟩ := h
        refine r_sld C hE c_28 dL_law_195 (pc' := 196) rfl ?_
        refine r_aload_n C dL_law_196 (pc' := 197) rfl (j := 0) rfl ?_
        refine r_iload_n C dL_law_197 (pc' := 198) rfl (j := 3) rfl ?_
        refine r_iconst C dL_law_198 (pc' := 199) rfl (v := 4) rfl ?_
        refine r_iadd C dL_law_199 (pc' := 200) rfl ?_
        obtain ⟨c_29, h⟩ := h
        refine r_sld C hE c_29 dL_law_200 (pc' := 201) rfl ?_
        refine r_callVi (As := [.int (xs (ix_ (x3 + (1 : Int32)))), .int (xs (ix_ (x3 + (2 : Int32)))), .int (xs (ix_ (x3 + (3 : Int32)))), .int (xs (ix_ (x3 + (4 : Int32))))]) (rest := []) (Cn := RX0) (T := TX0) C k_a1 (by decide) vc_X0 (S_X0_plant k_a1 h) (lw_V q455 q456 q457 q105 q458) rfl hd_X0_plant rfl rfl (Nat.le_of_ble_eq_true rfl) (Nat.le_of_ble_eq_true rfl) (Nat.le_of_ble_eq_true rfl) rfl rfl hkb hnb dL_law_201 (pc' := 204) rfl (fun r_31 M_30 h m_32 => ?_)
        refine r_aload_n C dL_law_204 (pc' := 205) rfl (j := 2) rfl ?_
        refine r_aload_n C dL_law_205 (pc' := 206) rfl (j := 0) rfl ?_
        refine r_iload_n C dL_law_206 (pc' := 207) rfl (j := 3) rfl ?_
        refine r_iconst C dL_law_207 (pc' := 208) rfl (v := 1) rfl ?_
        refine r_iadd C dL_law_208 (pc' := 209) rfl ?_
        obtain ⟨c_33, h⟩ := h
        refine r_sld C hE c_33 dL_law_209 (pc' := 210) rfl ?_
        refine r_aload_n C dL_law_210 (pc' := 211) rfl (j := 0) rfl ?_
        refine r_iload_n C dL_law_211 (pc' := 212) rfl (j := 3) rfl ?_
        refine r_iconst C dL_law_212 (pc' := 213) rfl (v := 2) rfl ?_
        refine r_iadd C dL_law_213 (pc' := 214) rfl ?_
        obtain ⟨c_34, h⟩ := h
        refine r_sld C hE c_34 dL_law_214 (pc' := 215) rfl ?_
        refine r_aload_n C dL_law_215 (pc' := 216) rfl (j := 0) rfl ?_
        refine r_iload_n C dL_law_216 (pc' := 217) rfl (j := 3) rfl ?_
        refine r_iconst C dL_law_217 (pc' := 218) rfl (v := 3) rfl ?_
        refine r_iadd C dL_law_218 (pc' := 219) rfl ?_
        obtain ⟨c_35, h⟩ := h
        refine r_sld C hE c_35 dL_law_219 (pc' := 220) rfl ?_
        refine r_aload_n C dL_law_220 (pc' := 221) rfl (j := 0) rfl ?_
        refine r_iload_n C dL_law_221 (pc' := 222) rfl (j := 3) rfl ?_
        refine r_iconst C dL_law_222 (pc' := 223) rfl (v := 4) rfl ?_
        refine r_iadd C dL_law_223 (pc' := 224) rfl ?_
        obtain ⟨c_36, h⟩ := h
        refine r_sld C hE c_36 dL_law_224 (pc' := 225) rfl ?_
        refine r_callVi (As := [.int (xs (ix_ (x3 + (1 : Int32)))), .int (xs (ix_ (x3 + (2 : Int32)))), .int (xs (ix_ (x3 + (3 : Int32)))), .int (xs (ix_ (x3 + (4 : Int32))))]) (rest := [.int r_31]) (Cn := RX7) (T := TX7) C (mMo.kd m_32 k_a2 (by decide)) (by decide) vc_X7 (S_X7_plant (mMo.kd m_32 k_a2 (by decide)) h) (lw_V q1387 q1388 q1389 q112 q1390) rfl hd_X7_plant rfl rfl (Nat.le_of_ble_eq_true rfl) (Nat.le_of_ble_eq_true rfl) (Nat.le_of_ble_eq_true rfl) rfl rfl hkb hnb dL_law_225 (pc' := 228) rfl (fun r_38 M_37 h m_39 => ?_)
        refine r_icmp_eq C dL_law_228 (pc' := 231) rfl (tgt := 1504) (by decide) (fun c_40 => ?_) (fun c_40 => ?_)
        · have h := it_t h c_40
          obtain ⟨x3_41, e_42, h⟩ := bn_ h
          refine r_iinc C (lv' := [(3, .int x3_41), (0, .ref a0), (1, .ref a1), (2, .ref a2)]) dL_law_1504 (pc' := 1507) rfl (j := 3) rfl x3_41 (by rw [e_42]; rfl) (Nat.le_of_ble_eq_true rfl) rfl ?_
          refine r_goto C dL_law_1507 (tgt := 18) (by decide) ?_
          refine r_sub (lv' := [(0, .ref a0), (1, .ref a1), (2, .ref a2), (3, .int x3_41)]) [1, 2, 3, 0] rfl ?_
          exact ih k n M_37 x3_41 hkb hnb (mMo.kd m_39 (mMo.kd m_32 k_a1 (by decide)) (by decide)) (mMo.kd m_39 (mMo.kd m_32 k_a2 (by decide)) (by decide)) h
        · have h := it_f h c_40
          refine r_iconst C dL_law_231 (pc' := 232) rfl (v := 0) rfl ?_
          exact r_lawret C hE h hkb hnb dL_law_232
      have h := it_f h c_25
      by_cases c_43 : ((xs (ix_ x3)) &&& (63 : Int32)) = 1
      · have h := it_t h c_43
        refine r_tsIn C dL_law_33 (off := 200) (tgt := 233) (by rw [c_43]; decide) (by rw [c_43]; decide) (by rw [c_43]; decide) (by decide) ?_
        refine r_aload_n C dL_law_233 (pc' := 234) rfl (j := 1) rfl ?_
        refine r_aload_n C dL_law_234 (pc' := 235) rfl (j := 0) rfl ?_
        refine r_iload_n C dL_law_235 (pc' := 236) rfl (j := 3) rfl ?_
        refine r_iconst C dL_law_236 (pc' := 237) rfl (v := 1) rfl ?_
        refine r_iadd C dL_law_237 (pc' := 238) rfl ?_
        obtain ⟨c_44, h⟩ := h
        refine r_sld C hE c_44 dL_law_238 (pc' := 239) rfl ?_
        refine r_aload_n C dL_law_239 (pc' := 240) rfl (j := 0) rfl ?_
        refine r_iload_n C dL_law_240 (pc' := 241) rfl (j := 3) rfl ?_
        refine r_iconst C dL_law_241 (pc' := 242) rfl (v := 2) rfl ?_
        refine r_iadd C dL_law_242 (pc' := 243) rfl ?_
        obtain ⟨c_45, h⟩ := h
        refine r_sld C hE c_45 dL_law_243 (pc' := 244) rfl ?_
        refine r_aload_n C dL_law_244 (pc' := 245) rfl (j := 0) rfl ?_
        refine r_iload_n C dL_law_245 (pc' := 246) rfl (j := 3) rfl ?_
        refine r_iconst C dL_law_246 (pc' := 247) rfl (v := 3) rfl ?_
        refine r_iadd C dL_law_247 (pc' := 248) rfl ?_
        obtain ⟨c_46, h⟩ := h
        refine r_sld C hE c_46 dL_law_248 (pc' := 249) rfl ?_
        refine r_callVi (As := [.int (xs (ix_ (x3 + (1 : Int32)))), .int (xs (ix_ (x3 + (2 : Int32)))), .int (xs (ix_ (x3 + (3 : Int32))))]) (rest := []) (Cn := RX0) (T := TX0) C k_a1 (by decide) vc_X0 (S_X0_person k_a1 h) (lw_V q465 q466 q467 q105 q468) rfl hd_X0_person rfl rfl (Nat.le_of_ble_eq_true rfl) (Nat.le_of_ble_eq_true rfl) (Nat.le_of_ble_eq_true rfl) rfl rfl hkb hnb dL_law_249 (pc' := 252) rfl (fun r_48 M_47 h m_49 => ?_)
        refine r_aload_n C dL_law_252 (pc' := 253) rfl (j := 2) rfl ?_
        refine r_aload_n C dL_law_253 (pc' := 254) rfl (j := 0) rfl ?_
        refine r_iload_n C dL_law_254 (pc' := 255) rfl (j := 3) rfl ?_
        refine r_iconst C dL_law_255 (pc' := 256) rfl (v := 1) rfl ?_
        refine r_iadd C dL_law_256 (pc' := 257) rfl ?_
        obtain ⟨c_50, h⟩ := h
        refine r_sld C hE c_50 dL_law_257 (pc' := 258) rfl ?_
        refine r_aload_n C dL_law_258 (pc' := 259) rfl (j := 0) rfl ?_
        refine r_iload_n C dL_law_259 (pc' := 260) rfl (j := 3) rfl ?_
        refine r_iconst C dL_law_260 (pc' := 261) rfl (v := 2) rfl ?_
        refine r_iadd C dL_law_261 (pc' := 262) rfl ?_
        obtain ⟨c_51, h⟩ := h
        refine r_sld C hE c_51 dL_law_262 (pc' := 263) rfl ?_
        refine r_aload_n C dL_law_263 (pc' := 264) rfl (j := 0) rfl ?_
        refine r_iload_n C dL_law_264 (pc' := 265) rfl (j := 3) rfl ?_
        refine r_iconst C dL_law_265 (pc' := 266) rfl (v := 3) rfl ?_
        refine r_iadd C dL_law_266 (pc' := 267) rfl ?_
        obtain ⟨c_52, h⟩ := h
        refine r_sld C hE c_52 dL_law_267 (pc' := 268) rfl ?_
        refine r_callVi (As := [.int (xs (ix_ (x3 + (1 : Int32)))), .int (xs (ix_ (x3 + (2 : Int32)))), .int (xs (ix_ (x3 + (3 : Int32))))]) (rest := [.int r_48]) (Cn := RX7) (T := TX7) C (mMo.kd m_49 k_a2 (by decide)) (by decide) vc_X7 (S_X7_person (mMo.kd m_49 k_a2 (by decide)) h) (lw_V q1394 q1395 q1396 q112 q1397) rfl hd_X7_person rfl rfl (Nat.le_of_ble_eq_true rfl) (Nat.le_of_ble_eq_true rfl) (Nat.le_of_ble_eq_true rfl) rfl rfl hkb hnb dL_law_268 (pc' := 271) rfl (fun r_54 M_53 h m_55 => ?_)
        refine r_icmp_eq C dL_law_271 (pc' := 274) rfl (tgt := 1504) (by decide) (fun c_56 => ?_) (fun c_56 => ?_)
        · have h := it_t h c_56
          obtain ⟨x3_57, e_58, h⟩ := bn_ h
          refine r_iinc C (lv' := [(3, .int x3_57), (0, .ref a0), (1, .ref a1), (2, .ref a2)]) dL_law_1504 (pc' := 1507) rfl (j := 3) rfl x3_57 (by rw [e_58]; rfl) (Nat.le_of_ble_eq_true rfl) rfl ?_
          refine r_goto C dL_law_1507 (tgt := 18) (by decide) ?_
          refine r_sub (lv' := [(0, .ref a0), (1, .ref a1), (2, .ref a2), (3, .int x3_57)]) [1, 2, 3, 0] rfl ?_
          exact ih k n M_53 x3_57 hkb hnb (mMo.kd m_55 (mMo.kd m_49 k_a1 (by decide)) (by decide)) (mMo.kd m_55 (mMo.kd m_49 k_a2 (by decide)) (by decide)) h
        · have h := it_f h c_56
          refine r_iconst C dL_law_274 (pc' := 275) rfl (v := 0) rfl ?_
          exact r_lawret C hE h hkb hnb dL_law_275
      have h := it_f h c_43
      by_cases c_59 : ((xs (ix_ x3)) &&& (63 : Int32)) = 2
      · have h := it_t h c_59
        refine r_tsIn C dL_law_33 (off := 243) (tgt := 276) (by rw [c_59]; decide) (by rw [c_59]; decide) (by rw [c_59]; decide) (by decide) ?_
        refine r_aload_n C dL_law_276 (pc' := 277) rfl (j := 1) rfl ?_
        refine r_aload_n C dL_law_277 (pc' := 278) rfl (j := 0) rfl ?_
        refine r_iload_n C dL_law_278 (pc' := 279) rfl (j := 3) rfl ?_
        refine r_iconst C dL_law_279 (pc' := 280) rfl (v := 1) rfl ?_
        refine r_iadd C dL_law_280 (pc' := 281) rfl ?_
        obtain ⟨c_60, h⟩ := h
        refine r_sld C hE c_60 dL_law_281 (pc' := 282) rfl ?_
        refine r_aload_n C dL_law_282 (pc' := 283) rfl (j := 0) rfl ?_
        refine r_iload_n C dL_law_283 (pc' := 284) rfl (j := 3) rfl ?_
        refine r_iconst C dL_law_284 (pc' := 285) rfl (v := 2) rfl ?_
        refine r_iadd C dL_law_285 (pc' := 286) rfl ?_
        obtain ⟨c_61, h⟩ := h
        refine r_sld C hE c_61 dL_law_286 (pc' := 287) rfl ?_
        refine r_if_eq C dL_law_287 (pc' := 290) rfl (tgt := 294) (by decide) (fun c_62 => ?_) (fun c_62 => ?_)
        · have h := it_t h c_62
          refine r_iconst C dL_law_294 (pc' := 295) rfl (v := 0) rfl ?_
          refine r_sub (lv' := [(0, .ref a0), (1, .ref a1), (2, .ref a2), (3, .int x3)]) [0, 1, 2, 3] rfl ?_
          exact B_L_law_295 C hE hkb hnb k_a1 k_a2 k_a1 h (fun k8 n8 M8 v0 b8 c8 hm8 g1 g2 h8 => ih k8 n8 M8 v0 b8 c8 g1 g2 h8)
        · have h := it_f h c_62
          refine r_iconst C dL_law_290 (pc' := 291) rfl (v := 1) rfl ?_
          refine r_goto C dL_law_291 (tgt := 295) (by decide) ?_
          refine r_sub (lv' := [(0, .ref a0), (1, .ref a1), (2, .ref a2), (3, .int x3)]) [0, 1, 2, 3] rfl ?_
          exact B_L_law_295 C hE hkb hnb k_a1 k_a2 k_a1 h (fun k8 n8 M8 v0 b8 c8 hm8 g1 g2 h8 => ih k8 n8 M8 v0 b8 c8 g1 g2 h8)
      have h := it_f h c_59
      by_cases c_75 : ((xs (ix_ x3)) &&& (63 : Int32)) = 3
      · have h := it_t h c_75
        refine r_tsIn C dL_law_33 (off := 292) (tgt := 325) (by rw [c_75]; decide) (by rw [c_75]; decide) (by rw [c_75]; decide) (by decide) ?_
        refine r_aload_n C dL_law_325 (pc' := 326) rfl (j := 1) rfl ?_
        refine r_aload_n C dL_law_326 (pc' := 327) rfl (j := 0) rfl ?_
        refine r_iload_n C dL_law_327 (pc' := 328) rfl (j := 3) rfl ?_
        refine r_iconst C dL_law_328 (pc' := 329) rfl (v := 1) rfl ?_
        refine r_iadd C dL_law_329 (pc' := 330) rfl ?_
        obtain ⟨c_76, h⟩ := h
        refine r_sld C hE c_76 dL_law_330 (pc' := 331) rfl ?_
        refine r_aload_n C dL_law_331 (pc' := 332) rfl (j := 0) rfl ?_
        refine r_iload_n C dL_law_332 (pc' := 333) rfl (j := 3) rfl ?_
        refine r_iconst C dL_law_333 (pc' := 334) rfl (v := 2) rfl ?_
        refine r_iadd C dL_law_334 (pc' := 335) rfl ?_
        obtain ⟨c_77, h⟩ := h
        refine r_sld C hE c_77 dL_law_335 (pc' := 336) rfl ?_
        refine r_callVi (As := [.int (xs (ix_ (x3 + (1 : Int32)))), .int (xs (ix_ (x3 + (2 : Int32))))]) (rest := []) (Cn := RX0) (T := TX0) C k_a1 (by decide) vc_X0 (S_X0_pour k_a1 h) (lw_V q477 q478 q479 q105 q480) rfl hd_X0_pour rfl rfl (Nat.le_of_ble_eq_true rfl) (Nat.le_of_ble_eq_true rfl) (Nat.le_of_ble_eq_true rfl) rfl rfl hkb hnb dL_law_336 (pc' := 339) rfl (fun r_79 M_78 h m_80 => ?_)
        refine r_aload_n C dL_law_339 (pc' := 340) rfl (j := 2) rfl ?_
        refine r_aload_n C dL_law_340 (pc' := 341) rfl (j := 0) rfl ?_
        refine r_iload_n C dL_law_341 (pc' := 342) rfl (j := 3) rfl ?_
        refine r_iconst C dL_law_342 (pc' := 343) rfl (v := 1) rfl ?_
        refine r_iadd C dL_law_343 (pc' := 344) rfl ?_
        obtain ⟨c_81, h⟩ := h
        refine r_sld C hE c_81 dL_law_344 (pc' := 345) rfl ?_
        refine r_aload_n C dL_law_345 (pc' := 346) rfl (j := 0) rfl ?_
        refine r_iload_n C dL_law_346 (pc' := 347) rfl (j := 3) rfl ?_
        refine r_iconst C dL_law_347 (pc' := 348) rfl (v := 2) rfl ?_
        refine r_iadd C dL_law_348 (pc' := 349) rfl ?_
        obtain ⟨c_82, h⟩ := h
        refine r_sld C hE c_82 dL_law_349 (pc' := 350) rfl ?_
        refine r_callVi (As := [.int (xs (ix_ (x3 + (1 : Int32)))), .int (xs (ix_ (x3 + (2 : Int32))))]) (rest := [.int r_79]) (Cn := RX7) (T := TX7) C (mMo.kd m_80 k_a2 (by decide)) (by decide) vc_X7 (S_X7_pour (mMo.kd m_80 k_a2 (by decide)) h) (lw_V q1409 q1410 q1411 q112 q1412) rfl hd_X7_pour rfl rfl (Nat.le_of_ble_eq_true rfl) (Nat.le_of_ble_eq_true rfl) (Nat.le_of_ble_eq_true rfl) rfl rfl hkb hnb dL_law_350 (pc' := 353) rfl (fun r_84 M_83 h m_85 => ?_)
        refine r_icmp_eq C dL_law_353 (pc' := 356) rfl (tgt := 1504) (by decide) (fun c_86 => ?_) (fun c_86 => ?_)
        · have h := it_t h c_86
          obtain ⟨x3_87, e_88, h⟩ := bn_ h
          refine r_iinc C (lv' := [(3, .int x3_87), (0, .ref a0), (1, .ref a1), (2, .ref a2)]) dL_law_1504 (pc' := 1507) rfl (j := 3) rfl x3_87 (by rw [e_88]; rfl) (Nat.le_of_ble_eq_true rfl) rfl ?_
          refine r_goto C dL_law_1507 (tgt := 18) (by decide) ?_
          refine r_sub (lv' := [(0, .ref a0), (1, .ref a1), (2, .ref a2), (3, .int x3_87)]) [1, 2, 3, 0] rfl ?_
          exact ih k n M_83 x3_87 hkb hnb (mMo.kd m_85 (mMo.kd m_80 k_a1 (by decide)) (by decide)) (mMo.kd m_85 (mMo.kd m_80 k_a2 (by decide)) (by decide)) h
        · have h := it_f h c_86
          refine r_iconst C dL_law_356 (pc' := 357) rfl (v := 0) rfl ?_
          exact r_lawret C hE h hkb hnb dL_law_357
      have h := it_f h c_75
      by_cases c_89 : ((xs (ix_ x3)) &&& (63 : Int32)) = 4
      · have h := it_t h c_89
        refine r_tsIn C dL_law_33 (off := 325) (tgt := 358) (by rw [c_89]; decide) (by rw [c_89]; decide) (by rw [c_89]; decide) (by decide) ?_
        refine r_aload_n C dL_law_358 (pc' := 359) rfl (j := 1) rfl ?_
        refine r_aload_n C dL_law_359 (pc' := 360) rfl (j := 0) rfl ?_
        refine r_iload_n C dL_law_360 (pc' := 361) rfl (j := 3) rfl ?_
        refine r_iconst C dL_law_361 (pc' := 362) rfl (v := 1) rfl ?_
        refine r_iadd C dL_law_362 (pc' := 363) rfl ?_
        obtain ⟨c_90, h⟩ := h
        refine r_sld C hE c_90 dL_law_363 (pc' := 364) rfl ?_
        refine r_aload_n C dL_law_364 (pc' := 365) rfl (j := 0) rfl ?_
        refine r_iload_n C dL_law_365 (pc' := 366) rfl (j := 3) rfl ?_
        refine r_iconst C dL_law_366 (pc' := 367) rfl (v := 2) rfl ?_
        refine r_iadd C dL_law_367 (pc' := 368) rfl ?_
        obtain ⟨c_91, h⟩ := h
        refine r_sld C hE c_91 dL_law_368 (pc' := 369) rfl ?_
        refine r_aload_n C dL_law_369 (pc' := 370) rfl (j := 0) rfl ?_
        refine r_iload_n C dL_law_370 (pc' := 371) rfl (j := 3) rfl ?_
        refine r_iconst C dL_law_371 (pc' := 372) rfl (v := 3) rfl ?_
        refine r_iadd C dL_law_372 (pc' := 373) rfl ?_
        obtain ⟨c_92, h⟩ := h
        refine r_sld C hE c_92 dL_law_373 (pc' := 374) rfl ?_
        refine r_aload_n C dL_law_374 (pc' := 375) rfl (j := 0) rfl ?_
        refine r_iload_n C dL_law_375 (pc' := 376) rfl (j := 3) rfl ?_
        refine r_iconst C dL_law_376 (pc' := 377) rfl (v := 4) rfl ?_
        refine r_iadd C dL_law_377 (pc' := 378) rfl ?_
        obtain ⟨c_93, h⟩ := h
        refine r_sld C hE c_93 dL_law_378 (pc' := 379) rfl ?_
        refine r_aload_n C dL_law_379 (pc' := 380) rfl (j := 0) rfl ?_
        refine r_iload_n C dL_law_380 (pc' := 381) rfl (j := 3) rfl ?_
        refine r_iconst C dL_law_381 (pc' := 382) rfl (v := 5) rfl ?_
        refine r_iadd C dL_law_382 (pc' := 383) rfl ?_
        obtain ⟨c_94, h⟩ := h
        refine r_sld C hE c_94 dL_law_383 (pc' := 384) rfl ?_
        refine r_callVi (As := [.int (xs (ix_ (x3 + (1 : Int32)))), .int (xs (ix_ (x3 + (2 : Int32)))), .int (xs (ix_ (x3 + (3 : Int32)))), .int (xs (ix_ (x3 + (4 : Int32)))), .int (xs (ix_ (x3 + (5 : Int32))))]) (rest := []) (Cn := RX0) (T := TX0) C k_a1 (by decide) vc_X0 (S_X0_feed k_a1 h) (lw_V q492 q493 q494 q105 q495) rfl hd_X0_feed rfl rfl (Nat.le_of_ble_eq_true rfl) (Nat.le_of_ble_eq_true rfl) (Nat.le_of_ble_eq_true rfl) rfl rfl hkb hnb dL_law_384 (pc' := 387) rfl (fun r_96 M_95 h m_97 => ?_)
        refine r_aload_n C dL_law_387 (pc' := 388) rfl (j := 2) rfl ?_
        refine r_aload_n C dL_law_388 (pc' := 389) rfl (j := 0) rfl ?_
        refine r_iload_n C dL_law_389 (pc' := 390) rfl (j := 3) rfl ?_
        refine r_iconst C dL_law_390 (pc' := 391) rfl (v := 1) rfl ?_
        refine r_iadd C dL_law_391 (pc' := 392) rfl ?_
        obtain ⟨c_98, h⟩ := h
        refine r_sld C hE c_98 dL_law_392 (pc' := 393) rfl ?_
        refine r_aload_n C dL_law_393 (pc' := 394) rfl (j := 0) rfl ?_
        refine r_iload_n C dL_law_394 (pc' := 395) rfl (j := 3) rfl ?_
        refine r_iconst C dL_law_395 (pc' := 396) rfl (v := 2) rfl ?_
        refine r_iadd C dL_law_396 (pc' := 397) rfl ?_
        obtain ⟨c_99, h⟩ := h
        refine r_sld C hE c_99 dL_law_397 (pc' := 398) rfl ?_
        refine r_aload_n C dL_law_398 (pc' := 399) rfl (j := 0) rfl ?_
        refine r_iload_n C dL_law_399 (pc' := 400) rfl (j := 3) rfl ?_
        refine r_iconst C dL_law_400 (pc' := 401) rfl (v := 3) rfl ?_
        refine r_iadd C dL_law_401 (pc' := 402) rfl ?_
        obtain ⟨c_100, h⟩ := h
        refine r_sld C hE c_100 dL_law_402 (pc' := 403) rfl ?_
        refine r_aload_n C dL_law_403 (pc' := 404) rfl (j := 0) rfl ?_
        refine r_iload_n C dL_law_404 (pc' := 405) rfl (j := 3) rfl ?_
        refine r_iconst C dL_law_405 (pc' := 406) rfl (v := 4) rfl ?_
        refine r_iadd C dL_law_406 (pc' := 407) rfl ?_
        obtain ⟨c_101, h⟩ := h
        refine r_sld C hE c_101 dL_law_407 (pc' := 408) rfl ?_
        refine r_aload_n C dL_law_408 (pc' := 409) rfl (j := 0) rfl ?_
        refine r_iload_n C dL_law_409 (pc' := 410) rfl (j := 3) rfl ?_
        refine r_iconst C dL_law_410 (pc' := 411) rfl (v := 5) rfl ?_
        refine r_iadd C dL_law_411 (pc' := 412) rfl ?_
        obtain ⟨c_102, h⟩ := h
        refine r_sld C hE c_102 dL_law_412 (pc' := 413) rfl ?_
        refine r_callVi (As := [.int (xs (ix_ (x3 + (1 : Int32)))), .int (xs (ix_ (x3 + (2 : Int32)))), .int (xs (ix_ (x3 + (3 : Int32)))), .int (xs (ix_ (x3 + (4 : Int32)))), .int (xs (ix_ (x3 + (5 : Int32))))]) (rest := [.int r_96]) (Cn := RX7) (T := TX7) C (mMo.kd m_97 k_a2 (by decide)) (by decide) vc_X7 (S_X7_feed (mMo.kd m_97 k_a2 (by decide)) h) (lw_V q1420 q1421 q1422 q112 q1423) rfl hd_X7_feed rfl rfl (Nat.le_of_ble_eq_true rfl) (Nat.le_of_ble_eq_true rfl) (Nat.le_of_ble_eq_true rfl) rfl rfl hkb hnb dL_law_413 (pc' := 416) rfl (fun r_104 M_103 h m_105 => ?_)
        refine r_icmp_eq C dL_law_416 (pc' := 419) rfl (tgt := 1504) (by decide) (fun c_106 => ?_) (fun c_106 => ?_)
        · have h := it_t h c_106
          obtain ⟨x3_107, e_108, h⟩ := bn_ h
          refine r_iinc C (lv' := [(3, .int x3_107), (0, .ref a0), (1, .ref a1), (2, .ref a2)]) dL_law_1504 (pc' := 1507) rfl (j := 3) rfl x3_107 (by rw [e_108]; rfl) (Nat.le_of_ble_eq_true rfl) rfl ?_
          refine r_goto C dL_law_1507 (tgt := 18) (by decide) ?_
          refine r_sub (lv' := [(0, .ref a0), (1, .ref a1), (2, .ref a2), (3, .int x3_107)]) [1, 2, 3, 0] rfl ?_
          exact ih k n M_103 x3_107 hkb hnb (mMo.kd m_105 (mMo.kd m_97 k_a1 (by decide)) (by decide)) (mMo.kd m_105 (mMo.kd m_97 k_a2 (by decide)) (by decide)) h
        · have h := it_f h c_106
          refine r_iconst C dL_law_419 (pc' := 420) rfl (v := 0) rfl ?_
          exact r_lawret C hE h hkb hnb dL_law_420
      have h := it_f h c_89
      by_cases c_109 : ((xs (ix_ x3)) &&& (63 : Int32)) = 5
      · have h := it_t h c_109
        refine r_tsIn C dL_law_33 (off := 388) (tgt := 421) (by rw [c_109]; decide) (by rw [c_109]; decide) (by rw [c_109]; decide) (by decide) ?_
        refine r_aload_n C dL_law_421 (pc' := 422) rfl (j := 1) rfl ?_
        refine r_aload_n C dL_law_422 (pc' := 423) rfl (j := 0) rfl ?_
        refine r_iload_n C dL_law_423 (pc' := 424) rfl (j := 3) rfl ?_
        refine r_iconst C dL_law_424 (pc' := 425) rfl (v := 1) rfl ?_
        refine r_iadd C dL_law_425 (pc' := 426) rfl ?_
        obtain ⟨c_110, h⟩ := h
        refine r_sld C hE c_110 dL_law_426 (pc' := 427) rfl ?_
        obtain ⟨c_111, s_112, c_113, h⟩ := h
        refine r_callVi (As := [.int (xs (ix_ (x3 + (1 : Int32))))]) (rest := []) (Cn := RX0) (T := TX0) C k_a1 (by decide) vc_X0 (S_X0_law k_a1 h) (lw_V q500 q501 q502 q105 q503) rfl hd_X0_law rfl rfl (Nat.le_of_ble_eq_true rfl) (Nat.le_of_ble_eq_true rfl) (Nat.le_of_ble_eq_true rfl) rfl rfl c_113.1 c_113.2 dL_law_427 (pc' := 430) rfl (fun r_115 M_114 h m_116 => ?_)
        refine r_aload_n C dL_law_430 (pc' := 431) rfl (j := 2) rfl ?_
        refine r_aload_n C dL_law_431 (pc' := 432) rfl (j := 0) rfl ?_
        refine r_iload_n C dL_law_432 (pc' := 433) rfl (j := 3) rfl ?_
        refine r_iconst C dL_law_433 (pc' := 434) rfl (v := 1) rfl ?_
        refine r_iadd C dL_law_434 (pc' := 435) rfl ?_
        obtain ⟨c_117, h⟩ := h
        refine r_sld C hE c_117 dL_law_435 (pc' := 436) rfl ?_
        refine r_callVi (As := [.int (xs (ix_ (x3 + (1 : Int32))))]) (rest := [.int r_115]) (Cn := RX7) (T := TX7) C (mMo.kd m_116 k_a2 (by decide)) (by decide) vc_X7 (S_X7_law (mMo.kd m_116 k_a2 (by decide)) h) (lw_V q1428 q1429 q1430 q112 q1431) rfl hd_X7_law rfl rfl (Nat.le_of_ble_eq_true rfl) (Nat.le_of_ble_eq_true rfl) (Nat.le_of_ble_eq_true rfl) rfl rfl c_113.1 c_113.2 dL_law_436 (pc' := 439) rfl (fun r_119 M_118 h m_120 => ?_)
        refine r_icmp_eq C dL_law_439 (pc' := 442) rfl (tgt := 1504) (by decide) (fun c_121 => ?_) (fun c_121 => ?_)
        · have h := it_t h c_121
          obtain ⟨x3_122, e_123, h⟩ := bn_ h
          refine r_iinc C (lv' := [(3, .int x3_122), (0, .ref a0), (1, .ref a1), (2, .ref a2)]) dL_law_1504 (pc' := 1507) rfl (j := 3) rfl x3_122 (by rw [e_123]; rfl) (Nat.le_of_ble_eq_true rfl) rfl ?_
          refine r_goto C dL_law_1507 (tgt := 18) (by decide) ?_
          refine r_sub (lv' := [(0, .ref a0), (1, .ref a1), (2, .ref a2), (3, .int x3_122)]) [1, 2, 3, 0] rfl ?_
          exact ih (k + c_111) (n + s_112) M_118 x3_122 c_113.1 c_113.2 (mMo.kd m_120 (mMo.kd m_116 k_a1 (by decide)) (by decide)) (mMo.kd m_120 (mMo.kd m_116 k_a2 (by decide)) (by decide)) h
        · have h := it_f h c_121
          refine r_iconst C dL_law_442 (pc' := 443) rfl (v := 0) rfl ?_
          exact r_lawret C hE h c_113.1 c_113.2 dL_law_443
      have h := it_f h c_109
      by_cases c_124 : ((xs (ix_ x3)) &&& (63 : Int32)) = 6
      · have h := it_t h c_124
        refine r_tsIn C dL_law_33 (off := 411) (tgt := 444) (by rw [c_124]; decide) (by rw [c_124]; decide) (by rw [c_124]; decide) (by decide) ?_
        refine r_aload_n C dL_law_444 (pc' := 445) rfl (j := 1) rfl ?_
        refine r_aload_n C dL_law_445 (pc' := 446) rfl (j := 0) rfl ?_
        refine r_iload_n C dL_law_446 (pc' := 447) rfl (j := 3) rfl ?_
        refine r_iconst C dL_law_447 (pc' := 448) rfl (v := 1) rfl ?_
        refine r_iadd C dL_law_448 (pc' := 449) rfl ?_
        obtain ⟨c_125, h⟩ := h
        refine r_sld C hE c_125 dL_law_449 (pc' := 450) rfl ?_
        refine r_aload_n C dL_law_450 (pc' := 451) rfl (j := 0) rfl ?_
        refine r_iload_n C dL_law_451 (pc' := 452) rfl (j := 3) rfl ?_
        refine r_iconst C dL_law_452 (pc' := 453) rfl (v := 2) rfl ?_
        refine r_iadd C dL_law_453 (pc' := 454) rfl ?_
        obtain ⟨c_126, h⟩ := h
        refine r_sld C hE c_126 dL_law_454 (pc' := 455) rfl ?_
        obtain ⟨c_127, s_128, c_129, h⟩ := h
        refine r_callVi (As := [.int (xs (ix_ (x3 + (1 : Int32)))), .int (xs (ix_ (x3 + (2 : Int32))))]) (rest := []) (Cn := RX0) (T := TX0) C k_a1 (by decide) vc_X0 (S_X0_rule k_a1 h) (lw_V q770 q771 q772 q105 q773) rfl hd_X0_rule rfl rfl (Nat.le_of_ble_eq_true rfl) (Nat.le_of_ble_eq_true rfl) (Nat.le_of_ble_eq_true rfl) rfl rfl c_129.1 c_129.2 dL_law_455 (pc' := 458) rfl (fun r_131 M_130 h m_132 => ?_)
        refine r_aload_n C dL_law_458 (pc' := 459) rfl (j := 2) rfl ?_
        refine r_aload_n C dL_law_459 (pc' := 460) rfl (j := 0) rfl ?_
        refine r_iload_n C dL_law_460 (pc' := 461) rfl (j := 3) rfl ?_
        refine r_iconst C dL_law_461 (pc' := 462) rfl (v := 1) rfl ?_
        refine r_iadd C dL_law_462 (pc' := 463) rfl ?_
        obtain ⟨c_133, h⟩ := h
        refine r_sld C hE c_133 dL_law_463 (pc' := 464) rfl ?_
        refine r_aload_n C dL_law_464 (pc' := 465) rfl (j := 0) rfl ?_
        refine r_iload_n C dL_law_465 (pc' := 466) rfl (j := 3) rfl ?_
        refine r_iconst C dL_law_466 (pc' := 467) rfl (v := 2) rfl ?_
        refine r_iadd C dL_law_467 (pc' := 468) rfl ?_
        obtain ⟨c_134, h⟩ := h
        refine r_sld C hE c_134 dL_law_468 (pc' := 469) rfl ?_
        refine r_callVi (As := [.int (xs (ix_ (x3 + (1 : Int32)))), .int (xs (ix_ (x3 + (2 : Int32))))]) (rest := [.int r_131]) (Cn := RX7) (T := TX7) C (mMo.kd m_132 k_a2 (by decide)) (by decide) vc_X7 (S_X7_rule (mMo.kd m_132 k_a2 (by decide)) h) (lw_V q1518 q1519 q1520 q112 q1521) rfl hd_X7_rule rfl rfl (Nat.le_of_ble_eq_true rfl) (Nat.le_of_ble_eq_true rfl) (Nat.le_of_ble_eq_true rfl) rfl rfl c_129.1 c_129.2 dL_law_469 (pc' := 472) rfl (fun r_136 M_135 h m_137 => ?_)
        refine r_icmp_eq C dL_law_472 (pc' := 475) rfl (tgt := 1504) (by decide) (fun c_138 => ?_) (fun c_138 => ?_)
        · have h := it_t h c_138
          obtain ⟨x3_139, e_140, h⟩ := bn_ h
          refine r_iinc C (lv' := [(3, .int x3_139), (0, .ref a0), (1, .ref a1), (2, .ref a2)]) dL_law_1504 (pc' := 1507) rfl (j := 3) rfl x3_139 (by rw [e_140]; rfl) (Nat.le_of_ble_eq_true rfl) rfl ?_
          refine r_goto C dL_law_1507 (tgt := 18) (by decide) ?_
          refine r_sub (lv' := [(0, .ref a0), (1, .ref a1), (2, .ref a2), (3, .int x3_139)]) [1, 2, 3, 0] rfl ?_
          exact ih (k + c_127) (n + s_128) M_135 x3_139 c_129.1 c_129.2 (mMo.kd m_137 (mMo.kd m_132 k_a1 (by decide)) (by decide)) (mMo.kd m_137 (mMo.kd m_132 k_a2 (by decide)) (by decide)) h
        · have h := it_f h c_138
          refine r_iconst C dL_law_475 (pc' := 476) rfl (v := 0) rfl ?_
          exact r_lawret C hE h c_129.1 c_129.2 dL_law_476
      have h := it_f h c_124
      by_cases c_141 : ((xs (ix_ x3)) &&& (63 : Int32)) = 7
      · have h := it_t h c_141
        refine r_tsIn C dL_law_33 (off := 444) (tgt := 477) (by rw [c_141]; decide) (by rw [c_141]; decide) (by rw [c_141]; decide) (by decide) ?_
        refine r_aload_n C dL_law_477 (pc' := 478) rfl (j := 1) rfl ?_
        refine r_aload_n C dL_law_478 (pc' := 479) rfl (j := 0) rfl ?_
        refine r_iload_n C dL_law_479 (pc' := 480) rfl (j := 3) rfl ?_
        refine r_iconst C dL_law_480 (pc' := 481) rfl (v := 1) rfl ?_
        refine r_iadd C dL_law_481 (pc' := 482) rfl ?_
        obtain ⟨c_142, h⟩ := h
        refine r_sld C hE c_142 dL_law_482 (pc' := 483) rfl ?_
        refine r_callVi (As := [.int (xs (ix_ (x3 + (1 : Int32))))]) (rest := []) (Cn := RX0) (T := TX0) C k_a1 (by decide) vc_X0 (S_X0_days k_a1 h) (lw_V q775 q776 q777 q105 q778) rfl hd_X0_days rfl rfl (Nat.le_of_ble_eq_true rfl) (Nat.le_of_ble_eq_true rfl) (Nat.le_of_ble_eq_true rfl) rfl rfl hkb hnb dL_law_483 (pc' := 486) rfl (fun r_144 M_143 h m_145 => ?_)
        refine r_aload_n C dL_law_486 (pc' := 487) rfl (j := 2) rfl ?_
        refine r_aload_n C dL_law_487 (pc' := 488) rfl (j := 0) rfl ?_
        refine r_iload_n C dL_law_488 (pc' := 489) rfl (j := 3) rfl ?_
        refine r_iconst C dL_law_489 (pc' := 490) rfl (v := 1) rfl ?_
        refine r_iadd C dL_law_490 (pc' := 491) rfl ?_
        obtain ⟨c_146, h⟩ := h
        refine r_sld C hE c_146 dL_law_491 (pc' := 492) rfl ?_
        refine r_callVi (As := [.int (xs (ix_ (x3 + (1 : Int32))))]) (rest := [.int r_144]) (Cn := RX7) (T := TX7) C (mMo.kd m_145 k_a2 (by decide)) (by decide) vc_X7 (S_X7_days (mMo.kd m_145 k_a2 (by decide)) h) (lw_V q1556 q1557 q1558 q112 q1559) rfl hd_X7_days rfl rfl (Nat.le_of_ble_eq_true rfl) (Nat.le_of_ble_eq_true rfl) (Nat.le_of_ble_eq_true rfl) rfl rfl hkb hnb dL_law_492 (pc' := 495) rfl (fun r_148 M_147 h m_149 => ?_)
        refine r_icmp_eq C dL_law_495 (pc' := 498) rfl (tgt := 1504) (by decide) (fun c_150 => ?_) (fun c_150 => ?_)
        · have h := it_t h c_150
          obtain ⟨x3_151, e_152, h⟩ := bn_ h
          refine r_iinc C (lv' := [(3, .int x3_151), (0, .ref a0), (1, .ref a1), (2, .ref a2)]) dL_law_1504 (pc' := 1507) rfl (j := 3) rfl x3_151 (by rw [e_152]; rfl) (Nat.le_of_ble_eq_true rfl) rfl ?_
          refine r_goto C dL_law_1507 (tgt := 18) (by decide) ?_
          refine r_sub (lv' := [(0, .ref a0), (1, .ref a1), (2, .ref a2), (3, .int x3_151)]) [1, 2, 3, 0] rfl ?_
          exact ih k n M_147 x3_151 hkb hnb (mMo.kd m_149 (mMo.kd m_145 k_a1 (by decide)) (by decide)) (mMo.kd m_149 (mMo.kd m_145 k_a2 (by decide)) (by decide)) h
        · have h := it_f h c_150
          refine r_iconst C dL_law_498 (pc' := 499) rfl (v := 0) rfl ?_
          exact r_lawret C hE h hkb hnb dL_law_499
      have h := it_f h c_141
      by_cases c_153 : ((xs (ix_ x3)) &&& (63 : Int32)) = 8
      · have h := it_t h c_153
        refine r_tsIn C dL_law_33 (off := 467) (tgt := 500) (by rw [c_153]; decide) (by rw [c_153]; decide) (by rw [c_153]; decide) (by decide) ?_
        refine r_aload_n C dL_law_500 (pc' := 501) rfl (j := 1) rfl ?_
        refine r_aload_n C dL_law_501 (pc' := 502) rfl (j := 0) rfl ?_
        refine r_iload_n C dL_law_502 (pc' := 503) rfl (j := 3) rfl ?_
        refine r_iconst C dL_law_503 (pc' := 504) rfl (v := 1) rfl ?_
        refine r_iadd C dL_law_504 (pc' := 505) rfl ?_
        obtain ⟨c_154, h⟩ := h
        refine r_sld C hE c_154 dL_law_505 (pc' := 506) rfl ?_
        refine r_aload_n C dL_law_506 (pc' := 507) rfl (j := 0) rfl ?_
        refine r_iload_n C dL_law_507 (pc' := 508) rfl (j := 3) rfl ?_
        refine r_iconst C dL_law_508 (pc' := 509) rfl (v := 2) rfl ?_
        refine r_iadd C dL_law_509 (pc' := 510) rfl ?_
        obtain ⟨c_155, h⟩ := h
        refine r_sld C hE c_155 dL_law_510 (pc' := 511) rfl ?_
        refine r_callVi (As := [.int (xs (ix_ (x3 + (1 : Int32)))), .int (xs (ix_ (x3 + (2 : Int32))))]) (rest := []) (Cn := RX0) (T := TX0) C k_a1 (by decide) vc_X0 (S_X0_tried k_a1 h) (lw_V q900 q901 q902 q105 q903) rfl hd_X0_tried rfl rfl (Nat.le_of_ble_eq_true rfl) (Nat.le_of_ble_eq_true rfl) (Nat.le_of_ble_eq_true rfl) rfl rfl hkb hnb dL_law_511 (pc' := 514) rfl (fun r_157 M_156 h m_158 => ?_)
        refine r_aload_n C dL_law_514 (pc' := 515) rfl (j := 2) rfl ?_
        refine r_aload_n C dL_law_515 (pc' := 516) rfl (j := 0) rfl ?_
        refine r_iload_n C dL_law_516 (pc' := 517) rfl (j := 3) rfl ?_
        refine r_iconst C dL_law_517 (pc' := 518) rfl (v := 1) rfl ?_
        refine r_iadd C dL_law_518 (pc' := 519) rfl ?_
        obtain ⟨c_159, h⟩ := h
        refine r_sld C hE c_159 dL_law_519 (pc' := 520) rfl ?_
        refine r_aload_n C dL_law_520 (pc' := 521) rfl (j := 0) rfl ?_
        refine r_iload_n C dL_law_521 (pc' := 522) rfl (j := 3) rfl ?_
        refine r_iconst C dL_law_522 (pc' := 523) rfl (v := 2) rfl ?_
        refine r_iadd C dL_law_523 (pc' := 524) rfl ?_
        obtain ⟨c_160, h⟩ := h
        refine r_sld C hE c_160 dL_law_524 (pc' := 525) rfl ?_
        refine r_callVi (As := [.int (xs (ix_ (x3 + (1 : Int32)))), .int (xs (ix_ (x3 + (2 : Int32))))]) (rest := [.int r_157]) (Cn := RX7) (T := TX7) C (mMo.kd m_158 k_a2 (by decide)) (by decide) vc_X7 (S_X7_tried (mMo.kd m_158 k_a2 (by decide)) h) (lw_V q1584 q1585 q1586 q112 q1587) rfl hd_X7_tried rfl rfl (Nat.le_of_ble_eq_true rfl) (Nat.le_of_ble_eq_true rfl) (Nat.le_of_ble_eq_true rfl) rfl rfl hkb hnb dL_law_525 (pc' := 528) rfl (fun r_162 M_161 h m_163 => ?_)
        refine r_icmp_eq C dL_law_528 (pc' := 531) rfl (tgt := 1504) (by decide) (fun c_164 => ?_) (fun c_164 => ?_)
        · have h := it_t h c_164
          obtain ⟨x3_165, e_166, h⟩ := bn_ h
          refine r_iinc C (lv' := [(3, .int x3_165), (0, .ref a0), (1, .ref a1), (2, .ref a2)]) dL_law_1504 (pc' := 1507) rfl (j := 3) rfl x3_165 (by rw [e_166]; rfl) (Nat.le_of_ble_eq_true rfl) rfl ?_
          refine r_goto C dL_law_1507 (tgt := 18) (by decide) ?_
          refine r_sub (lv' := [(0, .ref a0), (1, .ref a1), (2, .ref a2), (3, .int x3_165)]) [1, 2, 3, 0] rfl ?_
          exact ih k n M_161 x3_165 hkb hnb (mMo.kd m_163 (mMo.kd m_158 k_a1 (by decide)) (by decide)) (mMo.kd m_163 (mMo.kd m_158 k_a2 (by decide)) (by decide)) h
        · have h := it_f h c_164
          refine r_iconst C dL_law_531 (pc' := 532) rfl (v := 0) rfl ?_
          exact r_lawret C hE h hkb hnb dL_law_532
      have h := it_f h c_153
      by_cases c_167 : ((xs (ix_ x3)) &&& (63 : Int32)) = 9
      · have h := it_t h c_167
        refine r_tsIn C dL_law_33 (off := 500) (tgt := 533) (by rw [c_167]; decide) (by rw [c_167]; decide) (by rw [c_167]; decide) (by decide) ?_
        refine r_aload_n C dL_law_533 (pc' := 534) rfl (j := 1) rfl ?_
        refine r_aload_n C dL_law_534 (pc' := 535) rfl (j := 0) rfl ?_
        refine r_iload_n C dL_law_535 (pc' := 536) rfl (j := 3) rfl ?_
        refine r_iconst C dL_law_536 (pc' := 537) rfl (v := 1) rfl ?_
        refine r_iadd C dL_law_537 (pc' := 538) rfl ?_
        obtain ⟨c_168, h⟩ := h
        refine r_sld C hE c_168 dL_law_538 (pc' := 539) rfl ?_
        refine r_aload_n C dL_law_539 (pc' := 540) rfl (j := 0) rfl ?_
        refine r_iload_n C dL_law_540 (pc' := 541) rfl (j := 3) rfl ?_
        refine r_iconst C dL_law_541 (pc' := 542) rfl (v := 2) rfl ?_
        refine r_iadd C dL_law_542 (pc' := 543) rfl ?_
        obtain ⟨c_169, h⟩ := h
        refine r_sld C hE c_169 dL_law_543 (pc' := 544) rfl ?_
        refine r_callVi (As := [.int (xs (ix_ (x3 + (1 : Int32)))), .int (xs (ix_ (x3 + (2 : Int32))))]) (rest := []) (Cn := RX0) (T := TX0) C k_a1 (by decide) vc_X0 (S_X0_plantIs k_a1 h) (lw_V q930 q931 q932 q105 q933) rfl hd_X0_plantIs rfl rfl (Nat.le_of_ble_eq_true rfl) (Nat.le_of_ble_eq_true rfl) (Nat.le_of_ble_eq_true rfl) rfl rfl hkb hnb dL_law_544 (pc' := 547) rfl (fun r_171 M_170 h m_172 => ?_)
        refine r_aload_n C dL_law_547 (pc' := 548) rfl (j := 2) rfl ?_
        refine r_aload_n C dL_law_548 (pc' := 549) rfl (j := 0) rfl ?_
        refine r_iload_n C dL_law_549 (pc' := 550) rfl (j := 3) rfl ?_
        refine r_iconst C dL_law_550 (pc' := 551) rfl (v := 1) rfl ?_
        refine r_iadd C dL_law_551 (pc' := 552) rfl ?_
        obtain ⟨c_173, h⟩ := h
        refine r_sld C hE c_173 dL_law_552 (pc' := 553) rfl ?_
        refine r_aload_n C dL_law_553 (pc' := 554) rfl (j := 0) rfl ?_
        refine r_iload_n C dL_law_554 (pc' := 555) rfl (j := 3) rfl ?_
        refine r_iconst C dL_law_555 (pc' := 556) rfl (v := 2) rfl ?_
        refine r_iadd C dL_law_556 (pc' := 557) rfl ?_
        obtain ⟨c_174, h⟩ := h
        refine r_sld C hE c_174 dL_law_557 (pc' := 558) rfl ?_
        refine r_callVi (As := [.int (xs (ix_ (x3 + (1 : Int32)))), .int (xs (ix_ (x3 + (2 : Int32))))]) (rest := [.int r_171]) (Cn := RX7) (T := TX7) C (mMo.kd m_172 k_a2 (by decide)) (by decide) vc_X7 (S_X7_plantIs (mMo.kd m_172 k_a2 (by decide)) h) (lw_V q1591 q1592 q1593 q112 q1594) rfl hd_X7_plantIs rfl rfl (Nat.le_of_ble_eq_true rfl) (Nat.le_of_ble_eq_true rfl) (Nat.le_of_ble_eq_true rfl) rfl rfl hkb hnb dL_law_558 (pc' := 561) rfl (fun r_176 M_175 h m_177 => ?_)
        refine r_icmp_eq C dL_law_561 (pc' := 564) rfl (tgt := 1504) (by decide) (fun c_178 => ?_) (fun c_178 => ?_)
        · have h := it_t h c_178
          obtain ⟨x3_179, e_180, h⟩ := bn_ h
          refine r_iinc C (lv' := [(3, .int x3_179), (0, .ref a0), (1, .ref a1), (2, .ref a2)]) dL_law_1504 (pc' := 1507) rfl (j := 3) rfl x3_179 (by rw [e_180]; rfl) (Nat.le_of_ble_eq_true rfl) rfl ?_
          refine r_goto C dL_law_1507 (tgt := 18) (by decide) ?_
          refine r_sub (lv' := [(0, .ref a0), (1, .ref a1), (2, .ref a2), (3, .int x3_179)]) [1, 2, 3, 0] rfl ?_
          exact ih k n M_175 x3_179 hkb hnb (mMo.kd m_177 (mMo.kd m_172 k_a1 (by decide)) (by decide)) (mMo.kd m_177 (mMo.kd m_172 k_a2 (by decide)) (by decide)) h
        · have h := it_f h c_178
          refine r_iconst C dL_law_564 (pc' := 565) rfl (v := 0) rfl ?_
          exact r_lawret C hE h hkb hnb dL_law_565
      have h := it_f h c_167
      by_cases c_181 : ((xs (ix_ x3)) &&& (63 : Int32)) = 10
      · have h := it_t h c_181
        refine r_tsIn C dL_law_33 (off := 533) (tgt := 566) (by rw [c_181]; decide) (by rw [c_181]; decide) (by rw [c_181]; decide) (by decide) ?_
        refine r_aload_n C dL_law_566 (pc' := 567) rfl (j := 1) rfl ?_
        refine r_aload_n C dL_law_567 (pc' := 568) rfl (j := 0) rfl ?_
        refine r_iload_n C dL_law_568 (pc' := 569) rfl (j := 3) rfl ?_
        refine r_iconst C dL_law_569 (pc' := 570) rfl (v := 1) rfl ?_
        refine r_iadd C dL_law_570 (pc' := 571) rfl ?_
        obtain ⟨c_182, h⟩ := h
        refine r_sld C hE c_182 dL_law_571 (pc' := 572) rfl ?_
        refine r_aload_n C dL_law_572 (pc' := 573) rfl (j := 0) rfl ?_
        refine r_iload_n C dL_law_573 (pc' := 574) rfl (j := 3) rfl ?_
        refine r_iconst C dL_law_574 (pc' := 575) rfl (v := 2) rfl ?_
        refine r_iadd C dL_law_575 (pc' := 576) rfl ?_
        obtain ⟨c_183, h⟩ := h
        refine r_sld C hE c_183 dL_law_576 (pc' := 577) rfl ?_
        refine r_callVi (As := [.int (xs (ix_ (x3 + (1 : Int32)))), .int (xs (ix_ (x3 + (2 : Int32))))]) (rest := []) (Cn := RX0) (T := TX0) C k_a1 (by decide) vc_X0 (S_X0_gives k_a1 h) (lw_V q935 q936 q937 q105 q938) rfl hd_X0_gives rfl rfl (Nat.le_of_ble_eq_true rfl) (Nat.le_of_ble_eq_true rfl) (Nat.le_of_ble_eq_true rfl) rfl rfl hkb hnb dL_law_577 (pc' := 580) rfl (fun r_185 M_184 h m_186 => ?_)
        refine r_aload_n C dL_law_580 (pc' := 581) rfl (j := 2) rfl ?_
        refine r_aload_n C dL_law_581 (pc' := 582) rfl (j := 0) rfl ?_
        refine r_iload_n C dL_law_582 (pc' := 583) rfl (j := 3) rfl ?_
        refine r_iconst C dL_law_583 (pc' := 584) rfl (v := 1) rfl ?_
        refine r_iadd C dL_law_584 (pc' := 585) rfl ?_
        obtain ⟨c_187, h⟩ := h
        refine r_sld C hE c_187 dL_law_585 (pc' := 586) rfl ?_
        refine r_aload_n C dL_law_586 (pc' := 587) rfl (j := 0) rfl ?_
        refine r_iload_n C dL_law_587 (pc' := 588) rfl (j := 3) rfl ?_
        refine r_iconst C dL_law_588 (pc' := 589) rfl (v := 2) rfl ?_
        refine r_iadd C dL_law_589 (pc' := 590) rfl ?_
        obtain ⟨c_188, h⟩ := h
        refine r_sld C hE c_188 dL_law_590 (pc' := 591) rfl ?_
        refine r_callVi (As := [.int (xs (ix_ (x3 + (1 : Int32)))), .int (xs (ix_ (x3 + (2 : Int32))))]) (rest := [.int r_185]) (Cn := RX7) (T := TX7) C (mMo.kd m_186 k_a2 (by decide)) (by decide) vc_X7 (S_X7_gives (mMo.kd m_186 k_a2 (by decide)) h) (lw_V q1522 q1523 q1524 q112 q1525) rfl hd_X7_gives rfl rfl (Nat.le_of_ble_eq_true rfl) (Nat.le_of_ble_eq_true rfl) (Nat.le_of_ble_eq_true rfl) rfl rfl hkb hnb dL_law_591 (pc' := 594) rfl (fun r_190 M_189 h m_191 => ?_)
        refine r_icmp_eq C dL_law_594 (pc' := 597) rfl (tgt := 1504) (by decide) (fun c_192 => ?_) (fun c_192 => ?_)
        · have h := it_t h c_192
          obtain ⟨x3_193, e_194, h⟩ := bn_ h
          refine r_iinc C (lv' := [(3, .int x3_193), (0, .ref a0), (1, .ref a1), (2, .ref a2)]) dL_law_1504 (pc' := 1507) rfl (j := 3) rfl x3_193 (by rw [e_194]; rfl) (Nat.le_of_ble_eq_true rfl) rfl ?_
          refine r_goto C dL_law_1507 (tgt := 18) (by decide) ?_
          refine r_sub (lv' := [(0, .ref a0), (1, .ref a1), (2, .ref a2), (3, .int x3_193)]) [1, 2, 3, 0] rfl ?_
          exact ih k n M_189 x3_193 hkb hnb (mMo.kd m_191 (mMo.kd m_186 k_a1 (by decide)) (by decide)) (mMo.kd m_191 (mMo.kd m_186 k_a2 (by decide)) (by decide)) h
        · have h := it_f h c_192
          refine r_iconst C dL_law_597 (pc' := 598) rfl (v := 0) rfl ?_
          exact r_lawret C hE h hkb hnb dL_law_598
      have h := it_f h c_181
      by_cases c_195 : ((xs (ix_ x3)) &&& (63 : Int32)) = 11
      · have h := it_t h c_195
        refine r_tsIn C dL_law_33 (off := 566) (tgt := 599) (by rw [c_195]; decide) (by rw [c_195]; decide) (by rw [c_195]; decide) (by decide) ?_
        refine r_aload_n C dL_law_599 (pc' := 600) rfl (j := 1) rfl ?_
        refine r_aload_n C dL_law_600 (pc' := 601) rfl (j := 0) rfl ?_
        refine r_iload_n C dL_law_601 (pc' := 602) rfl (j := 3) rfl ?_
        refine r_iconst C dL_law_602 (pc' := 603) rfl (v := 1) rfl ?_
        refine r_iadd C dL_law_603 (pc' := 604) rfl ?_
        obtain ⟨c_196, h⟩ := h
        refine r_sld C hE c_196 dL_law_604 (pc' := 605) rfl ?_
        refine r_aload_n C dL_law_605 (pc' := 606) rfl (j := 0) rfl ?_
        refine r_iload_n C dL_law_606 (pc' := 607) rfl (j := 3) rfl ?_
        refine r_iconst C dL_law_607 (pc' := 608) rfl (v := 2) rfl ?_
        refine r_iadd C dL_law_608 (pc' := 609) rfl ?_
        obtain ⟨c_197, h⟩ := h
        refine r_sld C hE c_197 dL_law_609 (pc' := 610) rfl ?_
        refine r_aload_n C dL_law_610 (pc' := 611) rfl (j := 0) rfl ?_
        refine r_iload_n C dL_law_611 (pc' := 612) rfl (j := 3) rfl ?_
        refine r_iconst C dL_law_612 (pc' := 613) rfl (v := 3) rfl ?_
        refine r_iadd C dL_law_613 (pc' := 614) rfl ?_
        obtain ⟨c_198, h⟩ := h
        refine r_sld C hE c_198 dL_law_614 (pc' := 615) rfl ?_
        refine r_aload_n C dL_law_615 (pc' := 616) rfl (j := 0) rfl ?_
        refine r_iload_n C dL_law_616 (pc' := 617) rfl (j := 3) rfl ?_
        refine r_iconst C dL_law_617 (pc' := 618) rfl (v := 4) rfl ?_
        refine r_iadd C dL_law_618 (pc' := 619) rfl ?_
        obtain ⟨c_199, h⟩ := h
        refine r_sld C hE c_199 dL_law_619 (pc' := 620) rfl ?_
        refine r_callVl (As := [.int (xs (ix_ (x3 + (1 : Int32)))), .int (xs (ix_ (x3 + (2 : Int32)))), .int (xs (ix_ (x3 + (3 : Int32)))), .int (xs (ix_ (x3 + (4 : Int32))))]) (rest := []) (Cn := RX0) (T := TX0) C k_a1 (by decide) vc_X0 (S_X0_exactly k_a1 h) (lw_V q940 q941 q942 q105 q943) rfl hd_X0_exactly rfl rfl (Nat.le_of_ble_eq_true rfl) (Nat.le_of_ble_eq_true rfl) (Nat.le_of_ble_eq_true rfl) rfl rfl hkb hnb dL_law_620 (pc' := 623) rfl (fun r_201 M_200 h m_202 => ?_)
        refine r_aload_n C dL_law_623 (pc' := 624) rfl (j := 2) rfl ?_
        refine r_aload_n C dL_law_624 (pc' := 625) rfl (j := 0) rfl ?_
        refine r_iload_n C dL_law_625 (pc' := 626) rfl (j := 3) rfl ?_
        refine r_iconst C dL_law_626 (pc' := 627) rfl (v := 1) rfl ?_
        refine r_iadd C dL_law_627 (pc' := 628) rfl ?_
        obtain ⟨c_203, h⟩ := h
        refine r_sld C hE c_203 dL_law_628 (pc' := 629) rfl ?_
        refine r_aload_n C dL_law_629 (pc' := 630) rfl (j := 0) rfl ?_
        refine r_iload_n C dL_law_630 (pc' := 631) rfl (j := 3) rfl ?_
        refine r_iconst C dL_law_631 (pc' := 632) rfl (v := 2) rfl ?_
        refine r_iadd C dL_law_632 (pc' := 633) rfl ?_
        obtain ⟨c_204, h⟩ := h
        refine r_sld C hE c_204 dL_law_633 (pc' := 634) rfl ?_
        refine r_aload_n C dL_law_634 (pc' := 635) rfl (j := 0) rfl ?_
        refine r_iload_n C dL_law_635 (pc' := 636) rfl (j := 3) rfl ?_
        refine r_iconst C dL_law_636 (pc' := 637) rfl (v := 3) rfl ?_
        refine r_iadd C dL_law_637 (pc' := 638) rfl ?_
        obtain ⟨c_205, h⟩ := h
        refine r_sld C hE c_205 dL_law_638 (pc' := 639) rfl ?_
        refine r_aload_n C dL_law_639 (pc' := 640) rfl (j := 0) rfl ?_
        refine r_iload_n C dL_law_640 (pc' := 641) rfl (j := 3) rfl ?_
        refine r_iconst C dL_law_641 (pc' := 642) rfl (v := 4) rfl ?_
        refine r_iadd C dL_law_642 (pc' := 643) rfl ?_
        obtain ⟨c_206, h⟩ := h
        refine r_sld C hE c_206 dL_law_643 (pc' := 644) rfl ?_
        refine r_callVl (As := [.int (xs (ix_ (x3 + (1 : Int32)))), .int (xs (ix_ (x3 + (2 : Int32)))), .int (xs (ix_ (x3 + (3 : Int32)))), .int (xs (ix_ (x3 + (4 : Int32))))]) (rest := [.long r_201]) (Cn := RX7) (T := TX7) C (mMo.kd m_202 k_a2 (by decide)) (by decide) vc_X7 (S_X7_exactly (mMo.kd m_202 k_a2 (by decide)) h) (lw_V q1595 q1596 q1597 q112 q1598) rfl hd_X7_exactly rfl rfl (Nat.le_of_ble_eq_true rfl) (Nat.le_of_ble_eq_true rfl) (Nat.le_of_ble_eq_true rfl) rfl rfl hkb hnb dL_law_644 (pc' := 647) rfl (fun r_208 M_207 h m_209 => ?_)
        refine r_lc_eq C dL_law_647 (pc1 := 648) (pc' := 651) rfl dL_law_648 rfl (tgt := 1504) (by decide) (fun c_210 => ?_) (fun c_210 => ?_)
        · have h := it_t h c_210
          obtain ⟨x3_211, e_212, h⟩ := bn_ h
          refine r_iinc C (lv' := [(3, .int x3_211), (0, .ref a0), (1, .ref a1), (2, .ref a2)]) dL_law_1504 (pc' := 1507) rfl (j := 3) rfl x3_211 (by rw [e_212]; rfl) (Nat.le_of_ble_eq_true rfl) rfl ?_
          refine r_goto C dL_law_1507 (tgt := 18) (by decide) ?_
          refine r_sub (lv' := [(0, .ref a0), (1, .ref a1), (2, .ref a2), (3, .int x3_211)]) [1, 2, 3, 0] rfl ?_
          exact ih k n M_207 x3_211 hkb hnb (mMo.kd m_209 (mMo.kd m_202 k_a1 (by decide)) (by decide)) (mMo.kd m_209 (mMo.kd m_202 k_a2 (by decide)) (by decide)) h
        · have h := it_f h c_210
          refine r_iconst C dL_law_651 (pc' := 652) rfl (v := 0) rfl ?_
          exact r_lawret C hE h hkb hnb dL_law_652
      have h := it_f h c_195
      by_cases c_213 : ((xs (ix_ x3)) &&& (63 : Int32)) = 12
      · have h := it_t h c_213
        refine r_tsIn C dL_law_33 (off := 620) (tgt := 653) (by rw [c_213]; decide) (by rw [c_213]; decide) (by rw [c_213]; decide) (by decide) ?_
        refine r_aload_n C dL_law_653 (pc' := 654) rfl (j := 1) rfl ?_
        refine r_aload_n C dL_law_654 (pc' := 655) rfl (j := 0) rfl ?_
        refine r_iload_n C dL_law_655 (pc' := 656) rfl (j := 3) rfl ?_
        refine r_iconst C dL_law_656 (pc' := 657) rfl (v := 1) rfl ?_
        refine r_iadd C dL_law_657 (pc' := 658) rfl ?_
        obtain ⟨c_214, h⟩ := h
        refine r_sld C hE c_214 dL_law_658 (pc' := 659) rfl ?_
        refine r_aload_n C dL_law_659 (pc' := 660) rfl (j := 0) rfl ?_
        refine r_iload_n C dL_law_660 (pc' := 661) rfl (j := 3) rfl ?_
        refine r_iconst C dL_law_661 (pc' := 662) rfl (v := 2) rfl ?_
        refine r_iadd C dL_law_662 (pc' := 663) rfl ?_
        obtain ⟨c_215, h⟩ := h
        refine r_sld C hE c_215 dL_law_663 (pc' := 664) rfl ?_
        refine r_aload_n C dL_law_664 (pc' := 665) rfl (j := 0) rfl ?_
        refine r_iload_n C dL_law_665 (pc' := 666) rfl (j := 3) rfl ?_
        refine r_iconst C dL_law_666 (pc' := 667) rfl (v := 3) rfl ?_
        refine r_iadd C dL_law_667 (pc' := 668) rfl ?_
        obtain ⟨c_216, h⟩ := h
        refine r_sld C hE c_216 dL_law_668 (pc' := 669) rfl ?_
        refine r_aload_n C dL_law_669 (pc' := 670) rfl (j := 0) rfl ?_
        refine r_iload_n C dL_law_670 (pc' := 671) rfl (j := 3) rfl ?_
        refine r_iconst C dL_law_671 (pc' := 672) rfl (v := 4) rfl ?_
        refine r_iadd C dL_law_672 (pc' := 673) rfl ?_
        obtain ⟨c_217, h⟩ := h
        refine r_sld C hE c_217 dL_law_673 (pc' := 674) rfl ?_
        refine r_callVl (As := [.int (xs (ix_ (x3 + (1 : Int32)))), .int (xs (ix_ (x3 + (2 : Int32)))), .int (xs (ix_ (x3 + (3 : Int32)))), .int (xs (ix_ (x3 + (4 : Int32))))]) (rest := []) (Cn := RX0) (T := TX0) C k_a1 (by decide) vc_X0 (S_X0_chance k_a1 h) (lw_V q997 q998 q999 q105 q1000) rfl hd_X0_chance rfl rfl (Nat.le_of_ble_eq_true rfl) (Nat.le_of_ble_eq_true rfl) (Nat.le_of_ble_eq_true rfl) rfl rfl hkb hnb dL_law_674 (pc' := 677) rfl (fun r_219 M_218 h m_220 => ?_)
        refine r_aload_n C dL_law_677 (pc' := 678) rfl (j := 2) rfl ?_
        refine r_aload_n C dL_law_678 (pc' := 679) rfl (j := 0) rfl ?_
        refine r_iload_n C dL_law_679 (pc' := 680) rfl (j := 3) rfl ?_
        refine r_iconst C dL_law_680 (pc' := 681) rfl (v := 1) rfl ?_
        refine r_iadd C dL_law_681 (pc' := 682) rfl ?_
        obtain ⟨c_221, h⟩ := h
        refine r_sld C hE c_221 dL_law_682 (pc' := 683) rfl ?_
        refine r_aload_n C dL_law_683 (pc' := 684) rfl (j := 0) rfl ?_
        refine r_iload_n C dL_law_684 (pc' := 685) rfl (j := 3) rfl ?_
        refine r_iconst C dL_law_685 (pc' := 686) rfl (v := 2) rfl ?_
        refine r_iadd C dL_law_686 (pc' := 687) rfl ?_
        obtain ⟨c_222, h⟩ := h
        refine r_sld C hE c_222 dL_law_687 (pc' := 688) rfl ?_
        refine r_aload_n C dL_law_688 (pc' := 689) rfl (j := 0) rfl ?_
        refine r_iload_n C dL_law_689 (pc' := 690) rfl (j := 3) rfl ?_
        refine r_iconst C dL_law_690 (pc' := 691) rfl (v := 3) rfl ?_
        refine r_iadd C dL_law_691 (pc' := 692) rfl ?_
        obtain ⟨c_223, h⟩ := h
        refine r_sld C hE c_223 dL_law_692 (pc' := 693) rfl ?_
        refine r_aload_n C dL_law_693 (pc' := 694) rfl (j := 0) rfl ?_
        refine r_iload_n C dL_law_694 (pc' := 695) rfl (j := 3) rfl ?_
        refine r_iconst C dL_law_695 (pc' := 696) rfl (v := 4) rfl ?_
        refine r_iadd C dL_law_696 (pc' := 697) rfl ?_
        obtain ⟨c_224, h⟩ := h
        refine r_sld C hE c_224 dL_law_697 (pc' := 698) rfl ?_
        refine r_callVl (As := [.int (xs (ix_ (x3 + (1 : Int32)))), .int (xs (ix_ (x3 + (2 : Int32)))), .int (xs (ix_ (x3 + (3 : Int32)))), .int (xs (ix_ (x3 + (4 : Int32))))]) (rest := [.long r_219]) (Cn := RX7) (T := TX7) C (mMo.kd m_220 k_a2 (by decide)) (by decide) vc_X7 (S_X7_chance (mMo.kd m_220 k_a2 (by decide)) h) (lw_V q1642 q1643 q1644 q112 q1645) rfl hd_X7_chance rfl rfl (Nat.le_of_ble_eq_true rfl) (Nat.le_of_ble_eq_true rfl) (Nat.le_of_ble_eq_true rfl) rfl rfl hkb hnb dL_law_698 (pc' := 701) rfl (fun r_226 M_225 h m_227 => ?_)
        refine r_lc_eq C dL_law_701 (pc1 := 702) (pc' := 705) rfl dL_law_702 rfl (tgt := 1504) (by decide) (fun c_228 => ?_) (fun c_228 => ?_)
        · have h := it_t h c_228
          obtain ⟨x3_229, e_230, h⟩ := bn_ h
          refine r_iinc C (lv' := [(3, .int x3_229), (0, .ref a0), (1, .ref a1), (2, .ref a2)]) dL_law_1504 (pc' := 1507) rfl (j := 3) rfl x3_229 (by rw [e_230]; rfl) (Nat.le_of_ble_eq_true rfl) rfl ?_
          refine r_goto C dL_law_1507 (tgt := 18) (by decide) ?_
          refine r_sub (lv' := [(0, .ref a0), (1, .ref a1), (2, .ref a2), (3, .int x3_229)]) [1, 2, 3, 0] rfl ?_
          exact ih k n M_225 x3_229 hkb hnb (mMo.kd m_227 (mMo.kd m_220 k_a1 (by decide)) (by decide)) (mMo.kd m_227 (mMo.kd m_220 k_a2 (by decide)) (by decide)) h
        · have h := it_f h c_228
          refine r_iconst C dL_law_705 (pc' := 706) rfl (v := 0) rfl ?_
          exact r_lawret C hE h hkb hnb dL_law_706
      have h := it_f h c_213
      by_cases c_231 : ((xs (ix_ x3)) &&& (63 : Int32)) = 13
      · have h := it_t h c_231
        refine r_tsIn C dL_law_33 (off := 674) (tgt := 707) (by rw [c_231]; decide) (by rw [c_231]; decide) (by rw [c_231]; decide) (by decide) ?_
        refine r_aload_n C dL_law_707 (pc' := 708) rfl (j := 1) rfl ?_
        refine r_aload_n C dL_law_708 (pc' := 709) rfl (j := 0) rfl ?_
        refine r_iload_n C dL_law_709 (pc' := 710) rfl (j := 3) rfl ?_
        refine r_iconst C dL_law_710 (pc' := 711) rfl (v := 1) rfl ?_
        refine r_iadd C dL_law_711 (pc' := 712) rfl ?_
        obtain ⟨c_232, h⟩ := h
        refine r_sld C hE c_232 dL_law_712 (pc' := 713) rfl ?_
        refine r_aload_n C dL_law_713 (pc' := 714) rfl (j := 0) rfl ?_
        refine r_iload_n C dL_law_714 (pc' := 715) rfl (j := 3) rfl ?_
        refine r_iconst C dL_law_715 (pc' := 716) rfl (v := 2) rfl ?_
        refine r_iadd C dL_law_716 (pc' := 717) rfl ?_
        obtain ⟨c_233, h⟩ := h
        refine r_sld C hE c_233 dL_law_717 (pc' := 718) rfl ?_
        refine r_aload_n C dL_law_718 (pc' := 719) rfl (j := 0) rfl ?_
        refine r_iload_n C dL_law_719 (pc' := 720) rfl (j := 3) rfl ?_
        refine r_iconst C dL_law_720 (pc' := 721) rfl (v := 3) rfl ?_
        refine r_iadd C dL_law_721 (pc' := 722) rfl ?_
        obtain ⟨c_234, h⟩ := h
        refine r_sld C hE c_234 dL_law_722 (pc' := 723) rfl ?_
        refine r_aload_n C dL_law_723 (pc' := 724) rfl (j := 0) rfl ?_
        refine r_iload_n C dL_law_724 (pc' := 725) rfl (j := 3) rfl ?_
        refine r_iconst C dL_law_725 (pc' := 726) rfl (v := 4) rfl ?_
        refine r_iadd C dL_law_726 (pc' := 727) rfl ?_
        obtain ⟨c_235, h⟩ := h
        refine r_sld C hE c_235 dL_law_727 (pc' := 728) rfl ?_
        refine r_callVl (As := [.int (xs (ix_ (x3 + (1 : Int32)))), .int (xs (ix_ (x3 + (2 : Int32)))), .int (xs (ix_ (x3 + (3 : Int32)))), .int (xs (ix_ (x3 + (4 : Int32))))]) (rest := []) (Cn := RX0) (T := TX0) C k_a1 (by decide) vc_X0 (S_X0_toAsk k_a1 h) (lw_V q1001 q1002 q1003 q105 q1004) rfl hd_X0_toAsk rfl rfl (Nat.le_of_ble_eq_true rfl) (Nat.le_of_ble_eq_true rfl) (Nat.le_of_ble_eq_true rfl) rfl rfl hkb hnb dL_law_728 (pc' := 731) rfl (fun r_237 M_236 h m_238 => ?_)
        refine r_aload_n C dL_law_731 (pc' := 732) rfl (j := 2) rfl ?_
        refine r_aload_n C dL_law_732 (pc' := 733) rfl (j := 0) rfl ?_
        refine r_iload_n C dL_law_733 (pc' := 734) rfl (j := 3) rfl ?_
        refine r_iconst C dL_law_734 (pc' := 735) rfl (v := 1) rfl ?_
        refine r_iadd C dL_law_735 (pc' := 736) rfl ?_
        obtain ⟨c_239, h⟩ := h
        refine r_sld C hE c_239 dL_law_736 (pc' := 737) rfl ?_
        refine r_aload_n C dL_law_737 (pc' := 738) rfl (j := 0) rfl ?_
        refine r_iload_n C dL_law_738 (pc' := 739) rfl (j := 3) rfl ?_
        refine r_iconst C dL_law_739 (pc' := 740) rfl (v := 2) rfl ?_
        refine r_iadd C dL_law_740 (pc' := 741) rfl ?_
        obtain ⟨c_240, h⟩ := h
        refine r_sld C hE c_240 dL_law_741 (pc' := 742) rfl ?_
        refine r_aload_n C dL_law_742 (pc' := 743) rfl (j := 0) rfl ?_
        refine r_iload_n C dL_law_743 (pc' := 744) rfl (j := 3) rfl ?_
        refine r_iconst C dL_law_744 (pc' := 745) rfl (v := 3) rfl ?_
        refine r_iadd C dL_law_745 (pc' := 746) rfl ?_
        obtain ⟨c_241, h⟩ := h
        refine r_sld C hE c_241 dL_law_746 (pc' := 747) rfl ?_
        refine r_aload_n C dL_law_747 (pc' := 748) rfl (j := 0) rfl ?_
        refine r_iload_n C dL_law_748 (pc' := 749) rfl (j := 3) rfl ?_
        refine r_iconst C dL_law_749 (pc' := 750) rfl (v := 4) rfl ?_
        refine r_iadd C dL_law_750 (pc' := 751) rfl ?_
        obtain ⟨c_242, h⟩ := h
        refine r_sld C hE c_242 dL_law_751 (pc' := 752) rfl ?_
        refine r_callVl (As := [.int (xs (ix_ (x3 + (1 : Int32)))), .int (xs (ix_ (x3 + (2 : Int32)))), .int (xs (ix_ (x3 + (3 : Int32)))), .int (xs (ix_ (x3 + (4 : Int32))))]) (rest := [.long r_237]) (Cn := RX7) (T := TX7) C (mMo.kd m_238 k_a2 (by decide)) (by decide) vc_X7 (S_X7_toAsk (mMo.kd m_238 k_a2 (by decide)) h) (lw_V q1646 q1647 q1648 q112 q1649) rfl hd_X7_toAsk rfl rfl (Nat.le_of_ble_eq_true rfl) (Nat.le_of_ble_eq_true rfl) (Nat.le_of_ble_eq_true rfl) rfl rfl hkb hnb dL_law_752 (pc' := 755) rfl (fun r_244 M_243 h m_245 => ?_)
        refine r_lc_eq C dL_law_755 (pc1 := 756) (pc' := 759) rfl dL_law_756 rfl (tgt := 1504) (by decide) (fun c_246 => ?_) (fun c_246 => ?_)
        · have h := it_t h c_246
          obtain ⟨x3_247, e_248, h⟩ := bn_ h
          refine r_iinc C (lv' := [(3, .int x3_247), (0, .ref a0), (1, .ref a1), (2, .ref a2)]) dL_law_1504 (pc' := 1507) rfl (j := 3) rfl x3_247 (by rw [e_248]; rfl) (Nat.le_of_ble_eq_true rfl) rfl ?_
          refine r_goto C dL_law_1507 (tgt := 18) (by decide) ?_
          refine r_sub (lv' := [(0, .ref a0), (1, .ref a1), (2, .ref a2), (3, .int x3_247)]) [1, 2, 3, 0] rfl ?_
          exact ih k n M_243 x3_247 hkb hnb (mMo.kd m_245 (mMo.kd m_238 k_a1 (by decide)) (by decide)) (mMo.kd m_245 (mMo.kd m_238 k_a2 (by decide)) (by decide)) h
        · have h := it_f h c_246
          refine r_iconst C dL_law_759 (pc' := 760) rfl (v := 0) rfl ?_
          exact r_lawret C hE h hkb hnb dL_law_760
      have h := it_f h c_231
      by_cases c_249 : ((xs (ix_ x3)) &&& (63 : Int32)) = 14
      · have h := it_t h c_249
        refine r_tsIn C dL_law_33 (off := 728) (tgt := 761) (by rw [c_249]; decide) (by rw [c_249]; decide) (by rw [c_249]; decide) (by decide) ?_
        refine r_aload_n C dL_law_761 (pc' := 762) rfl (j := 1) rfl ?_
        refine r_aload_n C dL_law_762 (pc' := 763) rfl (j := 0) rfl ?_
        refine r_iload_n C dL_law_763 (pc' := 764) rfl (j := 3) rfl ?_
        refine r_iconst C dL_law_764 (pc' := 765) rfl (v := 1) rfl ?_
        refine r_iadd C dL_law_765 (pc' := 766) rfl ?_
        obtain ⟨c_250, h⟩ := h
        refine r_sld C hE c_250 dL_law_766 (pc' := 767) rfl ?_
        refine r_aload_n C dL_law_767 (pc' := 768) rfl (j := 0) rfl ?_
        refine r_iload_n C dL_law_768 (pc' := 769) rfl (j := 3) rfl ?_
        refine r_iconst C dL_law_769 (pc' := 770) rfl (v := 2) rfl ?_
        refine r_iadd C dL_law_770 (pc' := 771) rfl ?_
        obtain ⟨c_251, h⟩ := h
        refine r_sld C hE c_251 dL_law_771 (pc' := 772) rfl ?_
        refine r_aload_n C dL_law_772 (pc' := 773) rfl (j := 0) rfl ?_
        refine r_iload_n C dL_law_773 (pc' := 774) rfl (j := 3) rfl ?_
        refine r_iconst C dL_law_774 (pc' := 775) rfl (v := 3) rfl ?_
        refine r_iadd C dL_law_775 (pc' := 776) rfl ?_
        obtain ⟨c_252, h⟩ := h
        refine r_sld C hE c_252 dL_law_776 (pc' := 777) rfl ?_
        refine r_aload_n C dL_law_777 (pc' := 778) rfl (j := 0) rfl ?_
        refine r_iload_n C dL_law_778 (pc' := 779) rfl (j := 3) rfl ?_
        refine r_iconst C dL_law_779 (pc' := 780) rfl (v := 4) rfl ?_
        refine r_iadd C dL_law_780 (pc' := 781) rfl ?_
        obtain ⟨c_253, h⟩ := h
        refine r_sld C hE c_253 dL_law_781 (pc' := 782) rfl ?_
        refine r_callVi (As := [.int (xs (ix_ (x3 + (1 : Int32)))), .int (xs (ix_ (x3 + (2 : Int32)))), .int (xs (ix_ (x3 + (3 : Int32)))), .int (xs (ix_ (x3 + (4 : Int32))))]) (rest := []) (Cn := RX0) (T := TX0) C k_a1 (by decide) vc_X0 (S_X0_few k_a1 h) (lw_V q1009 q1010 q1011 q105 q1012) rfl hd_X0_few rfl rfl (Nat.le_of_ble_eq_true rfl) (Nat.le_of_ble_eq_true rfl) (Nat.le_of_ble_eq_true rfl) rfl rfl hkb hnb dL_law_782 (pc' := 785) rfl (fun r_255 M_254 h m_256 => ?_)
        refine r_aload_n C dL_law_785 (pc' := 786) rfl (j := 2) rfl ?_
        refine r_aload_n C dL_law_786 (pc' := 787) rfl (j := 0) rfl ?_
        refine r_iload_n C dL_law_787 (pc' := 788) rfl (j := 3) rfl ?_
        refine r_iconst C dL_law_788 (pc' := 789) rfl (v := 1) rfl ?_
        refine r_iadd C dL_law_789 (pc' := 790) rfl ?_
        obtain ⟨c_257, h⟩ := h
        refine r_sld C hE c_257 dL_law_790 (pc' := 791) rfl ?_
        refine r_aload_n C dL_law_791 (pc' := 792) rfl (j := 0) rfl ?_
        refine r_iload_n C dL_law_792 (pc' := 793) rfl (j := 3) rfl ?_
        refine r_iconst C dL_law_793 (pc' := 794) rfl (v := 2) rfl ?_
        refine r_iadd C dL_law_794 (pc' := 795) rfl ?_
        obtain ⟨c_258, h⟩ := h
        refine r_sld C hE c_258 dL_law_795 (pc' := 796) rfl ?_
        refine r_aload_n C dL_law_796 (pc' := 797) rfl (j := 0) rfl ?_
        refine r_iload_n C dL_law_797 (pc' := 798) rfl (j := 3) rfl ?_
        refine r_iconst C dL_law_798 (pc' := 799) rfl (v := 3) rfl ?_
        refine r_iadd C dL_law_799 (pc' := 800) rfl ?_
        obtain ⟨c_259, h⟩ := h
        refine r_sld C hE c_259 dL_law_800 (pc' := 801) rfl ?_
        refine r_aload_n C dL_law_801 (pc' := 802) rfl (j := 0) rfl ?_
        refine r_iload_n C dL_law_802 (pc' := 803) rfl (j := 3) rfl ?_
        refine r_iconst C dL_law_803 (pc' := 804) rfl (v := 4) rfl ?_
        refine r_iadd C dL_law_804 (pc' := 805) rfl ?_
        obtain ⟨c_260, h⟩ := h
        refine r_sld C hE c_260 dL_law_805 (pc' := 806) rfl ?_
        refine r_callVi (As := [.int (xs (ix_ (x3 + (1 : Int32)))), .int (xs (ix_ (x3 + (2 : Int32)))), .int (xs (ix_ (x3 + (3 : Int32)))), .int (xs (ix_ (x3 + (4 : Int32))))]) (rest := [.int r_255]) (Cn := RX7) (T := TX7) C (mMo.kd m_256 k_a2 (by decide)) (by decide) vc_X7 (S_X7_few (mMo.kd m_256 k_a2 (by decide)) h) (lw_V q1650 q1651 q1652 q112 q1653) rfl hd_X7_few rfl rfl (Nat.le_of_ble_eq_true rfl) (Nat.le_of_ble_eq_true rfl) (Nat.le_of_ble_eq_true rfl) rfl rfl hkb hnb dL_law_806 (pc' := 809) rfl (fun r_262 M_261 h m_263 => ?_)
        refine r_icmp_eq C dL_law_809 (pc' := 812) rfl (tgt := 1504) (by decide) (fun c_264 => ?_) (fun c_264 => ?_)
        · have h := it_t h c_264
          obtain ⟨x3_265, e_266, h⟩ := bn_ h
          refine r_iinc C (lv' := [(3, .int x3_265), (0, .ref a0), (1, .ref a1), (2, .ref a2)]) dL_law_1504 (pc' := 1507) rfl (j := 3) rfl x3_265 (by rw [e_266]; rfl) (Nat.le_of_ble_eq_true rfl) rfl ?_
          refine r_goto C dL_law_1507 (tgt := 18) (by decide) ?_
          refine r_sub (lv' := [(0, .ref a0), (1, .ref a1), (2, .ref a2), (3, .int x3_265)]) [1, 2, 3, 0] rfl ?_
          exact ih k n M_261 x3_265 hkb hnb (mMo.kd m_263 (mMo.kd m_256 k_a1 (by decide)) (by decide)) (mMo.kd m_263 (mMo.kd m_256 k_a2 (by decide)) (by decide)) h
        · have h := it_f h c_264
          refine r_iconst C dL_law_812 (pc' := 813) rfl (v := 0) rfl ?_
          exact r_lawret C hE h hkb hnb dL_law_813
      have h := it_f h c_249
      by_cases c_267 : ((xs (ix_ x3)) &&& (63 : Int32)) = 15
      · have h := it_t h c_267
        refine r_tsIn C dL_law_33 (off := 781) (tgt := 814) (by rw [c_267]; decide) (by rw [c_267]; decide) (by rw [c_267]; decide) (by decide) ?_
        refine r_aload_n C dL_law_814 (pc' := 815) rfl (j := 1) rfl ?_
        refine r_aload_n C dL_law_815 (pc' := 816) rfl (j := 0) rfl ?_
        refine r_iload_n C dL_law_816 (pc' := 817) rfl (j := 3) rfl ?_
        refine r_iconst C dL_law_817 (pc' := 818) rfl (v := 1) rfl ?_
        refine r_iadd C dL_law_818 (pc' := 819) rfl ?_
        obtain ⟨c_268, h⟩ := h
        refine r_sld C hE c_268 dL_law_819 (pc' := 820) rfl ?_
        refine r_aload_n C dL_law_820 (pc' := 821) rfl (j := 0) rfl ?_
        refine r_iload_n C dL_law_821 (pc' := 822) rfl (j := 3) rfl ?_
        refine r_iconst C dL_law_822 (pc' := 823) rfl (v := 2) rfl ?_
        refine r_iadd C dL_law_823 (pc' := 824) rfl ?_
        obtain ⟨c_269, h⟩ := h
        refine r_sld C hE c_269 dL_law_824 (pc' := 825) rfl ?_
        refine r_aload_n C dL_law_825 (pc' := 826) rfl (j := 0) rfl ?_
        refine r_iload_n C dL_law_826 (pc' := 827) rfl (j := 3) rfl ?_
        refine r_iconst C dL_law_827 (pc' := 828) rfl (v := 3) rfl ?_
        refine r_iadd C dL_law_828 (pc' := 829) rfl ?_
        obtain ⟨c_270, h⟩ := h
        refine r_sld C hE c_270 dL_law_829 (pc' := 830) rfl ?_
        refine r_aload_n C dL_law_830 (pc' := 831) rfl (j := 0) rfl ?_
        refine r_iload_n C dL_law_831 (pc' := 832) rfl (j := 3) rfl ?_
        refine r_iconst C dL_law_832 (pc' := 833) rfl (v := 4) rfl ?_
        refine r_iadd C dL_law_833 (pc' := 834) rfl ?_
        obtain ⟨c_271, h⟩ := h
        refine r_sld C hE c_271 dL_law_834 (pc' := 835) rfl ?_
        refine r_callVl (As := [.int (xs (ix_ (x3 + (1 : Int32)))), .int (xs (ix_ (x3 + (2 : Int32)))), .int (xs (ix_ (x3 + (3 : Int32)))), .int (xs (ix_ (x3 + (4 : Int32))))]) (rest := []) (Cn := RX0) (T := TX0) C k_a1 (by decide) vc_X0 (S_X0_pot k_a1 h) (lw_V q1013 q1014 q1015 q105 q1016) rfl hd_X0_pot rfl rfl (Nat.le_of_ble_eq_true rfl) (Nat.le_of_ble_eq_true rfl) (Nat.le_of_ble_eq_true rfl) rfl rfl hkb hnb dL_law_835 (pc' := 838) rfl (fun r_273 M_272 h m_274 => ?_)
        refine r_aload_n C dL_law_838 (pc' := 839) rfl (j := 2) rfl ?_
        refine r_aload_n C dL_law_839 (pc' := 840) rfl (j := 0) rfl ?_
        refine r_iload_n C dL_law_840 (pc' := 841) rfl (j := 3) rfl ?_
        refine r_iconst C dL_law_841 (pc' := 842) rfl (v := 1) rfl ?_
        refine r_iadd C dL_law_842 (pc' := 843) rfl ?_
        obtain ⟨c_275, h⟩ := h
        refine r_sld C hE c_275 dL_law_843 (pc' := 844) rfl ?_
        refine r_aload_n C dL_law_844 (pc' := 845) rfl (j := 0) rfl ?_
        refine r_iload_n C dL_law_845 (pc' := 846) rfl (j := 3) rfl ?_
        refine r_iconst C dL_law_846 (pc' := 847) rfl (v := 2) rfl ?_
        refine r_iadd C dL_law_847 (pc' := 848) rfl ?_
        obtain ⟨c_276, h⟩ := h
        refine r_sld C hE c_276 dL_law_848 (pc' := 849) rfl ?_
        refine r_aload_n C dL_law_849 (pc' := 850) rfl (j := 0) rfl ?_
        refine r_iload_n C dL_law_850 (pc' := 851) rfl (j := 3) rfl ?_
        refine r_iconst C dL_law_851 (pc' := 852) rfl (v := 3) rfl ?_
        refine r_iadd C dL_law_852 (pc' := 853) rfl ?_
        obtain ⟨c_277, h⟩ := h
        refine r_sld C hE c_277 dL_law_853 (pc' := 854) rfl ?_
        refine r_aload_n C dL_law_854 (pc' := 855) rfl (j := 0) rfl ?_
        refine r_iload_n C dL_law_855 (pc' := 856) rfl (j := 3) rfl ?_
        refine r_iconst C dL_law_856 (pc' := 857) rfl (v := 4) rfl ?_
        refine r_iadd C dL_law_857 (pc' := 858) rfl ?_
        obtain ⟨c_278, h⟩ := h
        refine r_sld C hE c_278 dL_law_858 (pc' := 859) rfl ?_
        refine r_callVl (As := [.int (xs (ix_ (x3 + (1 : Int32)))), .int (xs (ix_ (x3 + (2 : Int32)))), .int (xs (ix_ (x3 + (3 : Int32)))), .int (xs (ix_ (x3 + (4 : Int32))))]) (rest := [.long r_273]) (Cn := RX7) (T := TX7) C (mMo.kd m_274 k_a2 (by decide)) (by decide) vc_X7 (S_X7_pot (mMo.kd m_274 k_a2 (by decide)) h) (lw_V q1654 q1655 q1656 q112 q1657) rfl hd_X7_pot rfl rfl (Nat.le_of_ble_eq_true rfl) (Nat.le_of_ble_eq_true rfl) (Nat.le_of_ble_eq_true rfl) rfl rfl hkb hnb dL_law_859 (pc' := 862) rfl (fun r_280 M_279 h m_281 => ?_)
        refine r_lc_eq C dL_law_862 (pc1 := 863) (pc' := 866) rfl dL_law_863 rfl (tgt := 1504) (by decide) (fun c_282 => ?_) (fun c_282 => ?_)
        · have h := it_t h c_282
          obtain ⟨x3_283, e_284, h⟩ := bn_ h
          refine r_iinc C (lv' := [(3, .int x3_283), (0, .ref a0), (1, .ref a1), (2, .ref a2)]) dL_law_1504 (pc' := 1507) rfl (j := 3) rfl x3_283 (by rw [e_284]; rfl) (Nat.le_of_ble_eq_true rfl) rfl ?_
          refine r_goto C dL_law_1507 (tgt := 18) (by decide) ?_
          refine r_sub (lv' := [(0, .ref a0), (1, .ref a1), (2, .ref a2), (3, .int x3_283)]) [1, 2, 3, 0] rfl ?_
          exact ih k n M_279 x3_283 hkb hnb (mMo.kd m_281 (mMo.kd m_274 k_a1 (by decide)) (by decide)) (mMo.kd m_281 (mMo.kd m_274 k_a2 (by decide)) (by decide)) h
        · have h := it_f h c_282
          refine r_iconst C dL_law_866 (pc' := 867) rfl (v := 0) rfl ?_
          exact r_lawret C hE h hkb hnb dL_law_867
      have h := it_f h c_267
      by_cases c_285 : ((xs (ix_ x3)) &&& (63 : Int32)) = 16
      · have h := it_t h c_285
        refine r_tsIn C dL_law_33 (off := 835) (tgt := 868) (by rw [c_285]; decide) (by rw [c_285]; decide) (by rw [c_285]; decide) (by decide) ?_
        refine r_aload_n C dL_law_868 (pc' := 869) rfl (j := 1) rfl ?_
        refine r_aload_n C dL_law_869 (pc' := 870) rfl (j := 0) rfl ?_
        refine r_iload_n C dL_law_870 (pc' := 871) rfl (j := 3) rfl ?_
        refine r_iconst C dL_law_871 (pc' := 872) rfl (v := 1) rfl ?_
        refine r_iadd C dL_law_872 (pc' := 873) rfl ?_
        obtain ⟨c_286, h⟩ := h
        refine r_sld C hE c_286 dL_law_873 (pc' := 874) rfl ?_
        refine r_aload_n C dL_law_874 (pc' := 875) rfl (j := 0) rfl ?_
        refine r_iload_n C dL_law_875 (pc' := 876) rfl (j := 3) rfl ?_
        refine r_iconst C dL_law_876 (pc' := 877) rfl (v := 2) rfl ?_
        refine r_iadd C dL_law_877 (pc' := 878) rfl ?_
        obtain ⟨c_287, h⟩ := h
        refine r_sld C hE c_287 dL_law_878 (pc' := 879) rfl ?_
        refine r_aload_n C dL_law_879 (pc' := 880) rfl (j := 0) rfl ?_
        refine r_iload_n C dL_law_880 (pc' := 881) rfl (j := 3) rfl ?_
        refine r_iconst C dL_law_881 (pc' := 882) rfl (v := 3) rfl ?_
        refine r_iadd C dL_law_882 (pc' := 883) rfl ?_
        obtain ⟨c_288, h⟩ := h
        refine r_sld C hE c_288 dL_law_883 (pc' := 884) rfl ?_
        refine r_aload_n C dL_law_884 (pc' := 885) rfl (j := 0) rfl ?_
        refine r_iload_n C dL_law_885 (pc' := 886) rfl (j := 3) rfl ?_
        refine r_iconst C dL_law_886 (pc' := 887) rfl (v := 4) rfl ?_
        refine r_iadd C dL_law_887 (pc' := 888) rfl ?_
        obtain ⟨c_289, h⟩ := h
        refine r_sld C hE c_289 dL_law_888 (pc' := 889) rfl ?_
        refine r_aload_n C dL_law_889 (pc' := 890) rfl (j := 0) rfl ?_
        refine r_iload_n C dL_law_890 (pc' := 891) rfl (j := 3) rfl ?_
        refine r_iconst C dL_law_891 (pc' := 892) rfl (v := 5) rfl ?_
        refine r_iadd C dL_law_892 (pc' := 893) rfl ?_
        obtain ⟨c_290, h⟩ := h
        refine r_sld C hE c_290 dL_law_893 (pc' := 894) rfl ?_
        refine r_callVl (As := [.int (xs (ix_ (x3 + (1 : Int32)))), .int (xs (ix_ (x3 + (2 : Int32)))), .int (xs (ix_ (x3 + (3 : Int32)))), .int (xs (ix_ (x3 + (4 : Int32)))), .int (xs (ix_ (x3 + (5 : Int32))))]) (rest := []) (Cn := RX0) (T := TX0) C k_a1 (by decide) vc_X0 (S_X0_ruleFor k_a1 h) (lw_V q1018 q1019 q1020 q105 q1021) rfl hd_X0_ruleFor rfl rfl (Nat.le_of_ble_eq_true rfl) (Nat.le_of_ble_eq_true rfl) (Nat.le_of_ble_eq_true rfl) rfl rfl hkb hnb dL_law_894 (pc' := 897) rfl (fun r_292 M_291 h m_293 => ?_)
        refine r_aload_n C dL_law_897 (pc' := 898) rfl (j := 2) rfl ?_
        refine r_aload_n C dL_law_898 (pc' := 899) rfl (j := 0) rfl ?_
        refine r_iload_n C dL_law_899 (pc' := 900) rfl (j := 3) rfl ?_
        refine r_iconst C dL_law_900 (pc' := 901) rfl (v := 1) rfl ?_
        refine r_iadd C dL_law_901 (pc' := 902) rfl ?_
        obtain ⟨c_294, h⟩ := h
        refine r_sld C hE c_294 dL_law_902 (pc' := 903) rfl ?_
        refine r_aload_n C dL_law_903 (pc' := 904) rfl (j := 0) rfl ?_
        refine r_iload_n C dL_law_904 (pc' := 905) rfl (j := 3) rfl ?_
        refine r_iconst C dL_law_905 (pc' := 906) rfl (v := 2) rfl ?_
        refine r_iadd C dL_law_906 (pc' := 907) rfl ?_
        obtain ⟨c_295, h⟩ := h
        refine r_sld C hE c_295 dL_law_907 (pc' := 908) rfl ?_
        refine r_aload_n C dL_law_908 (pc' := 909) rfl (j := 0) rfl ?_
        refine r_iload_n C dL_law_909 (pc' := 910) rfl (j := 3) rfl ?_
        refine r_iconst C dL_law_910 (pc' := 911) rfl (v := 3) rfl ?_
        refine r_iadd C dL_law_911 (pc' := 912) rfl ?_
        obtain ⟨c_296, h⟩ := h
        refine r_sld C hE c_296 dL_law_912 (pc' := 913) rfl ?_
        refine r_aload_n C dL_law_913 (pc' := 914) rfl (j := 0) rfl ?_
        refine r_iload_n C dL_law_914 (pc' := 915) rfl (j := 3) rfl ?_
        refine r_iconst C dL_law_915 (pc' := 916) rfl (v := 4) rfl ?_
        refine r_iadd C dL_law_916 (pc' := 917) rfl ?_
        obtain ⟨c_297, h⟩ := h
        refine r_sld C hE c_297 dL_law_917 (pc' := 918) rfl ?_
        refine r_aload_n C dL_law_918 (pc' := 919) rfl (j := 0) rfl ?_
        refine r_iload_n C dL_law_919 (pc' := 920) rfl (j := 3) rfl ?_
        refine r_iconst C dL_law_920 (pc' := 921) rfl (v := 5) rfl ?_
        refine r_iadd C dL_law_921 (pc' := 922) rfl ?_
        obtain ⟨c_298, h⟩ := h
        refine r_sld C hE c_298 dL_law_922 (pc' := 923) rfl ?_
        refine r_callVl (As := [.int (xs (ix_ (x3 + (1 : Int32)))), .int (xs (ix_ (x3 + (2 : Int32)))), .int (xs (ix_ (x3 + (3 : Int32)))), .int (xs (ix_ (x3 + (4 : Int32)))), .int (xs (ix_ (x3 + (5 : Int32))))]) (rest := [.long r_292]) (Cn := RX7) (T := TX7) C (mMo.kd m_293 k_a2 (by decide)) (by decide) vc_X7 (S_X7_ruleFor (mMo.kd m_293 k_a2 (by decide)) h) (lw_V q1659 q1660 q1661 q112 q1662) rfl hd_X7_ruleFor rfl rfl (Nat.le_of_ble_eq_true rfl) (Nat.le_of_ble_eq_true rfl) (Nat.le_of_ble_eq_true rfl) rfl rfl hkb hnb dL_law_923 (pc' := 926) rfl (fun r_300 M_299 h m_301 => ?_)
        refine r_lc_eq C dL_law_926 (pc1 := 927) (pc' := 930) rfl dL_law_927 rfl (tgt := 1504) (by decide) (fun c_302 => ?_) (fun c_302 => ?_)
        · have h := it_t h c_302
          obtain ⟨x3_303, e_304, h⟩ := bn_ h
          refine r_iinc C (lv' := [(3, .int x3_303), (0, .ref a0), (1, .ref a1), (2, .ref a2)]) dL_law_1504 (pc' := 1507) rfl (j := 3) rfl x3_303 (by rw [e_304]; rfl) (Nat.le_of_ble_eq_true rfl) rfl ?_
          refine r_goto C dL_law_1507 (tgt := 18) (by decide) ?_
          refine r_sub (lv' := [(0, .ref a0), (1, .ref a1), (2, .ref a2), (3, .int x3_303)]) [1, 2, 3, 0] rfl ?_
          exact ih k n M_299 x3_303 hkb hnb (mMo.kd m_301 (mMo.kd m_293 k_a1 (by decide)) (by decide)) (mMo.kd m_301 (mMo.kd m_293 k_a2 (by decide)) (by decide)) h
        · have h := it_f h c_302
          refine r_iconst C dL_law_930 (pc' := 931) rfl (v := 0) rfl ?_
          exact r_lawret C hE h hkb hnb dL_law_931
      have h := it_f h c_285
      by_cases c_305 : ((xs (ix_ x3)) &&& (63 : Int32)) = 17
      · have h := it_t h c_305
        refine r_tsIn C dL_law_33 (off := 899) (tgt := 932) (by rw [c_305]; decide) (by rw [c_305]; decide) (by rw [c_305]; decide) (by decide) ?_
        refine r_aload_n C dL_law_932 (pc' := 933) rfl (j := 1) rfl ?_
        refine r_aload_n C dL_law_933 (pc' := 934) rfl (j := 0) rfl ?_
        refine r_iload_n C dL_law_934 (pc' := 935) rfl (j := 3) rfl ?_
        refine r_iconst C dL_law_935 (pc' := 936) rfl (v := 1) rfl ?_
        refine r_iadd C dL_law_936 (pc' := 937) rfl ?_
        obtain ⟨c_306, h⟩ := h
        refine r_sld C hE c_306 dL_law_937 (pc' := 938) rfl ?_
        refine r_aload_n C dL_law_938 (pc' := 939) rfl (j := 0) rfl ?_
        refine r_iload_n C dL_law_939 (pc' := 940) rfl (j := 3) rfl ?_
        refine r_iconst C dL_law_940 (pc' := 941) rfl (v := 2) rfl ?_
        refine r_iadd C dL_law_941 (pc' := 942) rfl ?_
        obtain ⟨c_307, h⟩ := h
        refine r_sld C hE c_307 dL_law_942 (pc' := 943) rfl ?_
        refine r_callVi (As := [.int (xs (ix_ (x3 + (1 : Int32)))), .int (xs (ix_ (x3 + (2 : Int32))))]) (rest := []) (Cn := RX0) (T := TX0) C k_a1 (by decide) vc_X0 (S_X0_lasts k_a1 h) (lw_V q1022 q1023 q1024 q105 q1025) rfl hd_X0_lasts rfl rfl (Nat.le_of_ble_eq_true rfl) (Nat.le_of_ble_eq_true rfl) (Nat.le_of_ble_eq_true rfl) rfl rfl hkb hnb dL_law_943 (pc' := 946) rfl (fun r_309 M_308 h m_310 => ?_)
        refine r_aload_n C dL_law_946 (pc' := 947) rfl (j := 2) rfl ?_
        refine r_aload_n C dL_law_947 (pc' := 948) rfl (j := 0) rfl ?_
        refine r_iload_n C dL_law_948 (pc' := 949) rfl (j := 3) rfl ?_
        refine r_iconst C dL_law_949 (pc' := 950) rfl (v := 1) rfl ?_
        refine r_iadd C dL_law_950 (pc' := 951) rfl ?_
        obtain ⟨c_311, h⟩ := h
        refine r_sld C hE c_311 dL_law_951 (pc' := 952) rfl ?_
        refine r_aload_n C dL_law_952 (pc' := 953) rfl (j := 0) rfl ?_
        refine r_iload_n C dL_law_953 (pc' := 954) rfl (j := 3) rfl ?_
        refine r_iconst C dL_law_954 (pc' := 955) rfl (v := 2) rfl ?_
        refine r_iadd C dL_law_955 (pc' := 956) rfl ?_
        obtain ⟨c_312, h⟩ := h
        refine r_sld C hE c_312 dL_law_956 (pc' := 957) rfl ?_
        refine r_callVi (As := [.int (xs (ix_ (x3 + (1 : Int32)))), .int (xs (ix_ (x3 + (2 : Int32))))]) (rest := [.int r_309]) (Cn := RX7) (T := TX7) C (mMo.kd m_310 k_a2 (by decide)) (by decide) vc_X7 (S_X7_lasts (mMo.kd m_310 k_a2 (by decide)) h) (lw_V q1663 q1664 q1665 q112 q1666) rfl hd_X7_lasts rfl rfl (Nat.le_of_ble_eq_true rfl) (Nat.le_of_ble_eq_true rfl) (Nat.le_of_ble_eq_true rfl) rfl rfl hkb hnb dL_law_957 (pc' := 960) rfl (fun r_314 M_313 h m_315 => ?_)
        refine r_icmp_eq C dL_law_960 (pc' := 963) rfl (tgt := 1504) (by decide) (fun c_316 => ?_) (fun c_316 => ?_)
        · have h := it_t h c_316
          obtain ⟨x3_317, e_318, h⟩ := bn_ h
          refine r_iinc C (lv' := [(3, .int x3_317), (0, .ref a0), (1, .ref a1), (2, .ref a2)]) dL_law_1504 (pc' := 1507) rfl (j := 3) rfl x3_317 (by rw [e_318]; rfl) (Nat.le_of_ble_eq_true rfl) rfl ?_
          refine r_goto C dL_law_1507 (tgt := 18) (by decide) ?_
          refine r_sub (lv' := [(0, .ref a0), (1, .ref a1), (2, .ref a2), (3, .int x3_317)]) [1, 2, 3, 0] rfl ?_
          exact ih k n M_313 x3_317 hkb hnb (mMo.kd m_315 (mMo.kd m_310 k_a1 (by decide)) (by decide)) (mMo.kd m_315 (mMo.kd m_310 k_a2 (by decide)) (by decide)) h
        · have h := it_f h c_316
          refine r_iconst C dL_law_963 (pc' := 964) rfl (v := 0) rfl ?_
          exact r_lawret C hE h hkb hnb dL_law_964
      have h := it_f h c_305
      by_cases c_319 : ((xs (ix_ x3)) &&& (63 : Int32)) = 18
      · have h := it_t h c_319
        refine r_tsIn C dL_law_33 (off := 932) (tgt := 965) (by rw [c_319]; decide) (by rw [c_319]; decide) (by rw [c_319]; decide) (by decide) ?_
        refine r_aload_n C dL_law_965 (pc' := 966) rfl (j := 1) rfl ?_
        refine r_aload_n C dL_law_966 (pc' := 967) rfl (j := 0) rfl ?_
        refine r_iload_n C dL_law_967 (pc' := 968) rfl (j := 3) rfl ?_
        refine r_iconst C dL_law_968 (pc' := 969) rfl (v := 1) rfl ?_
        refine r_iadd C dL_law_969 (pc' := 970) rfl ?_
        obtain ⟨c_320, h⟩ := h
        refine r_sld C hE c_320 dL_law_970 (pc' := 971) rfl ?_
        refine r_aload_n C dL_law_971 (pc' := 972) rfl (j := 0) rfl ?_
        refine r_iload_n C dL_law_972 (pc' := 973) rfl (j := 3) rfl ?_
        refine r_iconst C dL_law_973 (pc' := 974) rfl (v := 2) rfl ?_
        refine r_iadd C dL_law_974 (pc' := 975) rfl ?_
        obtain ⟨c_321, h⟩ := h
        refine r_sld C hE c_321 dL_law_975 (pc' := 976) rfl ?_
        refine r_callVi (As := [.int (xs (ix_ (x3 + (1 : Int32)))), .int (xs (ix_ (x3 + (2 : Int32))))]) (rest := []) (Cn := RX0) (T := TX0) C k_a1 (by decide) vc_X0 (S_X0_needs k_a1 h) (lw_V q1032 q1033 q1034 q105 q1035) rfl hd_X0_needs rfl rfl (Nat.le_of_ble_eq_true rfl) (Nat.le_of_ble_eq_true rfl) (Nat.le_of_ble_eq_true rfl) rfl rfl hkb hnb dL_law_976 (pc' := 979) rfl (fun r_323 M_322 h m_324 => ?_)
        refine r_aload_n C dL_law_979 (pc' := 980) rfl (j := 2) rfl ?_
        refine r_aload_n C dL_law_980 (pc' := 981) rfl (j := 0) rfl ?_
        refine r_iload_n C dL_law_981 (pc' := 982) rfl (j := 3) rfl ?_
        refine r_iconst C dL_law_982 (pc' := 983) rfl (v := 1) rfl ?_
        refine r_iadd C dL_law_983 (pc' := 984) rfl ?_
        obtain ⟨c_325, h⟩ := h
        refine r_sld C hE c_325 dL_law_984 (pc' := 985) rfl ?_
        refine r_aload_n C dL_law_985 (pc' := 986) rfl (j := 0) rfl ?_
        refine r_iload_n C dL_law_986 (pc' := 987) rfl (j := 3) rfl ?_
        refine r_iconst C dL_law_987 (pc' := 988) rfl (v := 2) rfl ?_
        refine r_iadd C dL_law_988 (pc' := 989) rfl ?_
        obtain ⟨c_326, h⟩ := h
        refine r_sld C hE c_326 dL_law_989 (pc' := 990) rfl ?_
        refine r_callVi (As := [.int (xs (ix_ (x3 + (1 : Int32)))), .int (xs (ix_ (x3 + (2 : Int32))))]) (rest := [.int r_323]) (Cn := RX7) (T := TX7) C (mMo.kd m_324 k_a2 (by decide)) (by decide) vc_X7 (S_X7_needs (mMo.kd m_324 k_a2 (by decide)) h) (lw_V q1687 q1688 q1689 q112 q1690) rfl hd_X7_needs rfl rfl (Nat.le_of_ble_eq_true rfl) (Nat.le_of_ble_eq_true rfl) (Nat.le_of_ble_eq_true rfl) rfl rfl hkb hnb dL_law_990 (pc' := 993) rfl (fun r_328 M_327 h m_329 => ?_)
        refine r_icmp_eq C dL_law_993 (pc' := 996) rfl (tgt := 1504) (by decide) (fun c_330 => ?_) (fun c_330 => ?_)
        · have h := it_t h c_330
          obtain ⟨x3_331, e_332, h⟩ := bn_ h
          refine r_iinc C (lv' := [(3, .int x3_331), (0, .ref a0), (1, .ref a1), (2, .ref a2)]) dL_law_1504 (pc' := 1507) rfl (j := 3) rfl x3_331 (by rw [e_332]; rfl) (Nat.le_of_ble_eq_true rfl) rfl ?_
          refine r_goto C dL_law_1507 (tgt := 18) (by decide) ?_
          refine r_sub (lv' := [(0, .ref a0), (1, .ref a1), (2, .ref a2), (3, .int x3_331)]) [1, 2, 3, 0] rfl ?_
          exact ih k n M_327 x3_331 hkb hnb (mMo.kd m_329 (mMo.kd m_324 k_a1 (by decide)) (by decide)) (mMo.kd m_329 (mMo.kd m_324 k_a2 (by decide)) (by decide)) h
        · have h := it_f h c_330
          refine r_iconst C dL_law_996 (pc' := 997) rfl (v := 0) rfl ?_
          exact r_lawret C hE h hkb hnb dL_law_997
      have h := it_f h c_319
      by_cases c_333 : ((xs (ix_ x3)) &&& (63 : Int32)) = 19
      · have h := it_t h c_333
        refine r_tsIn C dL_law_33 (off := 965) (tgt := 998) (by rw [c_333]; decide) (by rw [c_333]; decide) (by rw [c_333]; decide) (by decide) ?_
        refine r_aload_n C dL_law_998 (pc' := 999) rfl (j := 1) rfl ?_
        refine r_aload_n C dL_law_999 (pc' := 1000) rfl (j := 0) rfl ?_
        refine r_iload_n C dL_law_1000 (pc' := 1001) rfl (j := 3) rfl ?_
        refine r_iconst C dL_law_1001 (pc' := 1002) rfl (v := 1) rfl ?_
        refine r_iadd C dL_law_1002 (pc' := 1003) rfl ?_
        obtain ⟨c_334, h⟩ := h
        refine r_sld C hE c_334 dL_law_1003 (pc' := 1004) rfl ?_
        refine r_aload_n C dL_law_1004 (pc' := 1005) rfl (j := 0) rfl ?_
        refine r_iload_n C dL_law_1005 (pc' := 1006) rfl (j := 3) rfl ?_
        refine r_iconst C dL_law_1006 (pc' := 1007) rfl (v := 2) rfl ?_
        refine r_iadd C dL_law_1007 (pc' := 1008) rfl ?_
        obtain ⟨c_335, h⟩ := h
        refine r_sld C hE c_335 dL_law_1008 (pc' := 1009) rfl ?_
        refine r_aload_n C dL_law_1009 (pc' := 1010) rfl (j := 0) rfl ?_
        refine r_iload_n C dL_law_1010 (pc' := 1011) rfl (j := 3) rfl ?_
        refine r_iconst C dL_law_1011 (pc' := 1012) rfl (v := 3) rfl ?_
        refine r_iadd C dL_law_1012 (pc' := 1013) rfl ?_
        obtain ⟨c_336, h⟩ := h
        refine r_sld C hE c_336 dL_law_1013 (pc' := 1014) rfl ?_
        refine r_callVi (As := [.int (xs (ix_ (x3 + (1 : Int32)))), .int (xs (ix_ (x3 + (2 : Int32)))), .int (xs (ix_ (x3 + (3 : Int32))))]) (rest := []) (Cn := RX0) (T := TX0) C k_a1 (by decide) vc_X0 (S_X0_week k_a1 h) (lw_V q1036 q1037 q1038 q105 q1039) rfl hd_X0_week rfl rfl (Nat.le_of_ble_eq_true rfl) (Nat.le_of_ble_eq_true rfl) (Nat.le_of_ble_eq_true rfl) rfl rfl hkb hnb dL_law_1014 (pc' := 1017) rfl (fun r_338 M_337 h m_339 => ?_)
        refine r_aload_n C dL_law_1017 (pc' := 1018) rfl (j := 2) rfl ?_
        refine r_aload_n C dL_law_1018 (pc' := 1019) rfl (j := 0) rfl ?_
        refine r_iload_n C dL_law_1019 (pc' := 1020) rfl (j := 3) rfl ?_
        refine r_iconst C dL_law_1020 (pc' := 1021) rfl (v := 1) rfl ?_
        refine r_iadd C dL_law_1021 (pc' := 1022) rfl ?_
        obtain ⟨c_340, h⟩ := h
        refine r_sld C hE c_340 dL_law_1022 (pc' := 1023) rfl ?_
        refine r_aload_n C dL_law_1023 (pc' := 1024) rfl (j := 0) rfl ?_
        refine r_iload_n C dL_law_1024 (pc' := 1025) rfl (j := 3) rfl ?_
        refine r_iconst C dL_law_1025 (pc' := 1026) rfl (v := 2) rfl ?_
        refine r_iadd C dL_law_1026 (pc' := 1027) rfl ?_
        obtain ⟨c_341, h⟩ := h
        refine r_sld C hE c_341 dL_law_1027 (pc' := 1028) rfl ?_
        refine r_aload_n C dL_law_1028 (pc' := 1029) rfl (j := 0) rfl ?_
        refine r_iload_n C dL_law_1029 (pc' := 1030) rfl (j := 3) rfl ?_
        refine r_iconst C dL_law_1030 (pc' := 1031) rfl (v := 3) rfl ?_
        refine r_iadd C dL_law_1031 (pc' := 1032) rfl ?_
        obtain ⟨c_342, h⟩ := h
        refine r_sld C hE c_342 dL_law_1032 (pc' := 1033) rfl ?_
        refine r_callVi (As := [.int (xs (ix_ (x3 + (1 : Int32)))), .int (xs (ix_ (x3 + (2 : Int32)))), .int (xs (ix_ (x3 + (3 : Int32))))]) (rest := [.int r_338]) (Cn := RX7) (T := TX7) C (mMo.kd m_339 k_a2 (by decide)) (by decide) vc_X7 (S_X7_week (mMo.kd m_339 k_a2 (by decide)) h) (lw_V q1695 q1696 q1697 q112 q1698) rfl hd_X7_week rfl rfl (Nat.le_of_ble_eq_true rfl) (Nat.le_of_ble_eq_true rfl) (Nat.le_of_ble_eq_true rfl) rfl rfl hkb hnb dL_law_1033 (pc' := 1036) rfl (fun r_344 M_343 h m_345 => ?_)
        refine r_icmp_eq C dL_law_1036 (pc' := 1039) rfl (tgt := 1504) (by decide) (fun c_346 => ?_) (fun c_346 => ?_)
        · have h := it_t h c_346
          obtain ⟨x3_347, e_348, h⟩ := bn_ h
          refine r_iinc C (lv' := [(3, .int x3_347), (0, .ref a0), (1, .ref a1), (2, .ref a2)]) dL_law_1504 (pc' := 1507) rfl (j := 3) rfl x3_347 (by rw [e_348]; rfl) (Nat.le_of_ble_eq_true rfl) rfl ?_
          refine r_goto C dL_law_1507 (tgt := 18) (by decide) ?_
          refine r_sub (lv' := [(0, .ref a0), (1, .ref a1), (2, .ref a2), (3, .int x3_347)]) [1, 2, 3, 0] rfl ?_
          exact ih k n M_343 x3_347 hkb hnb (mMo.kd m_345 (mMo.kd m_339 k_a1 (by decide)) (by decide)) (mMo.kd m_345 (mMo.kd m_339 k_a2 (by decide)) (by decide)) h
        · have h := it_f h c_346
          refine r_iconst C dL_law_1039 (pc' := 1040) rfl (v := 0) rfl ?_
          exact r_lawret C hE h hkb hnb dL_law_1040
      have h := it_f h c_333
      by_cases c_349 : ((xs (ix_ x3)) &&& (63 : Int32)) = 20
      · have h := it_t h c_349
        refine r_tsIn C dL_law_33 (off := 1008) (tgt := 1041) (by rw [c_349]; decide) (by rw [c_349]; decide) (by rw [c_349]; decide) (by decide) ?_
        refine r_aload_n C dL_law_1041 (pc' := 1042) rfl (j := 1) rfl ?_
        refine r_aload_n C dL_law_1042 (pc' := 1043) rfl (j := 0) rfl ?_
        refine r_iload_n C dL_law_1043 (pc' := 1044) rfl (j := 3) rfl ?_
        refine r_iconst C dL_law_1044 (pc' := 1045) rfl (v := 1) rfl ?_
        refine r_iadd C dL_law_1045 (pc' := 1046) rfl ?_
        obtain ⟨c_350, h⟩ := h
        refine r_sld C hE c_350 dL_law_1046 (pc' := 1047) rfl ?_
        refine r_aload_n C dL_law_1047 (pc' := 1048) rfl (j := 0) rfl ?_
        refine r_iload_n C dL_law_1048 (pc' := 1049) rfl (j := 3) rfl ?_
        refine r_iconst C dL_law_1049 (pc' := 1050) rfl (v := 2) rfl ?_
        refine r_iadd C dL_law_1050 (pc' := 1051) rfl ?_
        obtain ⟨c_351, h⟩ := h
        refine r_sld C hE c_351 dL_law_1051 (pc' := 1052) rfl ?_
        refine r_aload_n C dL_law_1052 (pc' := 1053) rfl (j := 0) rfl ?_
        refine r_iload_n C dL_law_1053 (pc' := 1054) rfl (j := 3) rfl ?_
        refine r_iconst C dL_law_1054 (pc' := 1055) rfl (v := 3) rfl ?_
        refine r_iadd C dL_law_1055 (pc' := 1056) rfl ?_
        obtain ⟨c_352, h⟩ := h
        refine r_sld C hE c_352 dL_law_1056 (pc' := 1057) rfl ?_
        refine r_aload_n C dL_law_1057 (pc' := 1058) rfl (j := 0) rfl ?_
        refine r_iload_n C dL_law_1058 (pc' := 1059) rfl (j := 3) rfl ?_
        refine r_iconst C dL_law_1059 (pc' := 1060) rfl (v := 4) rfl ?_
        refine r_iadd C dL_law_1060 (pc' := 1061) rfl ?_
        obtain ⟨c_353, h⟩ := h
        refine r_sld C hE c_353 dL_law_1061 (pc' := 1062) rfl ?_
        refine r_callVl (As := [.int (xs (ix_ (x3 + (1 : Int32)))), .int (xs (ix_ (x3 + (2 : Int32)))), .int (xs (ix_ (x3 + (3 : Int32)))), .int (xs (ix_ (x3 + (4 : Int32))))]) (rest := []) (Cn := RX0) (T := TX0) C k_a1 (by decide) vc_X0 (S_X0_movesOut k_a1 h) (lw_V q1005 q1006 q1007 q105 q1008) rfl hd_X0_movesOut rfl rfl (Nat.le_of_ble_eq_true rfl) (Nat.le_of_ble_eq_true rfl) (Nat.le_of_ble_eq_true rfl) rfl rfl hkb hnb dL_law_1062 (pc' := 1065) rfl (fun r_355 M_354 h m_356 => ?_)
        refine r_aload_n C dL_law_1065 (pc' := 1066) rfl (j := 2) rfl ?_
        refine r_aload_n C dL_law_1066 (pc' := 1067) rfl (j := 0) rfl ?_
        refine r_iload_n C dL_law_1067 (pc' := 1068) rfl (j := 3) rfl ?_
        refine r_iconst C dL_law_1068 (pc' := 1069) rfl (v := 1) rfl ?_
        refine r_iadd C dL_law_1069 (pc' := 1070) rfl ?_
        obtain ⟨c_357, h⟩ := h
        refine r_sld C hE c_357 dL_law_1070 (pc' := 1071) rfl ?_
        refine r_aload_n C dL_law_1071 (pc' := 1072) rfl (j := 0) rfl ?_
        refine r_iload_n C dL_law_1072 (pc' := 1073) rfl (j := 3) rfl ?_
        refine r_iconst C dL_law_1073 (pc' := 1074) rfl (v := 2) rfl ?_
        refine r_iadd C dL_law_1074 (pc' := 1075) rfl ?_
        obtain ⟨c_358, h⟩ := h
        refine r_sld C hE c_358 dL_law_1075 (pc' := 1076) rfl ?_
        refine r_aload_n C dL_law_1076 (pc' := 1077) rfl (j := 0) rfl ?_
        refine r_iload_n C dL_law_1077 (pc' := 1078) rfl (j := 3) rfl ?_
        refine r_iconst C dL_law_1078 (pc' := 1079) rfl (v := 3) rfl ?_
        refine r_iadd C dL_law_1079 (pc' := 1080) rfl ?_
        obtain ⟨c_359, h⟩ := h
        refine r_sld C hE c_359 dL_law_1080 (pc' := 1081) rfl ?_
        refine r_aload_n C dL_law_1081 (pc' := 1082) rfl (j := 0) rfl ?_
        refine r_iload_n C dL_law_1082 (pc' := 1083) rfl (j := 3) rfl ?_
        refine r_iconst C dL_law_1083 (pc' := 1084) rfl (v := 4) rfl ?_
        refine r_iadd C dL_law_1084 (pc' := 1085) rfl ?_
        obtain ⟨c_360, h⟩ := h
        refine r_sld C hE c_360 dL_law_1085 (pc' := 1086) rfl ?_
        refine r_callVl (As := [.int (xs (ix_ (x3 + (1 : Int32)))), .int (xs (ix_ (x3 + (2 : Int32)))), .int (xs (ix_ (x3 + (3 : Int32)))), .int (xs (ix_ (x3 + (4 : Int32))))]) (rest := [.long r_355]) (Cn := RX7) (T := TX7) C (mMo.kd m_356 k_a2 (by decide)) (by decide) vc_X7 (S_X7_movesOut (mMo.kd m_356 k_a2 (by decide)) h) (lw_V q1691 q1692 q1693 q112 q1694) rfl hd_X7_movesOut rfl rfl (Nat.le_of_ble_eq_true rfl) (Nat.le_of_ble_eq_true rfl) (Nat.le_of_ble_eq_true rfl) rfl rfl hkb hnb dL_law_1086 (pc' := 1089) rfl (fun r_362 M_361 h m_363 => ?_)
        refine r_lc_eq C dL_law_1089 (pc1 := 1090) (pc' := 1093) rfl dL_law_1090 rfl (tgt := 1504) (by decide) (fun c_364 => ?_) (fun c_364 => ?_)
        · have h := it_t h c_364
          obtain ⟨x3_365, e_366, h⟩ := bn_ h
          refine r_iinc C (lv' := [(3, .int x3_365), (0, .ref a0), (1, .ref a1), (2, .ref a2)]) dL_law_1504 (pc' := 1507) rfl (j := 3) rfl x3_365 (by rw [e_366]; rfl) (Nat.le_of_ble_eq_true rfl) rfl ?_
          refine r_goto C dL_law_1507 (tgt := 18) (by decide) ?_
          refine r_sub (lv' := [(0, .ref a0), (1, .ref a1), (2, .ref a2), (3, .int x3_365)]) [1, 2, 3, 0] rfl ?_
          exact ih k n M_361 x3_365 hkb hnb (mMo.kd m_363 (mMo.kd m_356 k_a1 (by decide)) (by decide)) (mMo.kd m_363 (mMo.kd m_356 k_a2 (by decide)) (by decide)) h
        · have h := it_f h c_364
          refine r_iconst C dL_law_1093 (pc' := 1094) rfl (v := 0) rfl ?_
          exact r_lawret C hE h hkb hnb dL_law_1094
      have h := it_f h c_349
      by_cases c_367 : ((xs (ix_ x3)) &&& (63 : Int32)) = 21
      · have h := it_t h c_367
        refine r_tsIn C dL_law_33 (off := 1062) (tgt := 1095) (by rw [c_367]; decide) (by rw [c_367]; decide) (by rw [c_367]; decide) (by decide) ?_
        refine r_aload_n C dL_law_1095 (pc' := 1096) rfl (j := 1) rfl ?_
        refine r_aload_n C dL_law_1096 (pc' := 1097) rfl (j := 0) rfl ?_
        refine r_iload_n C dL_law_1097 (pc' := 1098) rfl (j := 3) rfl ?_
        refine r_iconst C dL_law_1098 (pc' := 1099) rfl (v := 1) rfl ?_
        refine r_iadd C dL_law_1099 (pc' := 1100) rfl ?_
        obtain ⟨c_368, h⟩ := h
        refine r_sld C hE c_368 dL_law_1100 (pc' := 1101) rfl ?_
        refine r_aload_n C dL_law_1101 (pc' := 1102) rfl (j := 0) rfl ?_
        refine r_iload_n C dL_law_1102 (pc' := 1103) rfl (j := 3) rfl ?_
        refine r_iconst C dL_law_1103 (pc' := 1104) rfl (v := 2) rfl ?_
        refine r_iadd C dL_law_1104 (pc' := 1105) rfl ?_
        obtain ⟨c_369, h⟩ := h
        refine r_sld C hE c_369 dL_law_1105 (pc' := 1106) rfl ?_
        refine r_callVi (As := [.int (xs (ix_ (x3 + (1 : Int32)))), .int (xs (ix_ (x3 + (2 : Int32))))]) (rest := []) (Cn := RX0) (T := TX0) C k_a1 (by decide) vc_X0 (S_X0_spread k_a1 h) (lw_V q1045 q1046 q1047 q105 q1048) rfl hd_X0_spread rfl rfl (Nat.le_of_ble_eq_true rfl) (Nat.le_of_ble_eq_true rfl) (Nat.le_of_ble_eq_true rfl) rfl rfl hkb hnb dL_law_1106 (pc' := 1109) rfl (fun r_371 M_370 h m_372 => ?_)
        refine r_aload_n C dL_law_1109 (pc' := 1110) rfl (j := 2) rfl ?_
        refine r_aload_n C dL_law_1110 (pc' := 1111) rfl (j := 0) rfl ?_
        refine r_iload_n C dL_law_1111 (pc' := 1112) rfl (j := 3) rfl ?_
        refine r_iconst C dL_law_1112 (pc' := 1113) rfl (v := 1) rfl ?_
        refine r_iadd C dL_law_1113 (pc' := 1114) rfl ?_
        obtain ⟨c_373, h⟩ := h
        refine r_sld C hE c_373 dL_law_1114 (pc' := 1115) rfl ?_
        refine r_aload_n C dL_law_1115 (pc' := 1116) rfl (j := 0) rfl ?_
        refine r_iload_n C dL_law_1116 (pc' := 1117) rfl (j := 3) rfl ?_
        refine r_iconst C dL_law_1117 (pc' := 1118) rfl (v := 2) rfl ?_
        refine r_iadd C dL_law_1118 (pc' := 1119) rfl ?_
        obtain ⟨c_374, h⟩ := h
        refine r_sld C hE c_374 dL_law_1119 (pc' := 1120) rfl ?_
        refine r_callVi (As := [.int (xs (ix_ (x3 + (1 : Int32)))), .int (xs (ix_ (x3 + (2 : Int32))))]) (rest := [.int r_371]) (Cn := RX7) (T := TX7) C (mMo.kd m_372 k_a2 (by decide)) (by decide) vc_X7 (S_X7_spread (mMo.kd m_372 k_a2 (by decide)) h) (lw_V q1671 q1672 q1673 q112 q1674) rfl hd_X7_spread rfl rfl (Nat.le_of_ble_eq_true rfl) (Nat.le_of_ble_eq_true rfl) (Nat.le_of_ble_eq_true rfl) rfl rfl hkb hnb dL_law_1120 (pc' := 1123) rfl (fun r_376 M_375 h m_377 => ?_)
        refine r_icmp_eq C dL_law_1123 (pc' := 1126) rfl (tgt := 1504) (by decide) (fun c_378 => ?_) (fun c_378 => ?_)
        · have h := it_t h c_378
          obtain ⟨x3_379, e_380, h⟩ := bn_ h
          refine r_iinc C (lv' := [(3, .int x3_379), (0, .ref a0), (1, .ref a1), (2, .ref a2)]) dL_law_1504 (pc' := 1507) rfl (j := 3) rfl x3_379 (by rw [e_380]; rfl) (Nat.le_of_ble_eq_true rfl) rfl ?_
          refine r_goto C dL_law_1507 (tgt := 18) (by decide) ?_
          refine r_sub (lv' := [(0, .ref a0), (1, .ref a1), (2, .ref a2), (3, .int x3_379)]) [1, 2, 3, 0] rfl ?_
          exact ih k n M_375 x3_379 hkb hnb (mMo.kd m_377 (mMo.kd m_372 k_a1 (by decide)) (by decide)) (mMo.kd m_377 (mMo.kd m_372 k_a2 (by decide)) (by decide)) h
        · have h := it_f h c_378
          refine r_iconst C dL_law_1126 (pc' := 1127) rfl (v := 0) rfl ?_
          exact r_lawret C hE h hkb hnb dL_law_1127
      have h := it_f h c_367
      by_cases c_381 : ((xs (ix_ x3)) &&& (63 : Int32)) = 22
      · have h := it_t h c_381
        refine r_tsIn C dL_law_33 (off := 1095) (tgt := 1128) (by rw [c_381]; decide) (by rw [c_381]; decide) (by rw [c_381]; decide) (by decide) ?_
        refine r_aload_n C dL_law_1128 (pc' := 1129) rfl (j := 1) rfl ?_
        refine r_aload_n C dL_law_1129 (pc' := 1130) rfl (j := 0) rfl ?_
        refine r_iload_n C dL_law_1130 (pc' := 1131) rfl (j := 3) rfl ?_
        refine r_iconst C dL_law_1131 (pc' := 1132) rfl (v := 1) rfl ?_
        refine r_iadd C dL_law_1132 (pc' := 1133) rfl ?_
        obtain ⟨c_382, h⟩ := h
        refine r_sld C hE c_382 dL_law_1133 (pc' := 1134) rfl ?_
        refine r_aload_n C dL_law_1134 (pc' := 1135) rfl (j := 0) rfl ?_
        refine r_iload_n C dL_law_1135 (pc' := 1136) rfl (j := 3) rfl ?_
        refine r_iconst C dL_law_1136 (pc' := 1137) rfl (v := 2) rfl ?_
        refine r_iadd C dL_law_1137 (pc' := 1138) rfl ?_
        obtain ⟨c_383, h⟩ := h
        refine r_sld C hE c_383 dL_law_1138 (pc' := 1139) rfl ?_
        refine r_aload_n C dL_law_1139 (pc' := 1140) rfl (j := 0) rfl ?_
        refine r_iload_n C dL_law_1140 (pc' := 1141) rfl (j := 3) rfl ?_
        refine r_iconst C dL_law_1141 (pc' := 1142) rfl (v := 3) rfl ?_
        refine r_iadd C dL_law_1142 (pc' := 1143) rfl ?_
        obtain ⟨c_384, h⟩ := h
        refine r_sld C hE c_384 dL_law_1143 (pc' := 1144) rfl ?_
        refine r_callVl (As := [.int (xs (ix_ (x3 + (1 : Int32)))), .int (xs (ix_ (x3 + (2 : Int32)))), .int (xs (ix_ (x3 + (3 : Int32))))]) (rest := []) (Cn := RX0) (T := TX0) C k_a1 (by decide) vc_X0 (S_X0_comes k_a1 h) (lw_V q1054 q1055 q1056 q105 q1057) rfl hd_X0_comes rfl rfl (Nat.le_of_ble_eq_true rfl) (Nat.le_of_ble_eq_true rfl) (Nat.le_of_ble_eq_true rfl) rfl rfl hkb hnb dL_law_1144 (pc' := 1147) rfl (fun r_386 M_385 h m_387 => ?_)
        refine r_aload_n C dL_law_1147 (pc' := 1148) rfl (j := 2) rfl ?_
        refine r_aload_n C dL_law_1148 (pc' := 1149) rfl (j := 0) rfl ?_
        refine r_iload_n C dL_law_1149 (pc' := 1150) rfl (j := 3) rfl ?_
        refine r_iconst C dL_law_1150 (pc' := 1151) rfl (v := 1) rfl ?_
        refine r_iadd C dL_law_1151 (pc' := 1152) rfl ?_
        obtain ⟨c_388, h⟩ := h
        refine r_sld C hE c_388 dL_law_1152 (pc' := 1153) rfl ?_
        refine r_aload_n C dL_law_1153 (pc' := 1154) rfl (j := 0) rfl ?_
        refine r_iload_n C dL_law_1154 (pc' := 1155) rfl (j := 3) rfl ?_
        refine r_iconst C dL_law_1155 (pc' := 1156) rfl (v := 2) rfl ?_
        refine r_iadd C dL_law_1156 (pc' := 1157) rfl ?_
        obtain ⟨c_389, h⟩ := h
        refine r_sld C hE c_389 dL_law_1157 (pc' := 1158) rfl ?_
        refine r_aload_n C dL_law_1158 (pc' := 1159) rfl (j := 0) rfl ?_
        refine r_iload_n C dL_law_1159 (pc' := 1160) rfl (j := 3) rfl ?_
        refine r_iconst C dL_law_1160 (pc' := 1161) rfl (v := 3) rfl ?_
        refine r_iadd C dL_law_1161 (pc' := 1162) rfl ?_
        obtain ⟨c_390, h⟩ := h
        refine r_sld C hE c_390 dL_law_1162 (pc' := 1163) rfl ?_
        refine r_callVl (As := [.int (xs (ix_ (x3 + (1 : Int32)))), .int (xs (ix_ (x3 + (2 : Int32)))), .int (xs (ix_ (x3 + (3 : Int32))))]) (rest := [.long r_386]) (Cn := RX7) (T := TX7) C (mMo.kd m_387 k_a2 (by decide)) (by decide) vc_X7 (S_X7_comes (mMo.kd m_387 k_a2 (by decide)) h) (lw_V q1709 q1710 q1711 q112 q1712) rfl hd_X7_comes rfl rfl (Nat.le_of_ble_eq_true rfl) (Nat.le_of_ble_eq_true rfl) (Nat.le_of_ble_eq_true rfl) rfl rfl hkb hnb dL_law_1163 (pc' := 1166) rfl (fun r_392 M_391 h m_393 => ?_)
        refine r_lc_eq C dL_law_1166 (pc1 := 1167) (pc' := 1170) rfl dL_law_1167 rfl (tgt := 1504) (by decide) (fun c_394 => ?_) (fun c_394 => ?_)
        · have h := it_t h c_394
          obtain ⟨x3_395, e_396, h⟩ := bn_ h
          refine r_iinc C (lv' := [(3, .int x3_395), (0, .ref a0), (1, .ref a1), (2, .ref a2)]) dL_law_1504 (pc' := 1507) rfl (j := 3) rfl x3_395 (by rw [e_396]; rfl) (Nat.le_of_ble_eq_true rfl) rfl ?_
          refine r_goto C dL_law_1507 (tgt := 18) (by decide) ?_
          refine r_sub (lv' := [(0, .ref a0), (1, .ref a1), (2, .ref a2), (3, .int x3_395)]) [1, 2, 3, 0] rfl ?_
          exact ih k n M_391 x3_395 hkb hnb (mMo.kd m_393 (mMo.kd m_387 k_a1 (by decide)) (by decide)) (mMo.kd m_393 (mMo.kd m_387 k_a2 (by decide)) (by decide)) h
        · have h := it_f h c_394
          refine r_iconst C dL_law_1170 (pc' := 1171) rfl (v := 0) rfl ?_
          exact r_lawret C hE h hkb hnb dL_law_1171
      have h := it_f h c_381
      by_cases c_397 : ((xs (ix_ x3)) &&& (63 : Int32)) = 23
      · have h := it_t h c_397
        refine r_tsIn C dL_law_33 (off := 1139) (tgt := 1172) (by rw [c_397]; decide) (by rw [c_397]; decide) (by rw [c_397]; decide) (by decide) ?_
        refine r_aload_n C dL_law_1172 (pc' := 1173) rfl (j := 1) rfl ?_
        refine r_aload_n C dL_law_1173 (pc' := 1174) rfl (j := 0) rfl ?_
        refine r_iload_n C dL_law_1174 (pc' := 1175) rfl (j := 3) rfl ?_
        refine r_iconst C dL_law_1175 (pc' := 1176) rfl (v := 1) rfl ?_
        refine r_iadd C dL_law_1176 (pc' := 1177) rfl ?_
        obtain ⟨c_398, h⟩ := h
        refine r_sld C hE c_398 dL_law_1177 (pc' := 1178) rfl ?_
        refine r_aload_n C dL_law_1178 (pc' := 1179) rfl (j := 0) rfl ?_
        refine r_iload_n C dL_law_1179 (pc' := 1180) rfl (j := 3) rfl ?_
        refine r_iconst C dL_law_1180 (pc' := 1181) rfl (v := 2) rfl ?_
        refine r_iadd C dL_law_1181 (pc' := 1182) rfl ?_
        obtain ⟨c_399, h⟩ := h
        refine r_sld C hE c_399 dL_law_1182 (pc' := 1183) rfl ?_
        refine r_callVi (As := [.int (xs (ix_ (x3 + (1 : Int32)))), .int (xs (ix_ (x3 + (2 : Int32))))]) (rest := []) (Cn := RX0) (T := TX0) C k_a1 (by decide) vc_X0 (S_X0_share k_a1 h) (lw_V q1062 q1063 q1064 q105 q1065) rfl hd_X0_share rfl rfl (Nat.le_of_ble_eq_true rfl) (Nat.le_of_ble_eq_true rfl) (Nat.le_of_ble_eq_true rfl) rfl rfl hkb hnb dL_law_1183 (pc' := 1186) rfl (fun r_401 M_400 h m_402 => ?_)
        refine r_aload_n C dL_law_1186 (pc' := 1187) rfl (j := 2) rfl ?_
        refine r_aload_n C dL_law_1187 (pc' := 1188) rfl (j := 0) rfl ?_
        refine r_iload_n C dL_law_1188 (pc' := 1189) rfl (j := 3) rfl ?_
        refine r_iconst C dL_law_1189 (pc' := 1190) rfl (v := 1) rfl ?_
        refine r_iadd C dL_law_1190 (pc' := 1191) rfl ?_
        obtain ⟨c_403, h⟩ := h
        refine r_sld C hE c_403 dL_law_1191 (pc' := 1192) rfl ?_
        refine r_aload_n C dL_law_1192 (pc' := 1193) rfl (j := 0) rfl ?_
        refine r_iload_n C dL_law_1193 (pc' := 1194) rfl (j := 3) rfl ?_
        refine r_iconst C dL_law_1194 (pc' := 1195) rfl (v := 2) rfl ?_
        refine r_iadd C dL_law_1195 (pc' := 1196) rfl ?_
        obtain ⟨c_404, h⟩ := h
        refine r_sld C hE c_404 dL_law_1196 (pc' := 1197) rfl ?_
        refine r_callVi (As := [.int (xs (ix_ (x3 + (1 : Int32)))), .int (xs (ix_ (x3 + (2 : Int32))))]) (rest := [.int r_401]) (Cn := RX7) (T := TX7) C (mMo.kd m_402 k_a2 (by decide)) (by decide) vc_X7 (S_X7_share (mMo.kd m_402 k_a2 (by decide)) h) (lw_V q1728 q1729 q1730 q112 q1731) rfl hd_X7_share rfl rfl (Nat.le_of_ble_eq_true rfl) (Nat.le_of_ble_eq_true rfl) (Nat.le_of_ble_eq_true rfl) rfl rfl hkb hnb dL_law_1197 (pc' := 1200) rfl (fun r_406 M_405 h m_407 => ?_)
        refine r_icmp_eq C dL_law_1200 (pc' := 1203) rfl (tgt := 1504) (by decide) (fun c_408 => ?_) (fun c_408 => ?_)
        · have h := it_t h c_408
          obtain ⟨x3_409, e_410, h⟩ := bn_ h
          refine r_iinc C (lv' := [(3, .int x3_409), (0, .ref a0), (1, .ref a1), (2, .ref a2)]) dL_law_1504 (pc' := 1507) rfl (j := 3) rfl x3_409 (by rw [e_410]; rfl) (Nat.le_of_ble_eq_true rfl) rfl ?_
          refine r_goto C dL_law_1507 (tgt := 18) (by decide) ?_
          refine r_sub (lv' := [(0, .ref a0), (1, .ref a1), (2, .ref a2), (3, .int x3_409)]) [1, 2, 3, 0] rfl ?_
          exact ih k n M_405 x3_409 hkb hnb (mMo.kd m_407 (mMo.kd m_402 k_a1 (by decide)) (by decide)) (mMo.kd m_407 (mMo.kd m_402 k_a2 (by decide)) (by decide)) h
        · have h := it_f h c_408
          refine r_iconst C dL_law_1203 (pc' := 1204) rfl (v := 0) rfl ?_
          exact r_lawret C hE h hkb hnb dL_law_1204
      have h := it_f h c_397
      by_cases c_411 : ((xs (ix_ x3)) &&& (63 : Int32)) = 24
      · have h := it_t h c_411
        refine r_tsIn C dL_law_33 (off := 1172) (tgt := 1205) (by rw [c_411]; decide) (by rw [c_411]; decide) (by rw [c_411]; decide) (by decide) ?_
        refine r_aload_n C dL_law_1205 (pc' := 1206) rfl (j := 1) rfl ?_
        refine r_aload_n C dL_law_1206 (pc' := 1207) rfl (j := 0) rfl ?_
        refine r_iload_n C dL_law_1207 (pc' := 1208) rfl (j := 3) rfl ?_
        refine r_iconst C dL_law_1208 (pc' := 1209) rfl (v := 1) rfl ?_
        refine r_iadd C dL_law_1209 (pc' := 1210) rfl ?_
        obtain ⟨c_412, h⟩ := h
        refine r_sld C hE c_412 dL_law_1210 (pc' := 1211) rfl ?_
        refine r_aload_n C dL_law_1211 (pc' := 1212) rfl (j := 0) rfl ?_
        refine r_iload_n C dL_law_1212 (pc' := 1213) rfl (j := 3) rfl ?_
        refine r_iconst C dL_law_1213 (pc' := 1214) rfl (v := 2) rfl ?_
        refine r_iadd C dL_law_1214 (pc' := 1215) rfl ?_
        obtain ⟨c_413, h⟩ := h
        refine r_sld C hE c_413 dL_law_1215 (pc' := 1216) rfl ?_
        refine r_aload_n C dL_law_1216 (pc' := 1217) rfl (j := 0) rfl ?_
        refine r_iload_n C dL_law_1217 (pc' := 1218) rfl (j := 3) rfl ?_
        refine r_iconst C dL_law_1218 (pc' := 1219) rfl (v := 3) rfl ?_
        refine r_iadd C dL_law_1219 (pc' := 1220) rfl ?_
        obtain ⟨c_414, h⟩ := h
        refine r_sld C hE c_414 dL_law_1220 (pc' := 1221) rfl ?_
        obtain ⟨c_415, h⟩ := h
        refine r_callVi (As := [.int (xs (ix_ (x3 + (1 : Int32)))), .int (xs (ix_ (x3 + (2 : Int32)))), .int (xs (ix_ (x3 + (3 : Int32))))]) (rest := []) (Cn := RX0) (T := TX0) C k_a1 (by decide) vc_X0 (S_X0_rota k_a1 h) (lw_V q1070 q1071 q1072 q105 q1073) rfl hd_X0_rota rfl rfl (Nat.le_of_ble_eq_true rfl) (Nat.le_of_ble_eq_true rfl) (Nat.le_of_ble_eq_true rfl) rfl rfl c_415.1 c_415.2 dL_law_1221 (pc' := 1224) rfl (fun r_417 M_416 h m_418 => ?_)
        refine r_aload_n C dL_law_1224 (pc' := 1225) rfl (j := 2) rfl ?_
        refine r_aload_n C dL_law_1225 (pc' := 1226) rfl (j := 0) rfl ?_
        refine r_iload_n C dL_law_1226 (pc' := 1227) rfl (j := 3) rfl ?_
        refine r_iconst C dL_law_1227 (pc' := 1228) rfl (v := 1) rfl ?_
        refine r_iadd C dL_law_1228 (pc' := 1229) rfl ?_
        obtain ⟨c_419, h⟩ := h
        refine r_sld C hE c_419 dL_law_1229 (pc' := 1230) rfl ?_
        refine r_aload_n C dL_law_1230 (pc' := 1231) rfl (j := 0) rfl ?_
        refine r_iload_n C dL_law_1231 (pc' := 1232) rfl (j := 3) rfl ?_
        refine r_iconst C dL_law_1232 (pc' := 1233) rfl (v := 2) rfl ?_
        refine r_iadd C dL_law_1233 (pc' := 1234) rfl ?_
        obtain ⟨c_420, h⟩ := h
        refine r_sld C hE c_420 dL_law_1234 (pc' := 1235) rfl ?_
        refine r_aload_n C dL_law_1235 (pc' := 1236) rfl (j := 0) rfl ?_
        refine r_iload_n C dL_law_1236 (pc' := 1237) rfl (j := 3) rfl ?_
        refine r_iconst C dL_law_1237 (pc' := 1238) rfl (v := 3) rfl ?_
        refine r_iadd C dL_law_1238 (pc' := 1239) rfl ?_
        obtain ⟨c_421, h⟩ := h
        refine r_sld C hE c_421 dL_law_1239 (pc' := 1240) rfl ?_
        refine r_callVi (As := [.int (xs (ix_ (x3 + (1 : Int32)))), .int (xs (ix_ (x3 + (2 : Int32)))), .int (xs (ix_ (x3 + (3 : Int32))))]) (rest := [.int r_417]) (Cn := RX7) (T := TX7) C (mMo.kd m_418 k_a2 (by decide)) (by decide) vc_X7 (S_X7_rota (mMo.kd m_418 k_a2 (by decide)) h) (lw_V q1732 q1733 q1734 q112 q1735) rfl hd_X7_rota rfl rfl (Nat.le_of_ble_eq_true rfl) (Nat.le_of_ble_eq_true rfl) (Nat.le_of_ble_eq_true rfl) rfl rfl c_415.1 c_415.2 dL_law_1240 (pc' := 1243) rfl (fun r_423 M_422 h m_424 => ?_)
        refine r_icmp_eq C dL_law_1243 (pc' := 1246) rfl (tgt := 1504) (by decide) (fun c_425 => ?_) (fun c_425 => ?_)
        · have h := it_t h c_425
          obtain ⟨x3_426, e_427, h⟩ := bn_ h
          refine r_iinc C (lv' := [(3, .int x3_426), (0, .ref a0), (1, .ref a1), (2, .ref a2)]) dL_law_1504 (pc' := 1507) rfl (j := 3) rfl x3_426 (by rw [e_427]; rfl) (Nat.le_of_ble_eq_true rfl) rfl ?_
          refine r_goto C dL_law_1507 (tgt := 18) (by decide) ?_
          refine r_sub (lv' := [(0, .ref a0), (1, .ref a1), (2, .ref a2), (3, .int x3_426)]) [1, 2, 3, 0] rfl ?_
          exact ih (k + 2) (n + 91) M_422 x3_426 c_415.1 c_415.2 (mMo.kd m_424 (mMo.kd m_418 k_a1 (by decide)) (by decide)) (mMo.kd m_424 (mMo.kd m_418 k_a2 (by decide)) (by decide)) h
        · have h := it_f h c_425
          refine r_iconst C dL_law_1246 (pc' := 1247) rfl (v := 0) rfl ?_
          exact r_lawret C hE h c_415.1 c_415.2 dL_law_1247
      have h := it_f h c_411
      by_cases c_428 : ((xs (ix_ x3)) &&& (63 : Int32)) = 25
      · have h := it_t h c_428
        refine r_tsIn C dL_law_33 (off := 1215) (tgt := 1248) (by rw [c_428]; decide) (by rw [c_428]; decide) (by rw [c_428]; decide) (by decide) ?_
        refine r_aload_n C dL_law_1248 (pc' := 1249) rfl (j := 1) rfl ?_
        refine r_aload_n C dL_law_1249 (pc' := 1250) rfl (j := 0) rfl ?_
        refine r_iload_n C dL_law_1250 (pc' := 1251) rfl (j := 3) rfl ?_
        refine r_iconst C dL_law_1251 (pc' := 1252) rfl (v := 1) rfl ?_
        refine r_iadd C dL_law_1252 (pc' := 1253) rfl ?_
        obtain ⟨c_429, h⟩ := h
        refine r_sld C hE c_429 dL_law_1253 (pc' := 1254) rfl ?_
        refine r_aload_n C dL_law_1254 (pc' := 1255) rfl (j := 0) rfl ?_
        refine r_iload_n C dL_law_1255 (pc' := 1256) rfl (j := 3) rfl ?_
        refine r_iconst C dL_law_1256 (pc' := 1257) rfl (v := 2) rfl ?_
        refine r_iadd C dL_law_1257 (pc' := 1258) rfl ?_
        obtain ⟨c_430, h⟩ := h
        refine r_sld C hE c_430 dL_law_1258 (pc' := 1259) rfl ?_
        refine r_callVi (As := [.int (xs (ix_ (x3 + (1 : Int32)))), .int (xs (ix_ (x3 + (2 : Int32))))]) (rest := []) (Cn := RX0) (T := TX0) C k_a1 (by decide) vc_X0 (S_X0_alone k_a1 h) (lw_V q1146 q1147 q1148 q105 q1149) rfl hd_X0_alone rfl rfl (Nat.le_of_ble_eq_true rfl) (Nat.le_of_ble_eq_true rfl) (Nat.le_of_ble_eq_true rfl) rfl rfl hkb hnb dL_law_1259 (pc' := 1262) rfl (fun r_432 M_431 h m_433 => ?_)
        refine r_aload_n C dL_law_1262 (pc' := 1263) rfl (j := 2) rfl ?_
        refine r_aload_n C dL_law_1263 (pc' := 1264) rfl (j := 0) rfl ?_
        refine r_iload_n C dL_law_1264 (pc' := 1265) rfl (j := 3) rfl ?_
        refine r_iconst C dL_law_1265 (pc' := 1266) rfl (v := 1) rfl ?_
        refine r_iadd C dL_law_1266 (pc' := 1267) rfl ?_
        obtain ⟨c_434, h⟩ := h
        refine r_sld C hE c_434 dL_law_1267 (pc' := 1268) rfl ?_
        refine r_aload_n C dL_law_1268 (pc' := 1269) rfl (j := 0) rfl ?_
        refine r_iload_n C dL_law_1269 (pc' := 1270) rfl (j := 3) rfl ?_
        refine r_iconst C dL_law_1270 (pc' := 1271) rfl (v := 2) rfl ?_
        refine r_iadd C dL_law_1271 (pc' := 1272) rfl ?_
        obtain ⟨c_435, h⟩ := h
        refine r_sld C hE c_435 dL_law_1272 (pc' := 1273) rfl ?_
        refine r_callVi (As := [.int (xs (ix_ (x3 + (1 : Int32)))), .int (xs (ix_ (x3 + (2 : Int32))))]) (rest := [.int r_432]) (Cn := RX7) (T := TX7) C (mMo.kd m_433 k_a2 (by decide)) (by decide) vc_X7 (S_X7_alone (mMo.kd m_433 k_a2 (by decide)) h) (lw_V q1747 q1748 q1749 q112 q1750) rfl hd_X7_alone rfl rfl (Nat.le_of_ble_eq_true rfl) (Nat.le_of_ble_eq_true rfl) (Nat.le_of_ble_eq_true rfl) rfl rfl hkb hnb dL_law_1273 (pc' := 1276) rfl (fun r_437 M_436 h m_438 => ?_)
        refine r_icmp_eq C dL_law_1276 (pc' := 1279) rfl (tgt := 1504) (by decide) (fun c_439 => ?_) (fun c_439 => ?_)
        · have h := it_t h c_439
          obtain ⟨x3_440, e_441, h⟩ := bn_ h
          refine r_iinc C (lv' := [(3, .int x3_440), (0, .ref a0), (1, .ref a1), (2, .ref a2)]) dL_law_1504 (pc' := 1507) rfl (j := 3) rfl x3_440 (by rw [e_441]; rfl) (Nat.le_of_ble_eq_true rfl) rfl ?_
          refine r_goto C dL_law_1507 (tgt := 18) (by decide) ?_
          refine r_sub (lv' := [(0, .ref a0), (1, .ref a1), (2, .ref a2), (3, .int x3_440)]) [1, 2, 3, 0] rfl ?_
          exact ih k n M_436 x3_440 hkb hnb (mMo.kd m_438 (mMo.kd m_433 k_a1 (by decide)) (by decide)) (mMo.kd m_438 (mMo.kd m_433 k_a2 (by decide)) (by decide)) h
        · have h := it_f h c_439
          refine r_iconst C dL_law_1279 (pc' := 1280) rfl (v := 0) rfl ?_
          exact r_lawret C hE h hkb hnb dL_law_1280
      have h := it_f h c_428
      by_cases c_442 : ((xs (ix_ x3)) &&& (63 : Int32)) = 26
      · have h := it_t h c_442
        refine r_tsIn C dL_law_33 (off := 1248) (tgt := 1281) (by rw [c_442]; decide) (by rw [c_442]; decide) (by rw [c_442]; decide) (by decide) ?_
        refine r_aload_n C dL_law_1281 (pc' := 1282) rfl (j := 1) rfl ?_
        refine r_aload_n C dL_law_1282 (pc' := 1283) rfl (j := 0) rfl ?_
        refine r_iload_n C dL_law_1283 (pc' := 1284) rfl (j := 3) rfl ?_
        refine r_iconst C dL_law_1284 (pc' := 1285) rfl (v := 1) rfl ?_
        refine r_iadd C dL_law_1285 (pc' := 1286) rfl ?_
        obtain ⟨c_443, h⟩ := h
        refine r_sld C hE c_443 dL_law_1286 (pc' := 1287) rfl ?_
        refine r_aload_n C dL_law_1287 (pc' := 1288) rfl (j := 0) rfl ?_
        refine r_iload_n C dL_law_1288 (pc' := 1289) rfl (j := 3) rfl ?_
        refine r_iconst C dL_law_1289 (pc' := 1290) rfl (v := 2) rfl ?_
        refine r_iadd C dL_law_1290 (pc' := 1291) rfl ?_
        obtain ⟨c_444, h⟩ := h
        refine r_sld C hE c_444 dL_law_1291 (pc' := 1292) rfl ?_
        refine r_aload_n C dL_law_1292 (pc' := 1293) rfl (j := 0) rfl ?_
        refine r_iload_n C dL_law_1293 (pc' := 1294) rfl (j := 3) rfl ?_
        refine r_iconst C dL_law_1294 (pc' := 1295) rfl (v := 3) rfl ?_
        refine r_iadd C dL_law_1295 (pc' := 1296) rfl ?_
        obtain ⟨c_445, h⟩ := h
        refine r_sld C hE c_445 dL_law_1296 (pc' := 1297) rfl ?_
        refine r_aload_n C dL_law_1297 (pc' := 1298) rfl (j := 0) rfl ?_
        refine r_iload_n C dL_law_1298 (pc' := 1299) rfl (j := 3) rfl ?_
        refine r_iconst C dL_law_1299 (pc' := 1300) rfl (v := 4) rfl ?_
        refine r_iadd C dL_law_1300 (pc' := 1301) rfl ?_
        obtain ⟨c_446, h⟩ := h
        refine r_sld C hE c_446 dL_law_1301 (pc' := 1302) rfl ?_
        refine r_aload_n C dL_law_1302 (pc' := 1303) rfl (j := 0) rfl ?_
        refine r_iload_n C dL_law_1303 (pc' := 1304) rfl (j := 3) rfl ?_
        refine r_iconst C dL_law_1304 (pc' := 1305) rfl (v := 5) rfl ?_
        refine r_iadd C dL_law_1305 (pc' := 1306) rfl ?_
        obtain ⟨c_447, h⟩ := h
        refine r_sld C hE c_447 dL_law_1306 (pc' := 1307) rfl ?_
        refine r_callVl (As := [.int (xs (ix_ (x3 + (1 : Int32)))), .int (xs (ix_ (x3 + (2 : Int32)))), .int (xs (ix_ (x3 + (3 : Int32)))), .int (xs (ix_ (x3 + (4 : Int32)))), .int (xs (ix_ (x3 + (5 : Int32))))]) (rest := []) (Cn := RX0) (T := TX0) C k_a1 (by decide) vc_X0 (S_X0_whoDid k_a1 h) (lw_V q1169 q1170 q1171 q105 q1172) rfl hd_X0_whoDid rfl rfl (Nat.le_of_ble_eq_true rfl) (Nat.le_of_ble_eq_true rfl) (Nat.le_of_ble_eq_true rfl) rfl rfl hkb hnb dL_law_1307 (pc' := 1310) rfl (fun r_449 M_448 h m_450 => ?_)
        refine r_aload_n C dL_law_1310 (pc' := 1311) rfl (j := 2) rfl ?_
        refine r_aload_n C dL_law_1311 (pc' := 1312) rfl (j := 0) rfl ?_
        refine r_iload_n C dL_law_1312 (pc' := 1313) rfl (j := 3) rfl ?_
        refine r_iconst C dL_law_1313 (pc' := 1314) rfl (v := 1) rfl ?_
        refine r_iadd C dL_law_1314 (pc' := 1315) rfl ?_
        obtain ⟨c_451, h⟩ := h
        refine r_sld C hE c_451 dL_law_1315 (pc' := 1316) rfl ?_
        refine r_aload_n C dL_law_1316 (pc' := 1317) rfl (j := 0) rfl ?_
        refine r_iload_n C dL_law_1317 (pc' := 1318) rfl (j := 3) rfl ?_
        refine r_iconst C dL_law_1318 (pc' := 1319) rfl (v := 2) rfl ?_
        refine r_iadd C dL_law_1319 (pc' := 1320) rfl ?_
        obtain ⟨c_452, h⟩ := h
        refine r_sld C hE c_452 dL_law_1320 (pc' := 1321) rfl ?_
        refine r_aload_n C dL_law_1321 (pc' := 1322) rfl (j := 0) rfl ?_
        refine r_iload_n C dL_law_1322 (pc' := 1323) rfl (j := 3) rfl ?_
        refine r_iconst C dL_law_1323 (pc' := 1324) rfl (v := 3) rfl ?_
        refine r_iadd C dL_law_1324 (pc' := 1325) rfl ?_
        obtain ⟨c_453, h⟩ := h
        refine r_sld C hE c_453 dL_law_1325 (pc' := 1326) rfl ?_
        refine r_aload_n C dL_law_1326 (pc' := 1327) rfl (j := 0) rfl ?_
        refine r_iload_n C dL_law_1327 (pc' := 1328) rfl (j := 3) rfl ?_
        refine r_iconst C dL_law_1328 (pc' := 1329) rfl (v := 4) rfl ?_
        refine r_iadd C dL_law_1329 (pc' := 1330) rfl ?_
        obtain ⟨c_454, h⟩ := h
        refine r_sld C hE c_454 dL_law_1330 (pc' := 1331) rfl ?_
        refine r_aload_n C dL_law_1331 (pc' := 1332) rfl (j := 0) rfl ?_
        refine r_iload_n C dL_law_1332 (pc' := 1333) rfl (j := 3) rfl ?_
        refine r_iconst C dL_law_1333 (pc' := 1334) rfl (v := 5) rfl ?_
        refine r_iadd C dL_law_1334 (pc' := 1335) rfl ?_
        obtain ⟨c_455, h⟩ := h
        refine r_sld C hE c_455 dL_law_1335 (pc' := 1336) rfl ?_
        refine r_callVl (As := [.int (xs (ix_ (x3 + (1 : Int32)))), .int (xs (ix_ (x3 + (2 : Int32)))), .int (xs (ix_ (x3 + (3 : Int32)))), .int (xs (ix_ (x3 + (4 : Int32)))), .int (xs (ix_ (x3 + (5 : Int32))))]) (rest := [.long r_449]) (Cn := RX7) (T := TX7) C (mMo.kd m_450 k_a2 (by decide)) (by decide) vc_X7 (S_X7_whoDid (mMo.kd m_450 k_a2 (by decide)) h) (lw_V q1763 q1764 q1765 q112 q1766) rfl hd_X7_whoDid rfl rfl (Nat.le_of_ble_eq_true rfl) (Nat.le_of_ble_eq_true rfl) (Nat.le_of_ble_eq_true rfl) rfl rfl hkb hnb dL_law_1336 (pc' := 1339) rfl (fun r_457 M_456 h m_458 => ?_)
        refine r_lc_eq C dL_law_1339 (pc1 := 1340) (pc' := 1343) rfl dL_law_1340 rfl (tgt := 1504) (by decide) (fun c_459 => ?_) (fun c_459 => ?_)
        · have h := it_t h c_459
          obtain ⟨x3_460, e_461, h⟩ := bn_ h
          refine r_iinc C (lv' := [(3, .int x3_460), (0, .ref a0), (1, .ref a1), (2, .ref a2)]) dL_law_1504 (pc' := 1507) rfl (j := 3) rfl x3_460 (by rw [e_461]; rfl) (Nat.le_of_ble_eq_true rfl) rfl ?_
          refine r_goto C dL_law_1507 (tgt := 18) (by decide) ?_
          refine r_sub (lv' := [(0, .ref a0), (1, .ref a1), (2, .ref a2), (3, .int x3_460)]) [1, 2, 3, 0] rfl ?_
          exact ih k n M_456 x3_460 hkb hnb (mMo.kd m_458 (mMo.kd m_450 k_a1 (by decide)) (by decide)) (mMo.kd m_458 (mMo.kd m_450 k_a2 (by decide)) (by decide)) h
        · have h := it_f h c_459
          refine r_iconst C dL_law_1343 (pc' := 1344) rfl (v := 0) rfl ?_
          exact r_lawret C hE h hkb hnb dL_law_1344
      have h := it_f h c_442
      by_cases c_462 : ((xs (ix_ x3)) &&& (63 : Int32)) = 27
      · have h := it_t h c_462
        refine r_tsIn C dL_law_33 (off := 1312) (tgt := 1345) (by rw [c_462]; decide) (by rw [c_462]; decide) (by rw [c_462]; decide) (by decide) ?_
        refine r_aload_n C dL_law_1345 (pc' := 1346) rfl (j := 1) rfl ?_
        refine r_aload_n C dL_law_1346 (pc' := 1347) rfl (j := 0) rfl ?_
        refine r_iload_n C dL_law_1347 (pc' := 1348) rfl (j := 3) rfl ?_
        refine r_iconst C dL_law_1348 (pc' := 1349) rfl (v := 1) rfl ?_
        refine r_iadd C dL_law_1349 (pc' := 1350) rfl ?_
        obtain ⟨c_463, h⟩ := h
        refine r_sld C hE c_463 dL_law_1350 (pc' := 1351) rfl ?_
        refine r_aload_n C dL_law_1351 (pc' := 1352) rfl (j := 0) rfl ?_
        refine r_iload_n C dL_law_1352 (pc' := 1353) rfl (j := 3) rfl ?_
        refine r_iconst C dL_law_1353 (pc' := 1354) rfl (v := 2) rfl ?_
        refine r_iadd C dL_law_1354 (pc' := 1355) rfl ?_
        obtain ⟨c_464, h⟩ := h
        refine r_sld C hE c_464 dL_law_1355 (pc' := 1356) rfl ?_
        refine r_aload_n C dL_law_1356 (pc' := 1357) rfl (j := 0) rfl ?_
        refine r_iload_n C dL_law_1357 (pc' := 1358) rfl (j := 3) rfl ?_
        refine r_iconst C dL_law_1358 (pc' := 1359) rfl (v := 3) rfl ?_
        refine r_iadd C dL_law_1359 (pc' := 1360) rfl ?_
        obtain ⟨c_465, h⟩ := h
        refine r_sld C hE c_465 dL_law_1360 (pc' := 1361) rfl ?_
        refine r_aload_n C dL_law_1361 (pc' := 1362) rfl (j := 0) rfl ?_
        refine r_iload_n C dL_law_1362 (pc' := 1363) rfl (j := 3) rfl ?_
        refine r_iconst C dL_law_1363 (pc' := 1364) rfl (v := 4) rfl ?_
        refine r_iadd C dL_law_1364 (pc' := 1365) rfl ?_
        obtain ⟨c_466, h⟩ := h
        refine r_sld C hE c_466 dL_law_1365 (pc' := 1366) rfl ?_
        refine r_callVl (As := [.int (xs (ix_ (x3 + (1 : Int32)))), .int (xs (ix_ (x3 + (2 : Int32)))), .int (xs (ix_ (x3 + (3 : Int32)))), .int (xs (ix_ (x3 + (4 : Int32))))]) (rest := []) (Cn := RX0) (T := TX0) C k_a1 (by decide) vc_X0 (S_X0_can k_a1 h) (lw_V q1181 q1182 q1183 q105 q1184) rfl hd_X0_can rfl rfl (Nat.le_of_ble_eq_true rfl) (Nat.le_of_ble_eq_true rfl) (Nat.le_of_ble_eq_true rfl) rfl rfl hkb hnb dL_law_1366 (pc' := 1369) rfl (fun r_468 M_467 h m_469 => ?_)
        refine r_aload_n C dL_law_1369 (pc' := 1370) rfl (j := 2) rfl ?_
        refine r_aload_n C dL_law_1370 (pc' := 1371) rfl (j := 0) rfl ?_
        refine r_iload_n C dL_law_1371 (pc' := 1372) rfl (j := 3) rfl ?_
        refine r_iconst C dL_law_1372 (pc' := 1373) rfl (v := 1) rfl ?_
        refine r_iadd C dL_law_1373 (pc' := 1374) rfl ?_
        obtain ⟨c_470, h⟩ := h
        refine r_sld C hE c_470 dL_law_1374 (pc' := 1375) rfl ?_
        refine r_aload_n C dL_law_1375 (pc' := 1376) rfl (j := 0) rfl ?_
        refine r_iload_n C dL_law_1376 (pc' := 1377) rfl (j := 3) rfl ?_
        refine r_iconst C dL_law_1377 (pc' := 1378) rfl (v := 2) rfl ?_
        refine r_iadd C dL_law_1378 (pc' := 1379) rfl ?_
        obtain ⟨c_471, h⟩ := h
        refine r_sld C hE c_471 dL_law_1379 (pc' := 1380) rfl ?_
        refine r_aload_n C dL_law_1380 (pc' := 1381) rfl (j := 0) rfl ?_
        refine r_iload_n C dL_law_1381 (pc' := 1382) rfl (j := 3) rfl ?_
        refine r_iconst C dL_law_1382 (pc' := 1383) rfl (v := 3) rfl ?_
        refine r_iadd C dL_law_1383 (pc' := 1384) rfl ?_
        obtain ⟨c_472, h⟩ := h
        refine r_sld C hE c_472 dL_law_1384 (pc' := 1385) rfl ?_
        refine r_aload_n C dL_law_1385 (pc' := 1386) rfl (j := 0) rfl ?_
        refine r_iload_n C dL_law_1386 (pc' := 1387) rfl (j := 3) rfl ?_
        refine r_iconst C dL_law_1387 (pc' := 1388) rfl (v := 4) rfl ?_
        refine r_iadd C dL_law_1388 (pc' := 1389) rfl ?_
        obtain ⟨c_473, h⟩ := h
        refine r_sld C hE c_473 dL_law_1389 (pc' := 1390) rfl ?_
        refine r_callVl (As := [.int (xs (ix_ (x3 + (1 : Int32)))), .int (xs (ix_ (x3 + (2 : Int32)))), .int (xs (ix_ (x3 + (3 : Int32)))), .int (xs (ix_ (x3 + (4 : Int32))))]) (rest := [.long r_468]) (Cn := RX7) (T := TX7) C (mMo.kd m_469 k_a2 (by decide)) (by decide) vc_X7 (S_X7_can (mMo.kd m_469 k_a2 (by decide)) h) (lw_V q1767 q1768 q1769 q112 q1770) rfl hd_X7_can rfl rfl (Nat.le_of_ble_eq_true rfl) (Nat.le_of_ble_eq_true rfl) (Nat.le_of_ble_eq_true rfl) rfl rfl hkb hnb dL_law_1390 (pc' := 1393) rfl (fun r_475 M_474 h m_476 => ?_)
        refine r_lc_eq C dL_law_1393 (pc1 := 1394) (pc' := 1397) rfl dL_law_1394 rfl (tgt := 1504) (by decide) (fun c_477 => ?_) (fun c_477 => ?_)
        · have h := it_t h c_477
          obtain ⟨x3_478, e_479, h⟩ := bn_ h
          refine r_iinc C (lv' := [(3, .int x3_478), (0, .ref a0), (1, .ref a1), (2, .ref a2)]) dL_law_1504 (pc' := 1507) rfl (j := 3) rfl x3_478 (by rw [e_479]; rfl) (Nat.le_of_ble_eq_true rfl) rfl ?_
          refine r_goto C dL_law_1507 (tgt := 18) (by decide) ?_
          refine r_sub (lv' := [(0, .ref a0), (1, .ref a1), (2, .ref a2), (3, .int x3_478)]) [1, 2, 3, 0] rfl ?_
          exact ih k n M_474 x3_478 hkb hnb (mMo.kd m_476 (mMo.kd m_469 k_a1 (by decide)) (by decide)) (mMo.kd m_476 (mMo.kd m_469 k_a2 (by decide)) (by decide)) h
        · have h := it_f h c_477
          refine r_iconst C dL_law_1397 (pc' := 1398) rfl (v := 0) rfl ?_
          exact r_lawret C hE h hkb hnb dL_law_1398
      have h := it_f h c_462
      by_cases c_480 : ((xs (ix_ x3)) &&& (63 : Int32)) = 28
      · have h := it_t h c_480
        refine r_tsIn C dL_law_33 (off := 1366) (tgt := 1399) (by rw [c_480]; decide) (by rw [c_480]; decide) (by rw [c_480]; decide) (by decide) ?_
        refine r_aload_n C dL_law_1399 (pc' := 1400) rfl (j := 1) rfl ?_
        refine r_aload_n C dL_law_1400 (pc' := 1401) rfl (j := 0) rfl ?_
        refine r_iload_n C dL_law_1401 (pc' := 1402) rfl (j := 3) rfl ?_
        refine r_iconst C dL_law_1402 (pc' := 1403) rfl (v := 1) rfl ?_
        refine r_iadd C dL_law_1403 (pc' := 1404) rfl ?_
        obtain ⟨c_481, h⟩ := h
        refine r_sld C hE c_481 dL_law_1404 (pc' := 1405) rfl ?_
        refine r_callVi (As := [.int (xs (ix_ (x3 + (1 : Int32))))]) (rest := []) (Cn := RX0) (T := TX0) C k_a1 (by decide) vc_X0 (S_X0_seed k_a1 h) (lw_V q1185 q1186 q1187 q105 q1188) rfl hd_X0_seed rfl rfl (Nat.le_of_ble_eq_true rfl) (Nat.le_of_ble_eq_true rfl) (Nat.le_of_ble_eq_true rfl) rfl rfl hkb hnb dL_law_1405 (pc' := 1408) rfl (fun r_483 M_482 h m_484 => ?_)
        refine r_aload_n C dL_law_1408 (pc' := 1409) rfl (j := 2) rfl ?_
        refine r_aload_n C dL_law_1409 (pc' := 1410) rfl (j := 0) rfl ?_
        refine r_iload_n C dL_law_1410 (pc' := 1411) rfl (j := 3) rfl ?_
        refine r_iconst C dL_law_1411 (pc' := 1412) rfl (v := 1) rfl ?_
        refine r_iadd C dL_law_1412 (pc' := 1413) rfl ?_
        obtain ⟨c_485, h⟩ := h
        refine r_sld C hE c_485 dL_law_1413 (pc' := 1414) rfl ?_
        refine r_callVi (As := [.int (xs (ix_ (x3 + (1 : Int32))))]) (rest := [.int r_483]) (Cn := RX7) (T := TX7) C (mMo.kd m_484 k_a2 (by decide)) (by decide) vc_X7 (S_X7_seed (mMo.kd m_484 k_a2 (by decide)) h) (lw_V q1771 q1772 q1773 q112 q1774) rfl hd_X7_seed rfl rfl (Nat.le_of_ble_eq_true rfl) (Nat.le_of_ble_eq_true rfl) (Nat.le_of_ble_eq_true rfl) rfl rfl hkb hnb dL_law_1414 (pc' := 1417) rfl (fun r_487 M_486 h m_488 => ?_)
        refine r_icmp_eq C dL_law_1417 (pc' := 1420) rfl (tgt := 1504) (by decide) (fun c_489 => ?_) (fun c_489 => ?_)
        · have h := it_t h c_489
          obtain ⟨x3_490, e_491, h⟩ := bn_ h
          refine r_iinc C (lv' := [(3, .int x3_490), (0, .ref a0), (1, .ref a1), (2, .ref a2)]) dL_law_1504 (pc' := 1507) rfl (j := 3) rfl x3_490 (by rw [e_491]; rfl) (Nat.le_of_ble_eq_true rfl) rfl ?_
          refine r_goto C dL_law_1507 (tgt := 18) (by decide) ?_
          refine r_sub (lv' := [(0, .ref a0), (1, .ref a1), (2, .ref a2), (3, .int x3_490)]) [1, 2, 3, 0] rfl ?_
          exact ih k n M_486 x3_490 hkb hnb (mMo.kd m_488 (mMo.kd m_484 k_a1 (by decide)) (by decide)) (mMo.kd m_488 (mMo.kd m_484 k_a2 (by decide)) (by decide)) h
        · have h := it_f h c_489
          refine r_iconst C dL_law_1420 (pc' := 1421) rfl (v := 0) rfl ?_
          exact r_lawret C hE h hkb hnb dL_law_1421
      have h := it_f h c_480
      by_cases c_492 : ((xs (ix_ x3)) &&& (63 : Int32)) = 29
      · have h := it_t h c_492
        refine r_tsIn C dL_law_33 (off := 1389) (tgt := 1422) (by rw [c_492]; decide) (by rw [c_492]; decide) (by rw [c_492]; decide) (by decide) ?_
        refine r_aload_n C dL_law_1422 (pc' := 1423) rfl (j := 1) rfl ?_
        refine r_callVi (As := []) (rest := []) (Cn := RX0) (T := TX0) C k_a1 (by decide) vc_X0 (S_X0_keep k_a1 h) (lw_V q1190 q1191 q1192 q105 q1193) rfl hd_X0_keep rfl rfl (Nat.le_of_ble_eq_true rfl) (Nat.le_of_ble_eq_true rfl) (Nat.le_of_ble_eq_true rfl) rfl rfl hkb hnb dL_law_1423 (pc' := 1426) rfl (fun r_494 M_493 h m_495 => ?_)
        refine r_aload_n C dL_law_1426 (pc' := 1427) rfl (j := 2) rfl ?_
        refine r_callVi (As := []) (rest := [.int r_494]) (Cn := RX7) (T := TX7) C (mMo.kd m_495 k_a2 (by decide)) (by decide) vc_X7 (S_X7_keep (mMo.kd m_495 k_a2 (by decide)) h) (lw_V q1776 q1777 q1778 q112 q1779) rfl hd_X7_keep rfl rfl (Nat.le_of_ble_eq_true rfl) (Nat.le_of_ble_eq_true rfl) (Nat.le_of_ble_eq_true rfl) rfl rfl hkb hnb dL_law_1427 (pc' := 1430) rfl (fun r_497 M_496 h m_498 => ?_)
        refine r_icmp_eq C dL_law_1430 (pc' := 1433) rfl (tgt := 1504) (by decide) (fun c_499 => ?_) (fun c_499 => ?_)
        · have h := it_t h c_499
          obtain ⟨x3_500, e_501, h⟩ := bn_ h
          refine r_iinc C (lv' := [(3, .int x3_500), (0, .ref a0), (1, .ref a1), (2, .ref a2)]) dL_law_1504 (pc' := 1507) rfl (j := 3) rfl x3_500 (by rw [e_501]; rfl) (Nat.le_of_ble_eq_true rfl) rfl ?_
          refine r_goto C dL_law_1507 (tgt := 18) (by decide) ?_
          refine r_sub (lv' := [(0, .ref a0), (1, .ref a1), (2, .ref a2), (3, .int x3_500)]) [1, 2, 3, 0] rfl ?_
          exact ih k n M_496 x3_500 hkb hnb (mMo.kd m_498 (mMo.kd m_495 k_a1 (by decide)) (by decide)) (mMo.kd m_498 (mMo.kd m_495 k_a2 (by decide)) (by decide)) h
        · have h := it_f h c_499
          refine r_iconst C dL_law_1433 (pc' := 1434) rfl (v := 0) rfl ?_
          exact r_lawret C hE h hkb hnb dL_law_1434
      have h := it_f h c_492
      by_cases c_502 : ((xs (ix_ x3)) &&& (63 : Int32)) = 30
      · have h := it_t h c_502
        refine r_tsIn C dL_law_33 (off := 1402) (tgt := 1435) (by rw [c_502]; decide) (by rw [c_502]; decide) (by rw [c_502]; decide) (by decide) ?_
        refine r_aload_n C dL_law_1435 (pc' := 1436) rfl (j := 1) rfl ?_
        refine r_callVi (As := []) (rest := []) (Cn := RX0) (T := TX0) C k_a1 (by decide) vc_X0 (S_X0_undo k_a1 h) (lw_V q1194 q1195 q1196 q105 q1197) rfl hd_X0_undo rfl rfl (Nat.le_of_ble_eq_true rfl) (Nat.le_of_ble_eq_true rfl) (Nat.le_of_ble_eq_true rfl) rfl rfl hkb hnb dL_law_1436 (pc' := 1439) rfl (fun r_504 M_503 h m_505 => ?_)
        refine r_aload_n C dL_law_1439 (pc' := 1440) rfl (j := 2) rfl ?_
        refine r_callVi (As := []) (rest := [.int r_504]) (Cn := RX7) (T := TX7) C (mMo.kd m_505 k_a2 (by decide)) (by decide) vc_X7 (S_X7_undo (mMo.kd m_505 k_a2 (by decide)) h) (lw_V q1780 q1781 q1782 q112 q1783) rfl hd_X7_undo rfl rfl (Nat.le_of_ble_eq_true rfl) (Nat.le_of_ble_eq_true rfl) (Nat.le_of_ble_eq_true rfl) rfl rfl hkb hnb dL_law_1440 (pc' := 1443) rfl (fun r_507 M_506 h m_508 => ?_)
        refine r_icmp_eq C dL_law_1443 (pc' := 1446) rfl (tgt := 1504) (by decide) (fun c_509 => ?_) (fun c_509 => ?_)
        · have h := it_t h c_509
          obtain ⟨x3_510, e_511, h⟩ := bn_ h
          refine r_iinc C (lv' := [(3, .int x3_510), (0, .ref a0), (1, .ref a1), (2, .ref a2)]) dL_law_1504 (pc' := 1507) rfl (j := 3) rfl x3_510 (by rw [e_511]; rfl) (Nat.le_of_ble_eq_true rfl) rfl ?_
          refine r_goto C dL_law_1507 (tgt := 18) (by decide) ?_
          refine r_sub (lv' := [(0, .ref a0), (1, .ref a1), (2, .ref a2), (3, .int x3_510)]) [1, 2, 3, 0] rfl ?_
          exact ih k n M_506 x3_510 hkb hnb (mMo.kd m_508 (mMo.kd m_505 k_a1 (by decide)) (by decide)) (mMo.kd m_508 (mMo.kd m_505 k_a2 (by decide)) (by decide)) h
        · have h := it_f h c_509
          refine r_iconst C dL_law_1446 (pc' := 1447) rfl (v := 0) rfl ?_
          exact r_lawret C hE h hkb hnb dL_law_1447
      have h := it_f h c_502
      by_cases c_512 : ((xs (ix_ x3)) &&& (63 : Int32)) = 31
      · have h := it_t h c_512
        refine r_tsIn C dL_law_33 (off := 1415) (tgt := 1448) (by rw [c_512]; decide) (by rw [c_512]; decide) (by rw [c_512]; decide) (by decide) ?_
        refine r_aload_n C dL_law_1448 (pc' := 1449) rfl (j := 1) rfl ?_
        refine r_aload_n C dL_law_1449 (pc' := 1450) rfl (j := 0) rfl ?_
        refine r_iload_n C dL_law_1450 (pc' := 1451) rfl (j := 3) rfl ?_
        refine r_iconst C dL_law_1451 (pc' := 1452) rfl (v := 1) rfl ?_
        refine r_iadd C dL_law_1452 (pc' := 1453) rfl ?_
        obtain ⟨c_513, h⟩ := h
        refine r_sld C hE c_513 dL_law_1453 (pc' := 1454) rfl ?_
        refine r_aload_n C dL_law_1454 (pc' := 1455) rfl (j := 0) rfl ?_
        refine r_iload_n C dL_law_1455 (pc' := 1456) rfl (j := 3) rfl ?_
        refine r_iconst C dL_law_1456 (pc' := 1457) rfl (v := 2) rfl ?_
        refine r_iadd C dL_law_1457 (pc' := 1458) rfl ?_
        obtain ⟨c_514, h⟩ := h
        refine r_sld C hE c_514 dL_law_1458 (pc' := 1459) rfl ?_
        refine r_callVi (As := [.int (xs (ix_ (x3 + (1 : Int32)))), .int (xs (ix_ (x3 + (2 : Int32))))]) (rest := []) (Cn := RX0) (T := TX0) C k_a1 (by decide) vc_X0 (S_X0_check k_a1 h) (lw_V q1198 q1199 q1200 q105 q1201) rfl hd_X0_check rfl rfl (Nat.le_of_ble_eq_true rfl) (Nat.le_of_ble_eq_true rfl) (Nat.le_of_ble_eq_true rfl) rfl rfl hkb hnb dL_law_1459 (pc' := 1462) rfl (fun r_516 M_515 h m_517 => ?_)
        refine r_aload_n C dL_law_1462 (pc' := 1463) rfl (j := 2) rfl ?_
        refine r_aload_n C dL_law_1463 (pc' := 1464) rfl (j := 0) rfl ?_
        refine r_iload_n C dL_law_1464 (pc' := 1465) rfl (j := 3) rfl ?_
        refine r_iconst C dL_law_1465 (pc' := 1466) rfl (v := 1) rfl ?_
        refine r_iadd C dL_law_1466 (pc' := 1467) rfl ?_
        obtain ⟨c_518, h⟩ := h
        refine r_sld C hE c_518 dL_law_1467 (pc' := 1468) rfl ?_
        refine r_aload_n C dL_law_1468 (pc' := 1469) rfl (j := 0) rfl ?_
        refine r_iload_n C dL_law_1469 (pc' := 1470) rfl (j := 3) rfl ?_
        refine r_iconst C dL_law_1470 (pc' := 1471) rfl (v := 2) rfl ?_
        refine r_iadd C dL_law_1471 (pc' := 1472) rfl ?_
        obtain ⟨c_519, h⟩ := h
        refine r_sld C hE c_519 dL_law_1472 (pc' := 1473) rfl ?_
        refine r_callVi (As := [.int (xs (ix_ (x3 + (1 : Int32)))), .int (xs (ix_ (x3 + (2 : Int32))))]) (rest := [.int r_516]) (Cn := RX7) (T := TX7) C (mMo.kd m_517 k_a2 (by decide)) (by decide) vc_X7 (S_X7_check (mMo.kd m_517 k_a2 (by decide)) h) (lw_V q1784 q1785 q1786 q112 q1787) rfl hd_X7_check rfl rfl (Nat.le_of_ble_eq_true rfl) (Nat.le_of_ble_eq_true rfl) (Nat.le_of_ble_eq_true rfl) rfl rfl hkb hnb dL_law_1473 (pc' := 1476) rfl (fun r_521 M_520 h m_522 => ?_)
        refine r_icmp_eq C dL_law_1476 (pc' := 1479) rfl (tgt := 1504) (by decide) (fun c_523 => ?_) (fun c_523 => ?_)
        · have h := it_t h c_523
          obtain ⟨x3_524, e_525, h⟩ := bn_ h
          refine r_iinc C (lv' := [(3, .int x3_524), (0, .ref a0), (1, .ref a1), (2, .ref a2)]) dL_law_1504 (pc' := 1507) rfl (j := 3) rfl x3_524 (by rw [e_525]; rfl) (Nat.le_of_ble_eq_true rfl) rfl ?_
          refine r_goto C dL_law_1507 (tgt := 18) (by decide) ?_
          refine r_sub (lv' := [(0, .ref a0), (1, .ref a1), (2, .ref a2), (3, .int x3_524)]) [1, 2, 3, 0] rfl ?_
          exact ih k n M_520 x3_524 hkb hnb (mMo.kd m_522 (mMo.kd m_517 k_a1 (by decide)) (by decide)) (mMo.kd m_522 (mMo.kd m_517 k_a2 (by decide)) (by decide)) h
        · have h := it_f h c_523
          refine r_iconst C dL_law_1479 (pc' := 1480) rfl (v := 0) rfl ?_
          exact r_lawret C hE h hkb hnb dL_law_1480
      have h := it_f h c_512
      by_cases c_526 : ((xs (ix_ x3)) &&& (63 : Int32)) = 32
      · have h := it_t h c_526
        refine r_tsIn C dL_law_33 (off := 1448) (tgt := 1481) (by rw [c_526]; decide) (by rw [c_526]; decide) (by rw [c_526]; decide) (by decide) ?_
        refine r_aload_n C dL_law_1481 (pc' := 1482) rfl (j := 1) rfl ?_
        refine r_aload_n C dL_law_1482 (pc' := 1483) rfl (j := 0) rfl ?_
        refine r_iload_n C dL_law_1483 (pc' := 1484) rfl (j := 3) rfl ?_
        refine r_iconst C dL_law_1484 (pc' := 1485) rfl (v := 1) rfl ?_
        refine r_iadd C dL_law_1485 (pc' := 1486) rfl ?_
        obtain ⟨c_527, h⟩ := h
        refine r_sld C hE c_527 dL_law_1486 (pc' := 1487) rfl ?_
        refine r_callVi (As := [.int (xs (ix_ (x3 + (1 : Int32))))]) (rest := []) (Cn := RX0) (T := TX0) C k_a1 (by decide) vc_X0 (S_X0_count k_a1 h) (lw_V q1206 q1207 q1208 q105 q1209) rfl hd_X0_count rfl rfl (Nat.le_of_ble_eq_true rfl) (Nat.le_of_ble_eq_true rfl) (Nat.le_of_ble_eq_true rfl) rfl rfl hkb hnb dL_law_1487 (pc' := 1490) rfl (fun r_529 M_528 h m_530 => ?_)
        refine r_aload_n C dL_law_1490 (pc' := 1491) rfl (j := 2) rfl ?_
        refine r_aload_n C dL_law_1491 (pc' := 1492) rfl (j := 0) rfl ?_
        refine r_iload_n C dL_law_1492 (pc' := 1493) rfl (j := 3) rfl ?_
        refine r_iconst C dL_law_1493 (pc' := 1494) rfl (v := 1) rfl ?_
        refine r_iadd C dL_law_1494 (pc' := 1495) rfl ?_
        obtain ⟨c_531, h⟩ := h
        refine r_sld C hE c_531 dL_law_1495 (pc' := 1496) rfl ?_
        refine r_callVi (As := [.int (xs (ix_ (x3 + (1 : Int32))))]) (rest := [.int r_529]) (Cn := RX7) (T := TX7) C (mMo.kd m_530 k_a2 (by decide)) (by decide) vc_X7 (S_X7_count (mMo.kd m_530 k_a2 (by decide)) h) (lw_V q1792 q1793 q1794 q112 q1795) rfl hd_X7_count rfl rfl (Nat.le_of_ble_eq_true rfl) (Nat.le_of_ble_eq_true rfl) (Nat.le_of_ble_eq_true rfl) rfl rfl hkb hnb dL_law_1496 (pc' := 1499) rfl (fun r_533 M_532 h m_534 => ?_)
        refine r_icmp_eq C dL_law_1499 (pc' := 1502) rfl (tgt := 1504) (by decide) (fun c_535 => ?_) (fun c_535 => ?_)
        · have h := it_t h c_535
          obtain ⟨x3_536, e_537, h⟩ := bn_ h
          refine r_iinc C (lv' := [(3, .int x3_536), (0, .ref a0), (1, .ref a1), (2, .ref a2)]) dL_law_1504 (pc' := 1507) rfl (j := 3) rfl x3_536 (by rw [e_537]; rfl) (Nat.le_of_ble_eq_true rfl) rfl ?_
          refine r_goto C dL_law_1507 (tgt := 18) (by decide) ?_
          refine r_sub (lv' := [(0, .ref a0), (1, .ref a1), (2, .ref a2), (3, .int x3_536)]) [1, 2, 3, 0] rfl ?_
          exact ih k n M_532 x3_536 hkb hnb (mMo.kd m_534 (mMo.kd m_530 k_a1 (by decide)) (by decide)) (mMo.kd m_534 (mMo.kd m_530 k_a2 (by decide)) (by decide)) h
        · have h := it_f h c_535
          refine r_iconst C dL_law_1502 (pc' := 1503) rfl (v := 0) rfl ?_
          exact r_lawret C hE h hkb hnb dL_law_1503
      have h := it_f h c_526
      have c_25 := lv_neT c_25 (show ((0 : Int32)).toInt = 0 from by decide)
      have c_43 := lv_neT c_43 (show ((1 : Int32)).toInt = 1 from by decide)
      have c_59 := lv_neT c_59 (show ((2 : Int32)).toInt = 2 from by decide)
      have c_75 := lv_neT c_75 (show ((3 : Int32)).toInt = 3 from by decide)
      have c_89 := lv_neT c_89 (show ((4 : Int32)).toInt = 4 from by decide)
      have c_109 := lv_neT c_109 (show ((5 : Int32)).toInt = 5 from by decide)
      have c_124 := lv_neT c_124 (show ((6 : Int32)).toInt = 6 from by decide)
      have c_141 := lv_neT c_141 (show ((7 : Int32)).toInt = 7 from by decide)
      have c_153 := lv_neT c_153 (show ((8 : Int32)).toInt = 8 from by decide)
      have c_167 := lv_neT c_167 (show ((9 : Int32)).toInt = 9 from by decide)
      have c_181 := lv_neT c_181 (show ((10 : Int32)).toInt = 10 from by decide)
      have c_195 := lv_neT c_195 (show ((11 : Int32)).toInt = 11 from by decide)
      have c_213 := lv_neT c_213 (show ((12 : Int32)).toInt = 12 from by decide)
      have c_231 := lv_neT c_231 (show ((13 : Int32)).toInt = 13 from by decide)
      have c_249 := lv_neT c_249 (show ((14 : Int32)).toInt = 14 from by decide)
      have c_267 := lv_neT c_267 (show ((15 : Int32)).toInt = 15 from by decide)
      have c_285 := lv_neT c_285 (show ((16 : Int32)).toInt = 16 from by decide)
      have c_305 := lv_neT c_305 (show ((17 : Int32)).toInt = 17 from by decide)
      have c_319 := lv_neT c_319 (show ((18 : Int32)).toInt = 18 from by decide)
      have c_333 := lv_neT c_333 (show ((19 : Int32)).toInt = 19 from by decide)
      have c_349 := lv_neT c_349 (show ((20 : Int32)).toInt = 20 from by decide)
      have c_367 := lv_neT c_367 (show ((21 : Int32)).toInt = 21 from by decide)
      have c_381 := lv_neT c_381 (show ((22 : Int32)).toInt = 22 from by decide)
      have c_397 := lv_neT c_397 (show ((23 : Int32)).toInt = 23 from by decide)
      have c_411 := lv_neT c_411 (show ((24 : Int32)).toInt = 24 from by decide)
      have c_428 := lv_neT c_428 (show ((25 : Int32)).toInt = 25 from by decide)
      have c_442 := lv_neT c_442 (show ((26 : Int32)).toInt = 26 from by decide)
      have c_462 := lv_neT c_462 (show ((27 : Int32)).toInt = 27 from by decide)
      have c_480 := lv_neT c_480 (show ((28 : Int32)).toInt = 28 from by decide)
      have c_492 := lv_neT c_492 (show ((29 : Int32)).toInt = 29 from by decide)
      have c_502 := lv_neT c_502 (show ((30 : Int32)).toInt = 30 from by decide)
      have c_512 := lv_neT c_512 (show ((31 : Int32)).toInt = 31 from by decide)
      have c_526 := lv_neT c_526 (show ((32 : Int32)).toInt = 32 from by decide)
      refine r_tsOut C dL_law_33 (tgt := 1504) (by omega) (by decide) ?_
      obtain ⟨x3_538, e_539, h⟩ := bn_ h
      refine r_iinc C (lv' := [(3, .int x3_538), (0, .ref a0), (1, .ref a1), (2, .ref a2)]) dL_law_1504 (pc' := 1507) rfl (j := 3) rfl x3_538 (by rw [e_539]; rfl) (Nat.le_of_ble_eq_true rfl) rfl ?_
      refine r_goto C dL_law_1507 (tgt := 18) (by decide) ?_
      refine r_sub (lv' := [(0, .ref a0), (1, .ref a1), (2, .ref a2), (3, .int x3_538)]) [1, 2, 3, 0] rfl ?_
      exact ih k n M x3_538 hkb hnb k_a1 k_a2 h
set_option maxHeartbeats 4000000 in
theorem S_L_law {E : mE} {L : Nat} {xs : Nat → Int32} {M : MM} {a0 : Nat} {Post : Int32 → MM → Prop} (C : mC E yL_law cL_law 4 (some .boolean) room_1) (hE : mEndL E a0 L xs Post) (h : wp_L_law L xs E.2.1 1200000 5502250 M a0 Post) : mV E M 0 0 0 [(0, .ref a0)] [] := by
  unfold wp_L_law at h
  obtain ⟨b_3, e_4, h⟩ := bn_ h
  obtain ⟨M_5, e_6, h⟩ := bn_ h
  obtain ⟨c_7, h⟩ := h
  refine r_new C (Cn := RX0) (T := TX0) tyX0 (by decide) vc_X0 in_X0 tyX0_ok df_X0 q130 q131 q105 c_7.1 c_7.2 dL_law_0 (pc' := 3) rfl b_3 e_4 M_5 e_6 (fun m_1 k_2 => ?_)
  refine r_dup C dL_law_3 (pc' := 4) rfl rfl ?_
  obtain ⟨c_8, h⟩ := h
  refine r_callIv (As := []) (rest := [.ref b_3]) C (S_X0_init k_2 h) q134 q105 q132 q133 rfl rfl hd_X0_init rfl rfl (Nat.le_of_ble_eq_true rfl) (Nat.le_of_ble_eq_true rfl) (Nat.le_of_ble_eq_true rfl) rfl rfl c_8.1 c_8.2 dL_law_4 (pc' := 7) rfl (fun M_9 h m_11 => ?_)
  refine r_astore_n C (lv' := [(1, .ref b_3), (0, .ref a0)]) dL_law_7 (pc' := 8) rfl rfl b_3 rfl (Nat.le_of_ble_eq_true rfl) rfl ?_
  obtain ⟨b_14, e_15, h⟩ := bn_ h
  obtain ⟨M_16, e_17, h⟩ := bn_ h
  obtain ⟨c_18, h⟩ := h
  refine r_new C (Cn := RX7) (T := TX7) tyX7 (by decide) vc_X7 in_X7 tyX7_ok df_X7 q1218 q1219 q112 c_18.1 c_18.2 dL_law_8 (pc' := 11) rfl b_14 e_15 M_16 e_17 (fun m_12 k_13 => ?_)
  refine r_dup C dL_law_11 (pc' := 12) rfl rfl ?_
  obtain ⟨c_19, h⟩ := h
  refine r_callIv (As := []) (rest := [.ref b_14]) C (S_X7_init k_13 h) q1222 q112 q1220 q1221 rfl rfl hd_X7_init rfl rfl (Nat.le_of_ble_eq_true rfl) (Nat.le_of_ble_eq_true rfl) (Nat.le_of_ble_eq_true rfl) rfl rfl c_19.1 c_19.2 dL_law_12 (pc' := 15) rfl (fun M_20 h m_22 => ?_)
  refine r_astore_n C (lv' := [(2, .ref b_14), (1, .ref b_3), (0, .ref a0)]) dL_law_15 (pc' := 16) rfl rfl b_14 rfl (Nat.le_of_ble_eq_true rfl) rfl ?_
  refine r_iconst C dL_law_16 (pc' := 17) rfl (v := 0) rfl ?_
  refine r_istore_n C (lv' := [(3, .int (0 : Int32)), (2, .ref b_14), (1, .ref b_3), (0, .ref a0)]) dL_law_17 (pc' := 18) rfl rfl (0 : Int32) rfl (Nat.le_of_ble_eq_true rfl) rfl ?_
  obtain ⟨n_540, h⟩ := h
  refine r_sub (lv' := [(0, .ref a0), (1, .ref b_3), (2, .ref b_14), (3, .int (0 : Int32))]) [3, 2, 1, 0] rfl ?_
  refine B_L_law_18 C hE n_540 ((((0 + 1) + 281) + 1) + 32) ((((0 + 33) + 2807) + 54) + 3868) M_20 (0 : Int32) c_19.1 c_19.2 (mMo.kd m_22 (mMo.kd m_12 (mMo.kd m_11 k_2 (by decide)) (by decide)) (by decide)) (mMo.kd m_22 k_13 (by decide)) h
