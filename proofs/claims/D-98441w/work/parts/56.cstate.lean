/-! the component: its state, the small calls -/
set_option maxRecDepth 100000
def CL (o : Nat) (M : MM) : Prop :=
  LA (o + 2) M ∧
  LA (o + 21) M ∧
  LA (o + 40) M ∧
  mgR M (o + 2) 7 = some o ∧
  mgR M (o + 21) 7 = some o ∧
  mgR M (o + 40) 7 = some o ∧
  mgR M o 1 = some (o + 2) ∧
  mgR M o 2 = some (o + 21) ∧
  mgR M o 3 = some (o + 40) ∧
  mgR M o 4 = some (o + 59) ∧
  mkd M (o + 59) = 102 ∧
  mln M (o + 59) = 220 ∧
  mgR M o 9 = some (o + 65) ∧
  mkd M (o + 65) = 109 ∧
  mln M (o + 65) = 25 ∧
  (∀ i, i < 25 → mgR M (o + 65) i = some (o + 66 + i) ∧ mkd M (o + 66 + i) = 101 ∧ mln M (o + 66 + i) = 20) ∧
  mgR M o 10 = some (o + 91) ∧
  mkd M (o + 91) = 109 ∧
  mln M (o + 91) = 25 ∧
  (∀ i, i < 25 → mgR M (o + 91) i = some (o + 92 + i) ∧ mkd M (o + 92 + i) = 101 ∧ mln M (o + 92 + i) = 20) ∧
  mgR M o 11 = some (o + 117) ∧
  mkd M (o + 117) = 100 ∧
  mln M (o + 117) = 3 ∧
  mgR M o 12 = some (o + 118) ∧
  mkd M (o + 118) = 100 ∧
  mln M (o + 118) = 3 ∧
  mgR M o 23 = some (o + 119) ∧
  mkd M (o + 119) = 100 ∧
  mln M (o + 119) = 7 ∧
  mgR M o 24 = some (o + 120) ∧
  mkd M (o + 120) = 100 ∧
  mln M (o + 120) = 7 ∧
  mgR M o 27 = some (o + 121) ∧
  mkd M (o + 121) = 108 ∧
  mln M (o + 121) = 8 ∧
  (∀ k, k < 8 → mgR M (o + 121) k = some (o + 122 + 19 * k) ∧ LA (o + 122 + 19 * k) M ∧ mgR M (o + 122 + 19 * k) 7 = some o) ∧
  mgR M o 28 = some (o + 274) ∧
  mkd M (o + 274) = 110 ∧
  mln M (o + 274) = 4 ∧
  (∀ l, l < 4 → mgR M (o + 274) l = some (o + 275 + l) ∧ mkd M (o + 275 + l) = 100 ∧ mln M (o + 275 + l) = 25) ∧
  mgR M o 29 = some (o + 279) ∧
  mkd M (o + 279) = 100 ∧
  mln M (o + 279) = 4 ∧
  mgR M o 30 = some (o + 280) ∧
  mkd M (o + 280) = 100 ∧
  mln M (o + 280) = 4 ∧
  mgR M o 32 = some (o + 281) ∧
  mkd M (o + 281) = 101 ∧
  mln M (o + 281) = 13
theorem CL_A2 {o : Nat} {M : MM} (h : CL o M) : LA (o + 2) M := h.1
theorem CL_A21 {o : Nat} {M : MM} (h : CL o M) : LA (o + 21) M := h.2.1
theorem CL_A40 {o : Nat} {M : MM} (h : CL o M) : LA (o + 40) M := h.2.2.1
theorem CL_t2 {o : Nat} {M : MM} (h : CL o M) : mgR M (o + 2) 7 = some o := h.2.2.2.1
theorem CL_t21 {o : Nat} {M : MM} (h : CL o M) : mgR M (o + 21) 7 = some o := h.2.2.2.2.1
theorem CL_t40 {o : Nat} {M : MM} (h : CL o M) : mgR M (o + 40) 7 = some o := h.2.2.2.2.2.1
theorem CL_r1 {o : Nat} {M : MM} (h : CL o M) : mgR M o 1 = some (o + 2) := h.2.2.2.2.2.2.1
theorem CL_r2 {o : Nat} {M : MM} (h : CL o M) : mgR M o 2 = some (o + 21) := h.2.2.2.2.2.2.2.1
theorem CL_r3 {o : Nat} {M : MM} (h : CL o M) : mgR M o 3 = some (o + 40) := h.2.2.2.2.2.2.2.2.1
theorem CL_r4 {o : Nat} {M : MM} (h : CL o M) : mgR M o 4 = some (o + 59) := h.2.2.2.2.2.2.2.2.2.1
theorem CL_k59 {o : Nat} {M : MM} (h : CL o M) : mkd M (o + 59) = 102 := h.2.2.2.2.2.2.2.2.2.2.1
theorem CL_l59 {o : Nat} {M : MM} (h : CL o M) : mln M (o + 59) = 220 := h.2.2.2.2.2.2.2.2.2.2.2.1
theorem CL_r9 {o : Nat} {M : MM} (h : CL o M) : mgR M o 9 = some (o + 65) := h.2.2.2.2.2.2.2.2.2.2.2.2.1
theorem CL_k65 {o : Nat} {M : MM} (h : CL o M) : mkd M (o + 65) = 109 := h.2.2.2.2.2.2.2.2.2.2.2.2.2.1
theorem CL_l65 {o : Nat} {M : MM} (h : CL o M) : mln M (o + 65) = 25 := h.2.2.2.2.2.2.2.2.2.2.2.2.2.2.1
theorem CL_W {o : Nat} {M : MM} (h : CL o M) : (∀ i, i < 25 → mgR M (o + 65) i = some (o + 66 + i) ∧ mkd M (o + 66 + i) = 101 ∧ mln M (o + 66 + i) = 20) := h.2.2.2.2.2.2.2.2.2.2.2.2.2.2.2.1
theorem CL_r10 {o : Nat} {M : MM} (h : CL o M) : mgR M o 10 = some (o + 91) := h.2.2.2.2.2.2.2.2.2.2.2.2.2.2.2.2.1
theorem CL_k91 {o : Nat} {M : MM} (h : CL o M) : mkd M (o + 91) = 109 := h.2.2.2.2.2.2.2.2.2.2.2.2.2.2.2.2.2.1
theorem CL_l91 {o : Nat} {M : MM} (h : CL o M) : mln M (o + 91) = 25 := h.2.2.2.2.2.2.2.2.2.2.2.2.2.2.2.2.2.2.1
theorem CL_V {o : Nat} {M : MM} (h : CL o M) : (∀ i, i < 25 → mgR M (o + 91) i = some (o + 92 + i) ∧ mkd M (o + 92 + i) = 101 ∧ mln M (o + 92 + i) = 20) := h.2.2.2.2.2.2.2.2.2.2.2.2.2.2.2.2.2.2.2.1
theorem CL_r11 {o : Nat} {M : MM} (h : CL o M) : mgR M o 11 = some (o + 117) := h.2.2.2.2.2.2.2.2.2.2.2.2.2.2.2.2.2.2.2.2.1
theorem CL_k117 {o : Nat} {M : MM} (h : CL o M) : mkd M (o + 117) = 100 := h.2.2.2.2.2.2.2.2.2.2.2.2.2.2.2.2.2.2.2.2.2.1
theorem CL_l117 {o : Nat} {M : MM} (h : CL o M) : mln M (o + 117) = 3 := h.2.2.2.2.2.2.2.2.2.2.2.2.2.2.2.2.2.2.2.2.2.2.1
theorem CL_r12 {o : Nat} {M : MM} (h : CL o M) : mgR M o 12 = some (o + 118) := h.2.2.2.2.2.2.2.2.2.2.2.2.2.2.2.2.2.2.2.2.2.2.2.1
theorem CL_k118 {o : Nat} {M : MM} (h : CL o M) : mkd M (o + 118) = 100 := h.2.2.2.2.2.2.2.2.2.2.2.2.2.2.2.2.2.2.2.2.2.2.2.2.1
theorem CL_l118 {o : Nat} {M : MM} (h : CL o M) : mln M (o + 118) = 3 := h.2.2.2.2.2.2.2.2.2.2.2.2.2.2.2.2.2.2.2.2.2.2.2.2.2.1
theorem CL_r23 {o : Nat} {M : MM} (h : CL o M) : mgR M o 23 = some (o + 119) := h.2.2.2.2.2.2.2.2.2.2.2.2.2.2.2.2.2.2.2.2.2.2.2.2.2.2.1
theorem CL_k119 {o : Nat} {M : MM} (h : CL o M) : mkd M (o + 119) = 100 := h.2.2.2.2.2.2.2.2.2.2.2.2.2.2.2.2.2.2.2.2.2.2.2.2.2.2.2.1
theorem CL_l119 {o : Nat} {M : MM} (h : CL o M) : mln M (o + 119) = 7 := h.2.2.2.2.2.2.2.2.2.2.2.2.2.2.2.2.2.2.2.2.2.2.2.2.2.2.2.2.1
theorem CL_r24 {o : Nat} {M : MM} (h : CL o M) : mgR M o 24 = some (o + 120) := h.2.2.2.2.2.2.2.2.2.2.2.2.2.2.2.2.2.2.2.2.2.2.2.2.2.2.2.2.2.1
theorem CL_k120 {o : Nat} {M : MM} (h : CL o M) : mkd M (o + 120) = 100 := h.2.2.2.2.2.2.2.2.2.2.2.2.2.2.2.2.2.2.2.2.2.2.2.2.2.2.2.2.2.2.1
theorem CL_l120 {o : Nat} {M : MM} (h : CL o M) : mln M (o + 120) = 7 := h.2.2.2.2.2.2.2.2.2.2.2.2.2.2.2.2.2.2.2.2.2.2.2.2.2.2.2.2.2.2.2.1
theorem CL_r27 {o : Nat} {M : MM} (h : CL o M) : mgR M o 27 = some (o + 121) := h.2.2.2.2.2.2.2.2.2.2.2.2.2.2.2.2.2.2.2.2.2.2.2.2.2.2.2.2.2.2.2.2.1
theorem CL_k121 {o : Nat} {M : MM} (h : CL o M) : mkd M (o + 121) = 108 := h.2.2.2.2.2.2.2.2.2.2.2.2.2.2.2.2.2.2.2.2.2.2.2.2.2.2.2.2.2.2.2.2.2.1
theorem CL_l121 {o : Nat} {M : MM} (h : CL o M) : mln M (o + 121) = 8 := h.2.2.2.2.2.2.2.2.2.2.2.2.2.2.2.2.2.2.2.2.2.2.2.2.2.2.2.2.2.2.2.2.2.2.1
theorem CL_D {o : Nat} {M : MM} (h : CL o M) : (∀ k, k < 8 → mgR M (o + 121) k = some (o + 122 + 19 * k) ∧ LA (o + 122 + 19 * k) M ∧ mgR M (o + 122 + 19 * k) 7 = some o) := h.2.2.2.2.2.2.2.2.2.2.2.2.2.2.2.2.2.2.2.2.2.2.2.2.2.2.2.2.2.2.2.2.2.2.2.1
theorem CL_r28 {o : Nat} {M : MM} (h : CL o M) : mgR M o 28 = some (o + 274) := h.2.2.2.2.2.2.2.2.2.2.2.2.2.2.2.2.2.2.2.2.2.2.2.2.2.2.2.2.2.2.2.2.2.2.2.2.1
theorem CL_k274 {o : Nat} {M : MM} (h : CL o M) : mkd M (o + 274) = 110 := h.2.2.2.2.2.2.2.2.2.2.2.2.2.2.2.2.2.2.2.2.2.2.2.2.2.2.2.2.2.2.2.2.2.2.2.2.2.1
theorem CL_l274 {o : Nat} {M : MM} (h : CL o M) : mln M (o + 274) = 4 := h.2.2.2.2.2.2.2.2.2.2.2.2.2.2.2.2.2.2.2.2.2.2.2.2.2.2.2.2.2.2.2.2.2.2.2.2.2.2.1
theorem CL_G {o : Nat} {M : MM} (h : CL o M) : (∀ l, l < 4 → mgR M (o + 274) l = some (o + 275 + l) ∧ mkd M (o + 275 + l) = 100 ∧ mln M (o + 275 + l) = 25) := h.2.2.2.2.2.2.2.2.2.2.2.2.2.2.2.2.2.2.2.2.2.2.2.2.2.2.2.2.2.2.2.2.2.2.2.2.2.2.2.1
theorem CL_r29 {o : Nat} {M : MM} (h : CL o M) : mgR M o 29 = some (o + 279) := h.2.2.2.2.2.2.2.2.2.2.2.2.2.2.2.2.2.2.2.2.2.2.2.2.2.2.2.2.2.2.2.2.2.2.2.2.2.2.2.2.1
theorem CL_k279 {o : Nat} {M : MM} (h : CL o M) : mkd M (o + 279) = 100 := h.2.2.2.2.2.2.2.2.2.2.2.2.2.2.2.2.2.2.2.2.2.2.2.2.2.2.2.2.2.2.2.2.2.2.2.2.2.2.2.2.2.1
theorem CL_l279 {o : Nat} {M : MM} (h : CL o M) : mln M (o + 279) = 4 := h.2.2.2.2.2.2.2.2.2.2.2.2.2.2.2.2.2.2.2.2.2.2.2.2.2.2.2.2.2.2.2.2.2.2.2.2.2.2.2.2.2.2.1
theorem CL_r30 {o : Nat} {M : MM} (h : CL o M) : mgR M o 30 = some (o + 280) := h.2.2.2.2.2.2.2.2.2.2.2.2.2.2.2.2.2.2.2.2.2.2.2.2.2.2.2.2.2.2.2.2.2.2.2.2.2.2.2.2.2.2.2.1
theorem CL_k280 {o : Nat} {M : MM} (h : CL o M) : mkd M (o + 280) = 100 := h.2.2.2.2.2.2.2.2.2.2.2.2.2.2.2.2.2.2.2.2.2.2.2.2.2.2.2.2.2.2.2.2.2.2.2.2.2.2.2.2.2.2.2.2.1
theorem CL_l280 {o : Nat} {M : MM} (h : CL o M) : mln M (o + 280) = 4 := h.2.2.2.2.2.2.2.2.2.2.2.2.2.2.2.2.2.2.2.2.2.2.2.2.2.2.2.2.2.2.2.2.2.2.2.2.2.2.2.2.2.2.2.2.2.1
theorem CL_r32 {o : Nat} {M : MM} (h : CL o M) : mgR M o 32 = some (o + 281) := h.2.2.2.2.2.2.2.2.2.2.2.2.2.2.2.2.2.2.2.2.2.2.2.2.2.2.2.2.2.2.2.2.2.2.2.2.2.2.2.2.2.2.2.2.2.2.1
theorem CL_k281 {o : Nat} {M : MM} (h : CL o M) : mkd M (o + 281) = 101 := h.2.2.2.2.2.2.2.2.2.2.2.2.2.2.2.2.2.2.2.2.2.2.2.2.2.2.2.2.2.2.2.2.2.2.2.2.2.2.2.2.2.2.2.2.2.2.2.1
theorem CL_l281 {o : Nat} {M : MM} (h : CL o M) : mln M (o + 281) = 13 := h.2.2.2.2.2.2.2.2.2.2.2.2.2.2.2.2.2.2.2.2.2.2.2.2.2.2.2.2.2.2.2.2.2.2.2.2.2.2.2.2.2.2.2.2.2.2.2.2
theorem CL_of {o : Nat} {M M' : MM} (e : M'.2.2 = M.2.2) (h : CL o M) : CL o M' := by
  have eR : ∀ a k, mgR M' a k = mgR M a k := fun a k => by unfold mgR; rw [e]
  have eK : ∀ a, mkd M' a = mkd M a := fun a => by unfold mkd; rw [e]
  have eN : ∀ a, mln M' a = mln M a := fun a => by unfold mln; rw [e]
  exact ⟨LA_of e (CL_A2 h), LA_of e (CL_A21 h), LA_of e (CL_A40 h), (eR _ _).trans (CL_t2 h), (eR _ _).trans (CL_t21 h), (eR _ _).trans (CL_t40 h), (eR _ _).trans (CL_r1 h), (eR _ _).trans (CL_r2 h), (eR _ _).trans (CL_r3 h), (eR _ _).trans (CL_r4 h), (eK _).trans (CL_k59 h), (eN _).trans (CL_l59 h), (eR _ _).trans (CL_r9 h), (eK _).trans (CL_k65 h), (eN _).trans (CL_l65 h), fun k hk => ⟨(eR _ _).trans (CL_W h k hk).1, (eK _).trans (CL_W h k hk).2.1, (eN _).trans (CL_W h k hk).2.2⟩, (eR _ _).trans (CL_r10 h), (eK _).trans (CL_k91 h), (eN _).trans (CL_l91 h), fun k hk => ⟨(eR _ _).trans (CL_V h k hk).1, (eK _).trans (CL_V h k hk).2.1, (eN _).trans (CL_V h k hk).2.2⟩, (eR _ _).trans (CL_r11 h), (eK _).trans (CL_k117 h), (eN _).trans (CL_l117 h), (eR _ _).trans (CL_r12 h), (eK _).trans (CL_k118 h), (eN _).trans (CL_l118 h), (eR _ _).trans (CL_r23 h), (eK _).trans (CL_k119 h), (eN _).trans (CL_l119 h), (eR _ _).trans (CL_r24 h), (eK _).trans (CL_k120 h), (eN _).trans (CL_l120 h), (eR _ _).trans (CL_r27 h), (eK _).trans (CL_k121 h), (eN _).trans (CL_l121 h), fun k hk => ⟨(eR _ _).trans (CL_D h k hk).1, LA_of e (CL_D h k hk).2.1, (eR _ _).trans (CL_D h k hk).2.2⟩, (eR _ _).trans (CL_r28 h), (eK _).trans (CL_k274 h), (eN _).trans (CL_l274 h), fun k hk => ⟨(eR _ _).trans (CL_G h k hk).1, (eK _).trans (CL_G h k hk).2.1, (eN _).trans (CL_G h k hk).2.2⟩, (eR _ _).trans (CL_r29 h), (eK _).trans (CL_k279 h), (eN _).trans (CL_l279 h), (eR _ _).trans (CL_r30 h), (eK _).trans (CL_k280 h), (eN _).trans (CL_l280 h), (eR _ _).trans (CL_r32 h), (eK _).trans (CL_k281 h), (eN _).trans (CL_l281 h)⟩
/-- the component holds S -/
def CR (o : Nat) (M : MM) (S : St) : Prop := CL o M ∧ OU o M ∧ CT o M S.2.2.2.2.2 ∧ LdR M (o + 2) S.1 ∧ LdR M (o + 40) S.2.1 ∧ mgI M o 8 = S.2.2.1 ∧ (∀ k, mgI M (o + 59) k = S.2.2.2.1 k) ∧ mgI M o 7 = nI S.2.2.2.2.1 ∧ mgI M o 21 = 0
/-- what is no state, but for the landing -/
def cF (o : Nat) : Nat → Nat → Prop := fun x k => (x = o + 1 ∧ k ≠ 13) ∨ (o + 2 ≤ x ∧ x < o + 40) ∨ (x = o ∧ k ≠ 7 ∧ k ≠ 8 ∧ k ≠ 21) ∨ (o + 65 ≤ x ∧ x < o + 282)
def cG (o : Nat) (M M' : MM) : Prop := M'.2.2 = M.2.2 ∧ (∀ a k, ¬ cF o a k → mgI M' a k = mgI M a k) ∧ ∀ a k, (a < o ∨ o + 282 ≤ a) → mgL M' a k = mgL M a k
/-- a call of the component leaves all else -/
def kX (o : Nat) (M M' : MM) : Prop := M'.2.2 = M.2.2 ∧ ∀ a k, (a < o ∨ o + 282 ≤ a) → mgI M' a k = mgI M a k ∧ mgL M' a k = mgL M a k
theorem kX.rf {o : Nat} {M : MM} : kX o M M := ⟨rfl, fun _ _ _ => ⟨rfl, rfl⟩⟩
theorem kX.tr {o : Nat} {M M1 M2 : MM} (h : kX o M M1) (g : kX o M1 M2) : kX o M M2 := ⟨g.1.trans h.1, fun a k e => ⟨(g.2 a k e).1.trans (h.2 a k e).1, (g.2 a k e).2.trans (h.2 a k e).2⟩⟩
theorem kX.s {o : Nat} {M M1 : MM} {a k : Nat} {v : Int32} (h : kX o M M1) (hp : o ≤ a ∧ a < o + 282) : kX o M (msI M1 a k v) := ⟨h.1, fun b j hb => by
  rw [mgI_sI, if_neg (by omega)]; exact h.2 b j hb⟩
theorem cG.rf {o : Nat} {M : MM} : cG o M M := ⟨rfl, fun _ _ _ => rfl, fun _ _ _ => rfl⟩
theorem cG.tr {o : Nat} {M M1 M2 : MM} (h : cG o M M1) (g : cG o M1 M2) : cG o M M2 := ⟨g.1.trans h.1, fun a k e => (g.2.1 a k e).trans (h.2.1 a k e), fun a k e => (g.2.2 a k e).trans (h.2.2 a k e)⟩
theorem cG.x {o : Nat} {M M1 : MM} (h : cG o M M1) : kX o M M1 := ⟨h.1, fun a k e => ⟨h.2.1 a k (by unfold cF; omega), h.2.2 a k e⟩⟩
theorem cG.s {o : Nat} {M M1 : MM} {a k : Nat} {v : Int32} (h : cG o M M1) (hp : cF o a k) : cG o M (msI M1 a k v) := ⟨h.1, fun b j hb => by
  rw [mgI_sI, if_neg (fun e => hb (by rw [e.1, e.2]; exact hp))]; exact h.2.1 b j hb, h.2.2⟩
theorem fI.cg {o : Nat} {P : Nat → Nat → Prop} {M M1 : MM} (h : fI P M M1) (hp : ∀ a k, P a k → cF o a k) : cG o M M1 := ⟨h.e, fun a k e => h.2 a k (fun x => e (hp a k x)), fun a k _ => h.L a k⟩
theorem lM_cF {o a b k : Nat} (ha : a = o + 2 ∨ a = o + 21 ∨ (o + 65 ≤ a ∧ a + 19 ≤ o + 282)) (h : lM o a b k) : cF o b k := by unfold lM at h; unfold cF; omega
theorem CT.g {o : Nat} {M M' : MM} {T : Nat → Txt} (h : CT o M T) (e : M'.2.2 = M.2.2) (hp : ∀ a k, Prt o (msz M) a → mgI M' a k = mgI M a k) : CT o M' T := by
  have hz : msz M' = msz M := by unfold msz; rw [e]
  have eR : ∀ a k, mgR M' a k = mgR M a k := fun a k => by unfold mgR; rw [e]
  have eK : ∀ a, mkd M' a = mkd M a := fun a => by unfold mkd; rw [e]
  have eN : ∀ a, mln M' a = mln M a := fun a => by unfold mln; rw [e]
  have go : ∀ {b : Nat} {T : Txt}, TxP o M b T → TxP o M' b T := by
    intro b T ⟨lo, hi, h1, h2, h3⟩
    exact ⟨lo, hi, fun a x y => by rw [hz]; exact h1 a x y, h2, h3.ag (fun a x y => ⟨fun k => hp a k (h1 a x y), fun k => eR a k, eK a, eN a⟩)⟩
  obtain ⟨⟨b, h1, h2⟩, h3⟩ := h
  refine ⟨⟨b, (eR _ _).trans h1, go h2⟩, fun k hk => ?_⟩
  rcases h3 k hk with ⟨a1, a2⟩ | ⟨b, a1, a2, a3⟩
  · exact Or.inl ⟨(eR _ _).trans a1, a2⟩
  · exact Or.inr ⟨b, (eR _ _).trans a1, (eK _).trans a2, go a3⟩
theorem LdR.g {M M' : MM} {a : Nat} {s : Nat → Int32} (h : LdR M a s) (e : ∀ b k, a ≤ b → b < a + 19 → mgI M' b k = mgI M b k) : LdR M' a s := by
  obtain ⟨h1, h2, h3, h4⟩ := h
  exact ⟨fun l hl => (h1 l hl).e (fun k => e _ _ (by omega) (by omega)) (fun k => e _ _ (by omega) (by omega)), fun p hp' => (h2 p hp').e (fun k => e _ _ (by omega) (by omega)), (e _ _ (by omega) (by omega)).trans h3, (e _ _ (by omega) (by omega)).trans h4⟩
theorem CR.g {o : Nat} {M M' : MM} {S : St} {s' : Nat → Int32} (h : CR o M S) (hG : cG o M M') (hR : LdR M' (o + 2) s') : CR o M' (s', S.2) := by
  obtain ⟨h1, h2, h3, h4, h5, h6, h7, h8, h9⟩ := h
  obtain ⟨e, eI, _⟩ := hG
  exact ⟨CL_of e h1, OU_of e h2, h3.g e (fun a k hx => eI a k (by unfold Prt at hx; unfold cF; omega)), hR, h5.g (fun b k _ _ => eI _ _ (by unfold cF; omega)), (eI _ _ (by unfold cF; omega)).trans h6, fun k => (eI _ _ (by unfold cF; omega)).trans (h7 k), (eI _ _ (by unfold cF; omega)).trans h8, (eI _ _ (by unfold cF; omega)).trans h9⟩
theorem CR.lc {o : Nat} {M : MM} {S : St} (h : CR o M S) : LC o (o + 2) M S.2.2.2.2.2 S.1 := ⟨CL_A2 h.1, h.2.1, CL_t2 h.1, h.2.2.1, h.2.2.2.1⟩
theorem aOk2 {o : Nat} : aOk o (o + 2) := ⟨by omega, Or.inl (by omega)⟩
theorem aOk21 {o : Nat} : aOk o (o + 21) := ⟨by omega, Or.inl (by omega)⟩
theorem w0_within {M : MM} {v lo hi : Int32} {Post : Int32 → MM → Prop} : wp_X0_within M v lo hi Post = if inS v lo hi = true then Post 1 M else Post 0 M := w7_in
theorem w0_in {M : MM} {v n : Int32} {k : Nat} {Post : Int32 → MM → Prop} (hn : n = nI (k + 1)) (hk : k < 2147483647) : wp_X0_in M v n Post = if inS v 0 (nI k) = true then Post 1 M else Post 0 M := by
  have e : wp_X0_in M v n Post = wp_X0_within M v 0 (nI k) Post := by
    unfold wp_X0_in wp_X0_within
    have hiff : n ≤ v ↔ nI k < v := by
      rw [hn, Int32.le_iff_toInt_le, Int32.lt_iff_toInt_lt, nI_toInt (by omega), nI_toInt (by omega)]
      omega
    by_cases e1 : v < 0
    · rw [if_pos e1, if_pos e1]
    · rw [if_neg e1, if_neg e1]
      by_cases e2 : n ≤ v
      · rw [if_pos e2, if_pos (hiff.mp e2)]
      · rw [if_neg e2, if_neg (fun x => e2 (hiff.mpr x))]
  rw [e, w0_within]
theorem in_2 {M : MM} {v : Int32} {Post : Int32 → MM → Prop} : wp_X0_in M v (2 : Int32) Post = if inS v 0 1 = true then Post 1 M else Post 0 M := w0_in (n := 2) (k := 1) rfl (by omega)
theorem in_3 {M : MM} {v : Int32} {Post : Int32 → MM → Prop} : wp_X0_in M v (3 : Int32) Post = if inS v 0 2 = true then Post 1 M else Post 0 M := w0_in (n := 3) (k := 2) rfl (by omega)
theorem in_4 {M : MM} {v : Int32} {Post : Int32 → MM → Prop} : wp_X0_in M v (4 : Int32) Post = if inS v 0 3 = true then Post 1 M else Post 0 M := w0_in (n := 4) (k := 3) rfl (by omega)
theorem in_7 {M : MM} {v : Int32} {Post : Int32 → MM → Prop} : wp_X0_in M v (7 : Int32) Post = if inS v 0 6 = true then Post 1 M else Post 0 M := w0_in (n := 7) (k := 6) rfl (by omega)
theorem in_8 {M : MM} {v : Int32} {Post : Int32 → MM → Prop} : wp_X0_in M v (8 : Int32) Post = if inS v 0 7 = true then Post 1 M else Post 0 M := w0_in (n := 8) (k := 7) rfl (by omega)
theorem in_256 {M : MM} {v : Int32} {Post : Int32 → MM → Prop} : wp_X0_in M v (256 : Int32) Post = if inS v 0 255 = true then Post 1 M else Post 0 M := w0_in (n := 256) (k := 255) rfl (by omega)
theorem in_65536 {M : MM} {v : Int32} {Post : Int32 → MM → Prop} : wp_X0_in M v (65536 : Int32) Post = if inS v 0 65535 = true then Post 1 M else Post 0 M := w0_in (n := 65536) (k := 65535) rfl (by omega)
theorem w0_isPlant {o : Nat} {M : MM} {s : Nat → Int32} {x : Int32} {Post : Int32 → MM → Prop} (hC : CL o M) (hR : LdR M (o + 2) s) : wp_X0_isPlant M o x Post = if isPl s x = true then Post 1 M else Post 0 M := by
  have hA := CL_A2 hC
  unfold wp_X0_isPlant
  rw [in_4]
  by_cases e : inS x 0 3 = true
  · rw [if_pos e, if_neg n10]
    obtain ⟨l, hl, rfl⟩ := inS_n (n := 3) (by omega) e
    have hl4 : l < 4 := by omega
    simp (disch := first | assumption | omega) only [CL_t2, CL_t21, CL_t40, CL_r1, CL_r2, CL_r3, CL_r4, CL_k59, CL_l59, CL_r9, CL_k65, CL_l65, CL_r10, CL_k91, CL_l91, CL_r11, CL_k117, CL_l117, CL_r12, CL_k118, CL_l118, CL_r23, CL_k119, CL_l119, CL_r24, CL_k120, CL_l120, CL_r27, CL_k121, CL_l121, CL_r28, CL_k274, CL_l274, CL_r29, CL_k279, CL_l279, CL_r30, CL_k280, CL_l280, CL_r32, CL_k281, CL_l281, mgR_sI, mgR_sL, mkd_sI, mkd_sL, mln_sI, mln_sL, Option.some.injEq, exists_eq_left', forall_eq, true_and, and_true, Nat.reduceLT, exists_eq_left, LA_k, LA_r0, LA_k1, LA_l1, LA_r1, LA_k2, LA_l2, LA_pl, LA_pk, LA_lr, LA_lk, LA_ll, LA_er, LA_ek, OU_k, OU_r0, OU_k1, OU_r13, OU_r5, OU_k60, OU_l60, ia0, ia4, ia8, ia12, ia16, ia20, ia24, ia52, ia60, ia68, im7, im14, ap6, iaN, ap1, ixN, vpN]
    rcases (hR.1 l hl4).2 with ⟨h1, h2, _⟩ | ⟨h1, h2⟩
    · rw [h2, if_neg n10, if_pos h1]
    · rw [h2, if_pos rfl, if_neg (by rw [h1]; decide)]
  · have : isPl s x = false := by
      unfold isPl
      rw [show inS x 0 3 = false from by simpa using e]; rfl
    rw [if_neg e, if_pos rfl, this]; rfl
theorem w0_isPerson {o : Nat} {M : MM} {s : Nat → Int32} {x : Int32} {Post : Int32 → MM → Prop} (hC : CL o M) (hR : LdR M (o + 2) s) : wp_X0_isPerson M o x Post = if isPe s x = true then Post 1 M else Post 0 M := by
  have hA := CL_A2 hC
  unfold wp_X0_isPerson
  rw [in_8]
  by_cases e : inS x 0 7 = true
  · rw [if_pos e, if_neg n10]
    obtain ⟨l, hl, rfl⟩ := inS_n (n := 7) (by omega) e
    have hl4 : l < 8 := by omega
    simp (disch := first | assumption | omega) only [CL_t2, CL_t21, CL_t40, CL_r1, CL_r2, CL_r3, CL_r4, CL_k59, CL_l59, CL_r9, CL_k65, CL_l65, CL_r10, CL_k91, CL_l91, CL_r11, CL_k117, CL_l117, CL_r12, CL_k118, CL_l118, CL_r23, CL_k119, CL_l119, CL_r24, CL_k120, CL_l120, CL_r27, CL_k121, CL_l121, CL_r28, CL_k274, CL_l274, CL_r29, CL_k279, CL_l279, CL_r30, CL_k280, CL_l280, CL_r32, CL_k281, CL_l281, mgR_sI, mgR_sL, mkd_sI, mkd_sL, mln_sI, mln_sL, Option.some.injEq, exists_eq_left', forall_eq, true_and, and_true, Nat.reduceLT, exists_eq_left, LA_k, LA_r0, LA_k1, LA_l1, LA_r1, LA_k2, LA_l2, LA_pl, LA_pk, LA_lr, LA_lk, LA_ll, LA_er, LA_ek, OU_k, OU_r0, OU_k1, OU_r13, OU_r5, OU_k60, OU_l60, ia0, ia4, ia8, ia12, ia16, ia20, ia24, ia52, ia60, ia68, im7, im14, ap6, iaN, ap1, ixN, vpN]
    rcases hR.2.1 l hl4 with ⟨h1, h2, _⟩ | ⟨h1, h2⟩
    · rw [h2, if_neg n10, if_pos h1]
    · rw [h2, if_pos rfl, if_neg (by rw [h1]; decide)]
  · have : isPe s x = false := by
      unfold isPe
      rw [show inS x 0 7 = false from by simpa using e]; rfl
    rw [if_neg e, if_pos rfl, this]; rfl
/-! seed, days -/
theorem C_seed {o : Nat} {M : MM} {S : St} {v : Int32} {Post : Int32 → MM → Prop} (hC : CR o M S) (h0 : inS v 0 65535 = false → Post 0 M) (h1 : inS v 0 65535 = true → ∀ M', kX o M M' → CR o M' (up S.1 80 v, S.2) → Post 1 M') : wp_X0_seed M o v Post := by
  have hL := hC.1
  have hA := CL_A2 hL
  unfold wp_X0_seed
  rw [in_65536]
  by_cases e1 : inS v 0 65535 = true
  · rw [if_pos e1, if_neg n10]
    simp (disch := first | assumption | omega) only [CL_t2, CL_t21, CL_t40, CL_r1, CL_r2, CL_r3, CL_r4, CL_k59, CL_l59, CL_r9, CL_k65, CL_l65, CL_r10, CL_k91, CL_l91, CL_r11, CL_k117, CL_l117, CL_r12, CL_k118, CL_l118, CL_r23, CL_k119, CL_l119, CL_r24, CL_k120, CL_l120, CL_r27, CL_k121, CL_l121, CL_r28, CL_k274, CL_l274, CL_r29, CL_k279, CL_l279, CL_r30, CL_k280, CL_l280, CL_r32, CL_k281, CL_l281, mgR_sI, mgR_sL, mkd_sI, mkd_sL, mln_sI, mln_sL, Option.some.injEq, exists_eq_left', forall_eq, true_and, and_true, Nat.reduceLT, exists_eq_left, LA_k, LA_r0, LA_k1, LA_l1, LA_r1, LA_k2, LA_l2, LA_pl, LA_pk, LA_lr, LA_lk, LA_ll, LA_er, LA_ek, OU_k, OU_r0, OU_k1, OU_r13, OU_r5, OU_k60, OU_l60]
    have hG : cG o M (msI M (o + 2) 3 v) := cG.rf.s (by unfold cF; omega)
    refine h1 e1 _ hG.x (hC.g hG ?_)
    have hR := hC.2.2.2.1
    refine ⟨fun l hl => ?_, fun p hp => ?_, ?_, ?_⟩
    · exact ((hR.1 l hl).e (fun k => by rw [mgI_sI, if_neg (by omega)]) (fun k => by rw [mgI_sI, if_neg (by omega)])).se hl (fun k hk => up_ne (by omega))
    · exact ((hR.2.1 p hp).e (fun k => by rw [mgI_sI, if_neg (by omega)])).se (fun k hk => up_ne (by omega))
    · rw [fd_n (by omega), up_ne (by omega)]; exact hR.2.2.1
    · rw [fd_e, up_eq]
  · rw [if_neg e1, if_pos rfl]; exact h0 (by simpa using e1)
/-- what holds of a state all through -/
def SOk (S : St) : Prop := RowOk S.1 ∧ RowOk S.2.1 ∧ (∃ d, d ≤ 9999 ∧ S.1 79 = nI d) ∧ (∃ d, d ≤ 9999 ∧ S.2.1 79 = nI d) ∧ S.2.2.2.2.1 ≤ 220 ∧ (S.2.2.1 = 0 ∨ S.2.2.1 = 1)
theorem C_days {o : Nat} {M : MM} {S : St} {x : Int32} {Post : Int32 → MM → Prop} (hC : CR o M S) (hS : SOk S) (h0 : inS x 1 60 = false → Post (-1) M) (h1 : ∀ n, n ≤ 60 → x = nI n → inS x 1 60 = true → ∀ M', kX o M M' → CR o M' ((goN S.2.2.2.2.2 n (dy0 S.1)).1, S.2) → SOk ((goN S.2.2.2.2.2 n (dy0 S.1)).1, S.2) → Post (goN S.2.2.2.2.2 n (dy0 S.1)).2.1 M') : wp_X0_days M o x Post := by
  have hL := hC.1
  have hA := CL_A2 hL
  obtain ⟨k1, k2, ⟨d, k3, k4⟩, k5⟩ := id hS
  unfold wp_X0_days
  rw [w0_within]
  by_cases e1 : inS x 1 60 = true
  · obtain ⟨n, hn1, hn2, rfl⟩ := inS_ab (a := 1) (b := 60) (by omega) (by omega) e1
    rw [if_pos e1, if_neg n10]
    simp (disch := first | assumption | omega) only [CL_t2, CL_t21, CL_t40, CL_r1, CL_r2, CL_r3, CL_r4, CL_k59, CL_l59, CL_r9, CL_k65, CL_l65, CL_r10, CL_k91, CL_l91, CL_r11, CL_k117, CL_l117, CL_r12, CL_k118, CL_l118, CL_r23, CL_k119, CL_l119, CL_r24, CL_k120, CL_l120, CL_r27, CL_k121, CL_l121, CL_r28, CL_k274, CL_l274, CL_r29, CL_k279, CL_l279, CL_r30, CL_k280, CL_l280, CL_r32, CL_k281, CL_l281, mgR_sI, mgR_sL, mkd_sI, mkd_sL, mln_sI, mln_sL, Option.some.injEq, exists_eq_left', forall_eq, true_and, and_true, Nat.reduceLT, exists_eq_left, LA_k, LA_r0, LA_k1, LA_l1, LA_r1, LA_k2, LA_l2, LA_pl, LA_pk, LA_lr, LA_lk, LA_ll, LA_er, LA_ek, OU_k, OU_r0, OU_k1, OU_r13, OU_r5, OU_k60, OU_l60]
    refine w3_goes aOk2 hC.lc k1 k4 k3 (by omega) (fun M' d' hG hd' => ?_)
    have hG' : cG o M M' := hG.1.cg (fun a k e => lM_cF (Or.inl rfl) e)
    refine ⟨o + 2, rfl, LA_k (LA_of hG'.1 hA), ?_⟩
    rw [hG.2.1.2.1]
    exact h1 n hn2 rfl e1 M' hG'.x (hC.g hG' hG.2.1.1) ⟨hG.2.2.1, k2, ⟨d', hd', hG.2.2.2⟩, k5⟩
  · rw [if_neg e1, if_pos rfl]; exact h0 (by simpa using e1)
/-! who gives, what a plant is -/
theorem C_gives {o : Nat} {M : MM} {S : St} {p l : Int32} {Post : Int32 → MM → Prop} (hC : CR o M S) (hS : SOk S) (h0 : (isPe S.1 p && isPl S.1 l) = false → Post (-1) M) (h1 : (isPe S.1 p && isPl S.1 l) = true → livS S.1 l = false → ∀ M', kX o M M' → CR o M' S → Post 0 M') (h2 : ∀ p' l', p' < 8 → l' < 4 → p = nI p' → l = nI l' → isPe S.1 p = true → livS S.1 l = true → ∀ M', kX o M M' → CR o M' S → Post (gvS S.2.2.2.2.2 S.1 p' l') M') : wp_X0_gives M o p l Post := by
  have hL := hC.1
  have hA := CL_A2 hL
  have hR := hC.2.2.2.1
  unfold wp_X0_gives
  rw [w0_isPerson hL hR]
  by_cases e1 : isPe S.1 p = true
  · rw [if_pos e1, if_neg n10, w0_isPlant hL hR]
    by_cases e2 : isPl S.1 l = true
    · rw [if_pos e2, if_neg n10]
      obtain ⟨p', hp', rfl⟩ := isPe_n e1
      obtain ⟨l', hl', rfl⟩ := isPl_n e2
      simp (disch := first | assumption | omega) only [CL_t2, CL_t21, CL_t40, CL_r1, CL_r2, CL_r3, CL_r4, CL_k59, CL_l59, CL_r9, CL_k65, CL_l65, CL_r10, CL_k91, CL_l91, CL_r11, CL_k117, CL_l117, CL_r12, CL_k118, CL_l118, CL_r23, CL_k119, CL_l119, CL_r24, CL_k120, CL_l120, CL_r27, CL_k121, CL_l121, CL_r28, CL_k274, CL_l274, CL_r29, CL_k279, CL_l279, CL_r30, CL_k280, CL_l280, CL_r32, CL_k281, CL_l281, mgR_sI, mgR_sL, mkd_sI, mkd_sL, mln_sI, mln_sL, Option.some.injEq, exists_eq_left', forall_eq, true_and, and_true, Nat.reduceLT, exists_eq_left, LA_k, LA_r0, LA_k1, LA_l1, LA_r1, LA_k2, LA_l2, LA_pl, LA_pk, LA_lr, LA_lk, LA_ll, LA_er, LA_ek, OU_k, OU_r0, OU_k1, OU_r13, OU_r5, OU_k60, OU_l60]
      refine w3_givesTo aOk2 hC.lc hS.1.2.2.1 hp' hl' e1 e2 (fun M' hF => ?_)
      have hG : cG o M M' := hF.cg (fun a k e => by unfold oM at e; unfold cF; omega)
      have hC' : CR o M' (S.1, S.2) := hC.g hG (hR.f hF (fun b k q1 q2 _ => by unfold oM; omega))
      have hlv := livS_iff hS.1 hl' e2
      by_cases e3 : plD S.1 l' = true
      · rw [if_pos e3]
        exact h1 (by simp [e1, e2]) (by rw [hlv, e3]; rfl) M' hG.x hC'
      · rw [if_neg e3]
        exact h2 p' l' hp' hl' rfl rfl e1 (by rw [hlv]; simpa using e3) M' hG.x hC'
    · rw [if_neg e2, if_pos rfl]; exact h0 (by simp [e2])
  · rw [if_neg e1, if_pos rfl]; exact h0 (by simp [e1])
