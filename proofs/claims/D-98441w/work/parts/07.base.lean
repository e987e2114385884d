/-! the flat memory: ints, longs, references by address and place; kinds and lengths; the next address -/
set_option maxRecDepth 100000
abbrev MM : Type := (Nat → Nat → Int32) × (Nat → Nat → Int64) × (Nat → Nat → Option Nat) × (Nat → Nat × Nat) × Nat
def mgI (M : MM) (a k : Nat) : Int32 := M.1 a k
def mgL (M : MM) (a k : Nat) : Int64 := M.2.1 a k
def mgR (M : MM) (a k : Nat) : Option Nat := M.2.2.1 a k
def mkd (M : MM) (a : Nat) : Nat := (M.2.2.2.1 a).1
def mln (M : MM) (a : Nat) : Nat := (M.2.2.2.1 a).2
def msz (M : MM) : Nat := M.2.2.2.2
def msI (M : MM) (a k : Nat) (v : Int32) : MM := (fun b j => if b = a ∧ j = k then v else M.1 b j, M.2)
def msL (M : MM) (a k : Nat) (v : Int64) : MM := (M.1, fun b j => if b = a ∧ j = k then v else M.2.1 b j, M.2.2)
def msR (M : MM) (a k : Nat) (v : Option Nat) : MM := (M.1, M.2.1, fun b j => if b = a ∧ j = k then v else M.2.2.1 b j, M.2.2.2)
def mnw (M : MM) (t n : Nat) : MM := (fun b j => if b = msz M then 0 else M.1 b j, fun b j => if b = msz M then 0 else M.2.1 b j, fun b j => if b = msz M then none else M.2.2.1 b j, fun b => if b = msz M then (t, n) else M.2.2.2.1 b, msz M + 1)
/-- an array of n references t, each to an array u of m places: multianewarray -/
def mmu (M : MM) (t n u m : Nat) : MM := (fun b j => if msz M ≤ b ∧ b < msz M + 1 + n then 0 else M.1 b j, fun b j => if msz M ≤ b ∧ b < msz M + 1 + n then 0 else M.2.1 b j, fun b j => if b = msz M then (if j < n then some (msz M + 1 + j) else none) else if msz M ≤ b ∧ b < msz M + 1 + n then none else M.2.2.1 b j, fun b => if b = msz M then (t, n) else if msz M ≤ b ∧ b < msz M + 1 + n then (u, m) else M.2.2.2.1 b, msz M + 1 + n)
abbrev ix_ (i : Int32) : Nat := i.toNatClampNeg
def rm_ (x y : Int32) : Int32 := x - x / y * y
def rmL_ (x y : Int64) : Int64 := x - x / y * y
def mx_ (x y : Int32) : Int32 := if x < y then y else x
def mn_ (x y : Int32) : Int32 := if y < x then y else x
def isB_ (x : Int32) : Prop := x = 0 ∨ x = 1
/-- what is made stays what it is -/
def mMo (M M' : MM) : Prop := (∀ b, mkd M b ≠ 0 → mkd M' b = mkd M b ∧ mln M' b = mln M b) ∧ msz M ≤ msz M'
theorem mMo.rf {M : MM} : mMo M M := ⟨fun _ _ => ⟨rfl, rfl⟩, Nat.le_refl _⟩
theorem mMo.tr {M1 M2 M3 : MM} (h : mMo M1 M2) (g : mMo M2 M3) : mMo M1 M3 := ⟨fun b hb => ⟨(g.1 b (by rw [(h.1 b hb).1]; exact hb)).1.trans (h.1 b hb).1, (g.1 b (by rw [(h.1 b hb).1]; exact hb)).2.trans (h.1 b hb).2⟩, Nat.le_trans h.2 g.2⟩
theorem mMo.kd {M M' : MM} (h : mMo M M') {b c : Nat} (hb : mkd M b = c) (hc : c ≠ 0) : mkd M' b = c := ((h.1 b (by rw [hb]; exact hc)).1).trans hb
theorem mMo_sI {M : MM} {a k : Nat} {v : Int32} : mMo M (msI M a k v) := ⟨fun _ _ => ⟨rfl, rfl⟩, Nat.le_refl _⟩
theorem mMo_sL {M : MM} {a k : Nat} {v : Int64} : mMo M (msL M a k v) := ⟨fun _ _ => ⟨rfl, rfl⟩, Nat.le_refl _⟩
theorem mMo_sR {M : MM} {a k : Nat} {v : Option Nat} : mMo M (msR M a k v) := ⟨fun _ _ => ⟨rfl, rfl⟩, Nat.le_refl _⟩
theorem mMo_nw {M : MM} {t n : Nat} (h : mkd M (msz M) = 0) : mMo M (mnw M t n) := by
  refine ⟨fun b hb => ?_, Nat.le_succ _⟩
  have hne : b ≠ msz M := fun e => hb (by rw [e]; exact h)
  constructor
  · show (if b = msz M then (t, n) else M.2.2.2.1 b).1 = _
    rw [if_neg hne]; rfl
  · show (if b = msz M then (t, n) else M.2.2.2.1 b).2 = _
    rw [if_neg hne]; rfl
theorem mkd_nw {M : MM} {t n : Nat} : mkd (mnw M t n) (msz M) = t := by
  show (if msz M = msz M then (t, n) else M.2.2.2.1 (msz M)).1 = t
  rw [if_pos rfl]
theorem it_t {c A B : Prop} [Decidable c] (h : if c then A else B) (hc : c) : A := by rw [if_pos hc] at h; exact h
theorem it_f {c A B : Prop} [Decidable c] (h : if c then A else B) (hc : ¬ c) : B := by rw [if_neg hc] at h; exact h
theorem bn_ {α : Sort _} {e : α} {P : α → Prop} (h : ∀ x, x = e → P x) : ∃ x, x = e ∧ P x := ⟨e, rfl, h e rfl⟩
def vwCl : List vw_C := [(RX0, TX0, 33), (RX2, TX2, 14), (RX3, TX3, 8), (RX4, TX4, 10), (RX5, TX5, 4), (RX6, TX6, 4), (RX7, TX7, 54), (RX8, TX8, 8), (RX10, TX10, 3), (RX11, TX11, 1), (RX12, TX12, 1), (RX14, TX14, 3), (RX15, TX15, 1), (RX16, TX16, 3), (RX17, TX17, 7)]
def mctab : List (List Nat) := [[2, 2, 2, 2, 2, 2, 2, 0, 0, 2, 2, 2, 2, 0, 0, 0, 0, 0, 0, 0, 1, 0, 0, 2, 2, 0, 0, 2, 2, 2, 2, 0, 2], [0, 0, 0, 0, 0, 0, 0, 0, 0, 0, 0, 0, 0, 2], [2, 2, 0, 0, 0, 0, 0, 2], [2, 0, 0, 0, 0, 0, 0, 0, 0, 0], [0, 0, 0, 0], [2, 2, 2, 0], [2, 2, 2, 2, 0, 0, 0, 0, 0, 0, 0, 0, 0, 2, 2, 2, 2, 2, 2, 2, 2, 2, 2, 2, 2, 2, 2, 0, 0, 0, 2, 0, 0, 0, 0, 2, 2, 2, 2, 1, 2, 2, 2, 2, 2, 2, 0, 0, 2, 0, 0, 2, 2, 0], [0, 2, 2, 0, 0, 0, 0, 2], [0, 2, 2], [0], [0], [2, 0, 2], [2], [2, 2, 0], [2, 0, 0, 0, 0, 0, 2]]
def mttab : List FieldType := [.int, .long, .byte, .object "LandingTree$Plant", .object "LandingTree$Person", .object "LandingTree$Text", .object "LandingTree$Sum", .object "LandingTree$Condition", .object "LandingTree$Landing", .array .long, .array .int]
def metab : List Nat := [0, 1, 0, 2, 2, 2, 2, 2, 2, 2, 2]
def mnF : List Cond := [Cond.fieldLinkNest "LandingTree" 103 "LandingTree$Landing" "plants" "[LLandingTree$Plant;" "LandingTree",
  Cond.fieldLinkNest "LandingTree" 107 "LandingTree$Plant" "isTold" "Z" "LandingTree",
  Cond.fieldLinkNest "LandingTree" 113 "LandingTree$Landing" "people" "[LLandingTree$Person;" "LandingTree",
  Cond.fieldLinkNest "LandingTree" 117 "LandingTree$Person" "isTold" "Z" "LandingTree",
  Cond.fieldLinkNest "LandingTree" 124 "LandingTree$Plant" "hasCard" "Z" "LandingTree",
  Cond.fieldLinkNest "LandingTree" 127 "LandingTree$Plant" "written" "I" "LandingTree",
  Cond.fieldLinkNest "LandingTree" 130 "LandingTree$Plant" "pot" "I" "LandingTree",
  Cond.fieldLinkNest "LandingTree" 133 "LandingTree$Plant" "wet" "I" "LandingTree",
  Cond.fieldLinkNest "LandingTree" 136 "LandingTree$Plant" "bears" "I" "LandingTree",
  Cond.fieldLinkNest "LandingTree" 139 "LandingTree$Plant" "dry" "I" "LandingTree",
  Cond.fieldLinkNest "LandingTree" 142 "LandingTree$Plant" "drowned" "I" "LandingTree",
  Cond.fieldLinkNest "LandingTree" 145 "LandingTree$Plant" "oldest" "I" "LandingTree",
  Cond.fieldLinkNest "LandingTree" 148 "LandingTree$Plant" "looks" "[I" "LandingTree",
  Cond.fieldLinkNest "LandingTree" 151 "LandingTree$Person" "tenths" "I" "LandingTree",
  Cond.fieldLinkNest "LandingTree" 153 "LandingTree$Person" "rule" "I" "LandingTree",
  Cond.fieldLinkNest "LandingTree" 156 "LandingTree$Person" "given" "I" "LandingTree",
  Cond.fieldLinkNest "LandingTree" 189 "LandingTree$Reader" "text" "LLandingTree$Text;" "LandingTree",
  Cond.fieldLinkNest "LandingTree" 198 "LandingTree$Landing" "given" "I" "LandingTree",
  Cond.fieldLinkNest "LandingTree" 206 "LandingTree$Landing" "over" "I" "LandingTree",
  Cond.fieldLinkNest "LandingTree" 217 "LandingTree$Landing" "sunny" "I" "LandingTree",
  Cond.fieldLinkNest "LandingTree" 303 "LandingTree$Landing" "day" "I" "LandingTree",
  Cond.fieldLinkNest "LandingTree" 369 "LandingTree$Clerk" "many" "I" "LandingTree",
  Cond.fieldLinkNest "LandingTree" 374 "LandingTree$Clerk" "row" "[I" "LandingTree",
  Cond.fieldLinkNest "LandingTree" 414 "LandingTree$Text" "many" "I" "LandingTree",
  Cond.fieldLinkNest "LandingTree" 95 "LandingTree$Landing" "x" "I" "LandingTree",
  Cond.fieldLinkNest "LandingTree$Clerk" 26 "LandingTree" "tape" "[B" "LandingTree",
  Cond.fieldLinkNest "LandingTree$Compared" 20 "LandingTree$Asked" "isRefused" "Z" "LandingTree",
  Cond.fieldLinkNest "LandingTree$Landing" 106 "LandingTree$Person" "rule" "I" "LandingTree",
  Cond.fieldLinkNest "LandingTree$Landing" 147 "LandingTree$Plant" "isTold" "Z" "LandingTree",
  Cond.fieldLinkNest "LandingTree$Landing" 43 "LandingTree$Person" "isTold" "Z" "LandingTree",
  Cond.fieldLinkNest "LandingTree$Landing" 48 "LandingTree$Plant" "hasCard" "Z" "LandingTree",
  Cond.fieldLinkNest "LandingTree$Landing" 51 "LandingTree$Plant" "written" "I" "LandingTree",
  Cond.fieldLinkNest "LandingTree$Landing" 54 "LandingTree" "moment" "LLandingTree$Moment;" "LandingTree",
  Cond.fieldLinkNest "LandingTree$Landing" 68 "LandingTree$Plant" "pot" "I" "LandingTree",
  Cond.fieldLinkNest "LandingTree$Landing" 71 "LandingTree$Plant" "wet" "I" "LandingTree",
  Cond.fieldLinkNest "LandingTree$Landing" 78 "LandingTree$Plant" "dry" "I" "LandingTree",
  Cond.fieldLinkNest "LandingTree$Landing" 81 "LandingTree$Plant" "drowned" "I" "LandingTree",
  Cond.fieldLinkNest "LandingTree$Landing" 96 "LandingTree$Person" "tenths" "I" "LandingTree",
  Cond.fieldLinkNest "LandingTree$Landing" 99 "LandingTree$Person" "given" "I" "LandingTree",
  Cond.fieldLinkNest "LandingTree$Moment" 52 "LandingTree" "law" "LLandingTree$Text;" "LandingTree",
  Cond.fieldLinkNest "LandingTree$Moment" 66 "LandingTree" "rules" "[LLandingTree$Text;" "LandingTree",
  Cond.fieldLinkNest "LandingTree$Reader" 127 "LandingTree$Some" "next" "LLandingTree$Some;" "LandingTree",
  Cond.fieldLinkNest "LandingTree$Reader" 133 "LandingTree$Text" "many" "I" "LandingTree",
  Cond.fieldLinkNest "LandingTree$Reader" 136 "LandingTree$Text" "letters" "[I" "LandingTree",
  Cond.fieldLinkNest "LandingTree$Reader" 139 "LandingTree$Text" "sums" "[LLandingTree$Sum;" "LandingTree",
  Cond.fieldLinkNest "LandingTree$Reader" 143 "LandingTree$Text" "conditions" "[LLandingTree$Condition;" "LandingTree",
  Cond.fieldLinkNest "LandingTree$Reader" 33 "LandingTree" "tape" "[B" "LandingTree",
  Cond.fieldLinkNest "LandingTree$Reader" 98 "LandingTree$Row" "next" "LLandingTree$Row;" "LandingTree",
  Cond.fieldLinkNest "LandingTree$Row" 17 "LandingTree$Asked" "isRefused" "Z" "LandingTree",
  Cond.fieldLinkNest "LandingTree$Sum" 7 "LandingTree$Asked" "isRefused" "Z" "LandingTree"]
def mnM : List Cond := [Cond.methodLinkNest "LandingTree" 20 ⟨"LandingTree$Moment", "<init>", "(LLandingTree;)V"⟩ "LandingTree",
  Cond.methodLinkNest "LandingTree" 327 ⟨"LandingTree$Landing", "at", "(I)LLandingTree$Moment;"⟩ "LandingTree",
  Cond.methodLinkNest "LandingTree" 50 ⟨"LandingTree$Text", "<init>", "()V"⟩ "LandingTree",
  Cond.methodLinkNest "LandingTree$Clerk" 57 ⟨"LandingTree", "isPerson", "(I)Z"⟩ "LandingTree",
  Cond.methodLinkNest "LandingTree$Compared" 1 ⟨"LandingTree$Condition", "<init>", "()V"⟩ "LandingTree",
  Cond.methodLinkNest "LandingTree$Landing" 27 ⟨"LandingTree$Plant", "<init>", "()V"⟩ "LandingTree",
  Cond.methodLinkNest "LandingTree$Landing" 28 ⟨"LandingTree$Person", "<init>", "()V"⟩ "LandingTree",
  Cond.methodLinkNest "LandingTree$Letter" 1 ⟨"LandingTree$Sum", "<init>", "()V"⟩ "LandingTree",
  Cond.methodLinkNest "LandingTree$Moment" 62 ⟨"LandingTree", "held", "(II)I"⟩ "LandingTree",
  Cond.methodLinkNest "LandingTree$Moment" 9 ⟨"LandingTree$Asked", "<init>", "()V"⟩ "LandingTree",
  Cond.methodLinkNest "LandingTree$Not" 1 ⟨"LandingTree$Condition", "<init>", "()V"⟩ "LandingTree",
  Cond.methodLinkNest "LandingTree$Number" 1 ⟨"LandingTree$Sum", "<init>", "()V"⟩ "LandingTree",
  Cond.methodLinkNest "LandingTree$Reader" 17 ⟨"LandingTree$Text", "<init>", "()V"⟩ "LandingTree",
  Cond.methodLinkNest "LandingTree$Row" 1 ⟨"LandingTree$Sum", "<init>", "()V"⟩ "LandingTree",
  Cond.methodLinkNest "LandingTree$Some" 1 ⟨"LandingTree$Condition", "<init>", "()V"⟩ "LandingTree"]
def mnC : List Cond := [Cond.castable "LandingTree$Row" "LandingTree$Sum", Cond.castable "LandingTree$Number" "LandingTree$Sum", Cond.castable "LandingTree$Letter" "LandingTree$Sum", Cond.castable "LandingTree$Some" "LandingTree$Condition", Cond.castable "LandingTree$Not" "LandingTree$Condition", Cond.castable "LandingTree$Compared" "LandingTree$Condition"]
def mnD : List Cond := [Cond.declares ⟨"LandingTree$Asked", "value", "(I)I"⟩, Cond.declares ⟨"LandingTree$Condition", "holds", "(LLandingTree$Asked;)I"⟩, Cond.declares ⟨"LandingTree$Sum", "worth", "(LLandingTree$Asked;)I"⟩]
def mnO : List String := ["LandingTree$Plant", "LandingTree$Person", "LandingTree$Text", "LandingTree$Sum", "LandingTree$Condition", "LandingTree$Landing"]
def mnA : List FieldType := [.long, .int]
def mslen : List Nat := [4, 1, 13]
def msbyt : List (List Int32) := [[101, 104, 99, 98], [103], [100, 119, 108, 111, 102, 115, 121, 122, 112, 116, 110, 97, 113]]
def msown (i : Nat) : String := match i with
  | 0 => "LandingTree"
  | 1 => "LandingTree"
  | _ => "LandingTree$Reader"
def msidx (i : Nat) : Nat := match i with
  | 0 => 180
  | 1 => 192
  | _ => 79
def mstx (i : Nat) : String := match i with
  | 0 => "ehcb"
  | 1 => "g"
  | _ => "dwlofsyzptnaq"
theorem vc_X0 : vwCl[0]? = some (RX0, TX0, 33) := rfl
theorem df_X0 : ∀ j, j < 33 → defaultValue (tyX0 j) = (match (mctab.getD 0 []).getD j 0 with | 0 => Value.int 0 | 1 => Value.long 0 | _ => Value.null) := by decide +kernel
theorem vc_X2 : vwCl[1]? = some (RX2, TX2, 14) := rfl
theorem df_X2 : ∀ j, j < 14 → defaultValue (tyX2 j) = (match (mctab.getD 1 []).getD j 0 with | 0 => Value.int 0 | 1 => Value.long 0 | _ => Value.null) := by decide +kernel
theorem vc_X3 : vwCl[2]? = some (RX3, TX3, 8) := rfl
theorem df_X3 : ∀ j, j < 8 → defaultValue (tyX3 j) = (match (mctab.getD 2 []).getD j 0 with | 0 => Value.int 0 | 1 => Value.long 0 | _ => Value.null) := by decide +kernel
theorem vc_X4 : vwCl[3]? = some (RX4, TX4, 10) := rfl
theorem df_X4 : ∀ j, j < 10 → defaultValue (tyX4 j) = (match (mctab.getD 3 []).getD j 0 with | 0 => Value.int 0 | 1 => Value.long 0 | _ => Value.null) := by decide +kernel
theorem vc_X5 : vwCl[4]? = some (RX5, TX5, 4) := rfl
theorem df_X5 : ∀ j, j < 4 → defaultValue (tyX5 j) = (match (mctab.getD 4 []).getD j 0 with | 0 => Value.int 0 | 1 => Value.long 0 | _ => Value.null) := by decide +kernel
theorem vc_X6 : vwCl[5]? = some (RX6, TX6, 4) := rfl
theorem df_X6 : ∀ j, j < 4 → defaultValue (tyX6 j) = (match (mctab.getD 5 []).getD j 0 with | 0 => Value.int 0 | 1 => Value.long 0 | _ => Value.null) := by decide +kernel
theorem vc_X7 : vwCl[6]? = some (RX7, TX7, 54) := rfl
theorem df_X7 : ∀ j, j < 54 → defaultValue (tyX7 j) = (match (mctab.getD 6 []).getD j 0 with | 0 => Value.int 0 | 1 => Value.long 0 | _ => Value.null) := by decide +kernel
theorem vc_X8 : vwCl[7]? = some (RX8, TX8, 8) := rfl
theorem df_X8 : ∀ j, j < 8 → defaultValue (tyX8 j) = (match (mctab.getD 7 []).getD j 0 with | 0 => Value.int 0 | 1 => Value.long 0 | _ => Value.null) := by decide +kernel
theorem vc_X10 : vwCl[8]? = some (RX10, TX10, 3) := rfl
theorem df_X10 : ∀ j, j < 3 → defaultValue (tyX10 j) = (match (mctab.getD 8 []).getD j 0 with | 0 => Value.int 0 | 1 => Value.long 0 | _ => Value.null) := by decide +kernel
theorem vc_X11 : vwCl[9]? = some (RX11, TX11, 1) := rfl
theorem df_X11 : ∀ j, j < 1 → defaultValue (tyX11 j) = (match (mctab.getD 9 []).getD j 0 with | 0 => Value.int 0 | 1 => Value.long 0 | _ => Value.null) := by decide +kernel
theorem vc_X12 : vwCl[10]? = some (RX12, TX12, 1) := rfl
theorem df_X12 : ∀ j, j < 1 → defaultValue (tyX12 j) = (match (mctab.getD 10 []).getD j 0 with | 0 => Value.int 0 | 1 => Value.long 0 | _ => Value.null) := by decide +kernel
theorem vc_X14 : vwCl[11]? = some (RX14, TX14, 3) := rfl
theorem df_X14 : ∀ j, j < 3 → defaultValue (tyX14 j) = (match (mctab.getD 11 []).getD j 0 with | 0 => Value.int 0 | 1 => Value.long 0 | _ => Value.null) := by decide +kernel
theorem vc_X15 : vwCl[12]? = some (RX15, TX15, 1) := rfl
theorem df_X15 : ∀ j, j < 1 → defaultValue (tyX15 j) = (match (mctab.getD 12 []).getD j 0 with | 0 => Value.int 0 | 1 => Value.long 0 | _ => Value.null) := by decide +kernel
theorem vc_X16 : vwCl[13]? = some (RX16, TX16, 3) := rfl
theorem df_X16 : ∀ j, j < 3 → defaultValue (tyX16 j) = (match (mctab.getD 13 []).getD j 0 with | 0 => Value.int 0 | 1 => Value.long 0 | _ => Value.null) := by decide +kernel
theorem vc_X17 : vwCl[14]? = some (RX17, TX17, 7) := rfl
theorem df_X17 : ∀ j, j < 7 → defaultValue (tyX17 j) = (match (mctab.getD 14 []).getD j 0 with | 0 => Value.int 0 | 1 => Value.long 0 | _ => Value.null) := by decide +kernel
abbrev DD : Type := va_G × Nat × (Nat → Nat) × (Nat → Nat) × (Nat → ClassId)
def mfv (M : MM) (c a k : Nat) : Value := match c with
  | 0 => .int (mgI M a k)
  | 1 => .long (mgL M a k)
  | _ => va_rf (mgR M a k)
def mct (ci k : Nat) : Nat := (mctab.getD ci []).getD k 0
def met (t : Nat) : Nat := metab.getD t 0
def mty (t : Nat) : FieldType := mttab.getD t .int
def mcell (D : DD) (M : MM) (a : Nat) (H : Heap) : Prop :=
  if mkd M a < 100 then ∃ r : vw_C, vwCl[mkd M a - 1]? = some r ∧ t_OB a (D.1.1 (mkd M a - 1)) r.2.2 (D.1.2 (mkd M a - 1)) H (fun k => mfv M (mct (mkd M a - 1) k) a k)
  else H[a]? = some (arrV (D.2.2.2.2 (mkd M a - 100)) (mln M a) (fun j => mfv M (met (mkd M a - 100)) a j))
def mRep (D : DD) (M : MM) (H : Heap) : Prop := H.size = msz M ∧ D.2.1 ≤ msz M ∧ ∀ a, mkd M a ≠ 0 → D.2.1 ≤ a ∧ mcell D M a H
theorem mcell.lt {D : DD} {M : MM} {a : Nat} {H : Heap} (h : mcell D M a H) : a < H.size := by
  unfold mcell at h
  split at h
  · obtain ⟨r, -, cell, h1, -⟩ := h
    exact (Array.getElem?_eq_some_iff.mp h1).1
  · exact (Array.getElem?_eq_some_iff.mp h).1
theorem mRep.fresh {D : DD} {M : MM} {H : Heap} (h : mRep D M H) : mkd M (msz M) = 0 := by
  by_cases hz : mkd M (msz M) = 0
  · exact hz
  · have := (h.2.2 _ hz).2.lt
    rw [h.1] at this
    exact absurd this (Nat.lt_irrefl _)
theorem mRep.ob {D : DD} {M : MM} {H : Heap} (h : mRep D M H) {a ci N : Nat} {Cn : String} {T : u_T} (hk : mkd M a = ci + 1) (hci : ci < 99) (hc : vwCl[ci]? = some (Cn, T, N)) : t_OB a (D.1.1 ci) N (D.1.2 ci) H (fun k => mfv M (mct ci k) a k) := by
  have h1 := (h.2.2 a (by rw [hk]; exact Nat.succ_ne_zero _)).2
  unfold mcell at h1
  rw [if_pos (by rw [hk]; omega), hk] at h1
  obtain ⟨r, h2, h3⟩ := h1
  cases hc.symm.trans h2
  exact h3
theorem mRep.ar {D : DD} {M : MM} {H : Heap} (h : mRep D M H) {a t : Nat} (hk : mkd M a = 100 + t) : H[a]? = some (arrV (D.2.2.2.2 t) (mln M a) (fun j => mfv M (met t) a j)) := by
  have h1 := (h.2.2 a (by rw [hk]; omega)).2
  unfold mcell at h1
  rw [if_neg (by rw [hk]; omega), hk] at h1
  rw [Nat.add_sub_cancel_left] at h1
  exact h1
theorem mcell_ob {D : DD} {M : MM} {H : Heap} {a ci N : Nat} {Cn : String} {T : u_T} (hk : mkd M a = ci + 1) (hci : ci < 99) (hc : vwCl[ci]? = some (Cn, T, N)) (h : t_OB a (D.1.1 ci) N (D.1.2 ci) H (fun k => mfv M (mct ci k) a k)) : mcell D M a H := by
  unfold mcell
  rw [if_pos (by rw [hk]; omega), hk]
  exact ⟨_, hc, h⟩
theorem mcell_ar {D : DD} {M : MM} {H : Heap} {a t : Nat} (hk : mkd M a = 100 + t) (h : H[a]? = some (arrV (D.2.2.2.2 t) (mln M a) (fun j => mfv M (met t) a j))) : mcell D M a H := by
  unfold mcell
  rw [if_neg (by rw [hk]; omega), hk, Nat.add_sub_cancel_left]
  exact h
theorem mcell.to {D : DD} {M M' : MM} {a : Nat} {H H' : Heap} (h : mcell D M a H) (hkd : mkd M' a = mkd M a) (hln : mln M' a = mln M a) (hf : ∀ c j, mfv M' c a j = mfv M c a j) (hq : H'[a]? = H[a]?) : mcell D M' a H' := by
  unfold mcell at h ⊢
  rw [hkd, hln]
  split at h
  · rename_i hlt
    rw [if_pos hlt]
    obtain ⟨r, h1, h2⟩ := h
    exact ⟨r, h1, (h2.kept hq).to (fun k _ => (hf _ _).symm)⟩
  · rename_i hlt
    rw [if_neg hlt, hq, h]
    congr 2
    funext j
    exact (hf _ _).symm
theorem mRep.set {D : DD} {M M' : MM} {H H' : Heap} {a : Nat} (h : mRep D M H) (ha : mkd M a ≠ 0) (hs : msz M' = msz M) (hkd : ∀ b, mkd M' b = mkd M b) (hln : ∀ b, mln M' b = mln M b) (hne : ∀ b, b ≠ a → ∀ c j, mfv M' c b j = mfv M c b j) (hz : H'.size = H.size) (oq : ∀ q, q ≠ a → H'[q]? = H[q]?) (hcell : mcell D M' a H') : mRep D M' H' := by
  refine ⟨by rw [hz, hs]; exact h.1, by rw [hs]; exact h.2.1, fun b hb => ?_⟩
  rw [hkd] at hb
  refine ⟨(h.2.2 b hb).1, ?_⟩
  by_cases e : b = a
  · rw [e]; exact hcell
  · exact (h.2.2 b hb).2.to (hkd b) (hln b) (hne b e) (oq b e)
theorem mfv_I_ne {M : MM} {a k : Nat} {x : Int32} : ∀ b, b ≠ a → ∀ c j, mfv (msI M a k x) c b j = mfv M c b j := by
  intro b hb c j
  match c with
  | 0 => simp [mfv, mgI, msI, hb]
  | 1 => rfl
  | c + 2 => rfl
theorem mfv_L_ne {M : MM} {a k : Nat} {x : Int64} : ∀ b, b ≠ a → ∀ c j, mfv (msL M a k x) c b j = mfv M c b j := by
  intro b hb c j
  match c with
  | 0 => rfl
  | 1 => simp [mfv, mgL, msL, hb]
  | c + 2 => rfl
theorem mfv_R_ne {M : MM} {a k : Nat} {x : Option Nat} : ∀ b, b ≠ a → ∀ c j, mfv (msR M a k x) c b j = mfv M c b j := by
  intro b hb c j
  match c with
  | 0 => rfl
  | 1 => rfl
  | c + 2 => simp [mfv, mgR, msR, hb]
theorem mfv_I_at {M : MM} {a k : Nat} {x : Int32} (c j : Nat) (hc : j = k → c = 0) : updV (fun j => mfv M c a j) k (.int x) j = mfv (msI M a k x) c a j := by
  by_cases hj : j = k
  · rw [hc hj]
    simp [updV, mfv, mgI, msI, hj]
  · match c with
    | 0 => simp [updV, mfv, mgI, msI, hj]
    | 1 => simp [updV, mfv, mgL, msI, hj]
    | c + 2 => simp [updV, mfv, mgR, msI, hj]
theorem mfv_L_at {M : MM} {a k : Nat} {x : Int64} (c j : Nat) (hc : j = k → c = 1) : updV (fun j => mfv M c a j) k (.long x) j = mfv (msL M a k x) c a j := by
  by_cases hj : j = k
  · rw [hc hj]
    simp [updV, mfv, mgL, msL, hj]
  · match c with
    | 0 => simp [updV, mfv, mgI, msL, hj]
    | 1 => simp [updV, mfv, mgL, msL, hj]
    | c + 2 => simp [updV, mfv, mgR, msL, hj]
theorem mfv_R_at {M : MM} {a k : Nat} {x : Option Nat} (c j : Nat) (hc : j = k → c = 2) : updV (fun j => mfv M c a j) k (va_rf x) j = mfv (msR M a k x) c a j := by
  by_cases hj : j = k
  · rw [hc hj]
    simp [updV, mfv, mgR, msR, hj]
  · match c with
    | 0 => simp [updV, mfv, mgI, msR, hj]
    | 1 => simp [updV, mfv, mgL, msR, hj]
    | c + 2 => simp [updV, mfv, mgR, msR, hj]
theorem mRep.new {D : DD} {M : MM} {H H1 : Heap} (h : mRep D M H) {t n : Nat} (ht : t ≠ 0) (hz : H1.size = H.size + 1) (o1 : ∀ q, q < H.size → H1[q]? = H[q]?) (hc : mcell D (mnw M t n) (msz M) H1) : mRep D (mnw M t n) H1 := by
  have hs : msz (mnw M t n) = msz M + 1 := rfl
  refine ⟨by rw [hz, hs, h.1], by rw [hs]; exact Nat.le_succ_of_le h.2.1, fun b hb => ?_⟩
  by_cases e : b = msz M
  · rw [e]; exact ⟨h.2.1, hc⟩
  · have hkd : mkd (mnw M t n) b = mkd M b := by
      show (if b = msz M then (t, n) else M.2.2.2.1 b).1 = _
      rw [if_neg e]; rfl
    have hln : mln (mnw M t n) b = mln M b := by
      show (if b = msz M then (t, n) else M.2.2.2.1 b).2 = _
      rw [if_neg e]; rfl
    rw [hkd] at hb
    have hb2 := h.2.2 b hb
    refine ⟨hb2.1, hb2.2.to hkd hln (fun c j => ?_) (o1 b hb2.2.lt)⟩
    match c with
    | 0 => simp [mfv, mgI, mnw, e]
    | 1 => simp [mfv, mgL, mnw, e]
    | c + 2 => simp [mfv, mgR, mnw, e]
/-- what holds of the tables, the old heap's constants, all through -/
def mKS (D : DD) (U : State) : Prop := va_Z "java/lang/String" "COMPACT_STRINGS" "Z" (.int 1) (fun q => D.2.1 ≤ q) U U.heap ∧ vk_S 3 mslen msbyt D.2.2.1 D.2.2.2.1 (fun q => D.2.1 ≤ q) U U.heap ∧ ∀ i, i < 3 → vk_R (msown i) (msidx i) (mstx i) (D.2.2.1 i) U
def mKA (D : DD) (U : State) : Prop := ∀ t, t < 11 → ArrOfT U (D.2.2.2.2 t) (mty t) ∧ va_RA U (D.2.2.2.2 t) (mty t)
def mKN (U : State) : Prop := (∀ w ∈ mnF, va_Nw w U) ∧ (∀ w ∈ mnM, va_Nw w U) ∧ (∀ w ∈ mnC, va_Nw w U) ∧ (∀ w ∈ mnD, va_Nw w U) ∧ (∀ C ∈ mnO, va_AO C U) ∧ ∀ ty ∈ mnA, (Cond.arrayOver (.array ty)).before #[] U = true
def mKK (D : DD) (U : State) : Prop := va_K D.1 vwCl [] U ∧ mKA D U ∧ mKN U ∧ mKS D U
theorem mAOA.moved {t : FieldType} {u U : State} (hvm : u.vm.Alike U.vm) (h : (Cond.arrayOver (.array t)).before #[] u = true) : (Cond.arrayOver (.array t)).before #[] U = true := by
  obtain ⟨comp, c, k, h1, h2, h3, h4, h5⟩ := arrayOverA_spec h
  obtain ⟨k', hk', he⟩ := hvm.2.2 _ _ h3
  have hi : (U.vm.classes.findIdx? fun (x : Class) => match x.kind with | .array component _ => component == comp | _ => false) = some c := by
    rw [hvm.findIdx?_eq _ (fun _ => rfl)]
    exact h2
  have hkind : k'.kind = .array comp (.array t) := by rw [he]; exact h4
  have f1 : U.vm.findClass (FieldType.array t).toString = some comp := by rw [hvm.findClass]; exact h1
  have f2 : U.vm.findClass ("[" ++ (FieldType.array t).toString) = some c := by rw [hvm.findClass]; exact h5
  unfold Cond.before Cond.holds
  simp only [Cond.value]
  rw [f1, Option.bind_some]
  refine (congrArg (fun o : Option Nat => (o.bind (fun c => (U.vm.classes[c]?).map fun (k : Class) => match k.kind with | .array _ ty => decide (ty = FieldType.array t) && decide (U.vm.findClass ("[" ++ (FieldType.array t).toString) = some c) | _ => false) == some true)) hi).trans ?_
  simp [hk', hkind, f2]
theorem mKA.moved {D : DD} {u U : State} (hvm : u.vm.Alike U.vm) (h : mKA D u) : mKA D U := fun t ht => ⟨arrOfT_moved hvm (h t ht).1, (h t ht).2.moved hvm⟩
theorem mnF_all : ∀ w ∈ mnF, ∃ a i b n d h, w = Cond.fieldLinkNest a i b n d h := by
  intro w hw
  have h : mnF.all (fun w => match w with | .fieldLinkNest .. => true | _ => false) = true := by decide +kernel
  have h1 := List.all_eq_true.mp h w hw
  cases w <;> first | (cases h1; done) | exact ⟨_, _, _, _, _, _, rfl⟩
theorem mnM_all : ∀ w ∈ mnM, ∃ a i x h, w = Cond.methodLinkNest a i x h := by
  intro w hw
  have h : mnM.all (fun w => match w with | .methodLinkNest .. => true | _ => false) = true := by decide +kernel
  have h1 := List.all_eq_true.mp h w hw
  cases w <;> first | (cases h1; done) | exact ⟨_, _, _, _, rfl⟩
theorem mnC_all : ∀ w ∈ mnC, ∃ a b, w = Cond.castable a b := by
  intro w hw
  have h : mnC.all (fun w => match w with | .castable .. => true | _ => false) = true := by decide +kernel
  have h1 := List.all_eq_true.mp h w hw
  cases w <;> first | (cases h1; done) | exact ⟨_, _, rfl⟩
theorem mnD_all : ∀ w ∈ mnD, ∃ a, w = Cond.declares a := by
  intro w hw
  have h : mnD.all (fun w => match w with | .declares .. => true | _ => false) = true := by decide +kernel
  have h1 := List.all_eq_true.mp h w hw
  cases w <;> first | (cases h1; done) | exact ⟨_, rfl⟩
theorem mKN.moved {s U : State} (hW : s.WarmedH U.vm) (h : mKN s) : mKN U := by
  obtain ⟨h1, h2, h3, h4, h5, h6⟩ := h
  refine ⟨fun w hw => ?_, fun w hw => ?_, fun w hw => ?_, fun w hw => ?_, fun C hC => (h5 C hC).moved hW.alike, fun t ht => mAOA.moved hW.alike (h6 t ht)⟩
  · obtain ⟨a, i, b, n, d, g, rfl⟩ := mnF_all w hw
    exact va_Nw.warmF hW (h1 _ hw)
  · obtain ⟨a, i, x, g, rfl⟩ := mnM_all w hw
    exact va_Nw.warmM hW (h2 _ hw)
  · obtain ⟨a, b, rfl⟩ := mnC_all w hw
    exact va_Nw.warmC hW (h3 _ hw)
  · obtain ⟨a, rfl⟩ := mnD_all w hw
    exact va_Nw.warmD hW (h4 _ hw)
theorem mKN.same {s U : State} (hv : s.vm = U.vm) (h : mKN s) : mKN U := by
  obtain ⟨h1, h2, h3, h4, h5, h6⟩ := h
  refine ⟨fun w hw => ?_, fun w hw => ?_, fun w hw => ?_, fun w hw => ?_, fun C hC => ?_, fun t ht => ?_⟩
  · obtain ⟨a, i, b, n, d, g, rfl⟩ := mnF_all w hw
    exact va_Nw.same rfl hv (h1 _ hw)
  · obtain ⟨a, i, x, g, rfl⟩ := mnM_all w hw
    exact va_Nw.same rfl hv (h2 _ hw)
  · obtain ⟨a, b, rfl⟩ := mnC_all w hw
    exact va_Nw.same rfl hv (h3 _ hw)
  · obtain ⟨a, rfl⟩ := mnD_all w hw
    exact va_Nw.same rfl hv (h4 _ hw)
  · exact (h5 C hC).moved (by rw [hv]; exact Vm.Alike.refl _)
  · exact mAOA.moved (by rw [hv]; exact Vm.Alike.refl _) (h6 t ht)
theorem mKS.moved {D : DD} {s U : State} (hW : s.WarmedH U.vm) (hq : ∀ q, q < D.2.1 → U.heap[q]? = s.heap[q]?) (h : mKS D s) : mKS D U := by
  obtain ⟨h1, h2, h3⟩ := h
  have hq' : ∀ a : Nat, a < s.heap.size → ¬ D.2.1 ≤ a → U.heap[a]? = s.heap[a]? := fun a _ ha => hq a (Nat.lt_of_not_le ha)
  exact ⟨(h1.moved hW.alike).kept hq', (h2.moved hW.alike).kept hq', fun i hi => (h3 i hi).warm hW⟩
theorem mKK.moved {D : DD} {s U : State} (hW : s.WarmedH U.vm) (hq : ∀ q, q < D.2.1 → U.heap[q]? = s.heap[q]?) (h : mKK D s) : mKK D U := ⟨va_K.moved hW.alike h.1, h.2.1.moved hW.alike, h.2.2.1.moved hW, h.2.2.2.moved hW hq⟩
theorem mKK.calling {D : DD} {U : State} {g : JFrame} {mk : MethodId} {a : Array Value} (h : mKK D U) : mKK D (U.calling g mk a) := by
  have e1 : (U.calling g mk a).vm = U.vm := rfl
  have e2 : (U.calling g mk a).heap = U.heap := rfl
  obtain ⟨h1, h2, h3, h4, h5, h6⟩ := h
  refine ⟨va_K.moved (u := U) (Vm.Alike.refl U.vm) h1, mKA.moved (u := U) (Vm.Alike.refl U.vm) h2, mKN.same e1.symm h3, va_Z.moved (u := U) (Vm.Alike.refl U.vm) h4, vk_S.moved (u := U) (Vm.Alike.refl U.vm) h5, fun i hi => vk_R.same e1 (h6 i hi)⟩
abbrev mG : Type := Program × Launch × Env × Room × State × MethodId × Array Value × List Frame × Method × Code
abbrev mE : Type := mG × DD × Nat × MM × (State → Prop)
/-- the machine at pc, with the flat memory M, the listed locals and the stack, comes to its end -/
def mV (E : mE) (M : MM) (k n pc : Nat) (lv : List (Nat × Value)) (st : List Value) : Prop :=
  ∀ (H : Heap) (locs : List Loc) (ls : Array Slot), mRep E.2.1 M H → mMo E.2.2.2.1 M → (∀ q, q < E.2.1.2.1 → H[q]? = E.1.2.2.2.2.1.heap[q]?) → (∀ q ∈ locs, E.2.1.2.1 ≤ q.base) → lv_has ls E.2.2.1 lv →
    W E.1.1 E.1.2.1 E.1.2.2.1 E.1.2.2.2.1 E.1.2.2.2.2.1 E.1.2.2.2.2.2.1 E.1.2.2.2.2.2.2.1 E.1.2.2.2.2.2.2.2.1 E.1.2.2.2.2.2.2.2.2.1 E.1.2.2.2.2.2.2.2.2.2 H locs k n E.2.2.2.2 (F0 E.1.2.2.2.2.2.1 pc ls st)
/-- what is fixed in a method's body -/
def mC (E : mE) (y : MethodName) (cc : ByteArray) (nL : Nat) (ret : Option FieldType) (rm : Room) : Prop :=
  E.1.1.tables.exec = Jvm.exec ∧ E.1.2.2.2.2.2.2.2.2.2.code = cc ∧ E.1.2.2.2.2.2.2.2.2.2.maxLocals = nL ∧ E.1.2.2.2.2.2.2.2.2.1.sig.returnType = ret ∧ E.1.2.2.2.2.1.vm.findClass y.cls = some E.1.2.2.2.2.2.1.cls ∧ (∀ w ∈ lw_all, w.before E.1.2.2.2.2.2.2.1 E.1.2.2.2.2.1 = true) ∧ E.1.2.2.2.2.2.2.2.2.1.locks = false ∧ mKK E.2.1 E.1.2.2.2.2.1 ∧ E.2.1.2.1 ≤ E.1.2.2.2.2.1.heap.size ∧ E.1.2.2.2.1 = rm ∧ (y.name = "<init>" → E.1.2.2.2.2.2.2.2.2.1.name = "<init>") ∧ E.2.2.1 = nL
/-- a method's start, end, contract -/
def mPre (D : DD) (M : MM) (av : List Value) : Array Value → State → Prop := va_Pc av (fun U => mRep D M U.heap ∧ mKK D U ∧ D.2.1 ≤ U.heap.size)
def mQ (D : DD) (M : MM) (Post : Option Value → MM → Prop) : Array Value → State → Outcome → State → Prop := fun _ st o t => ∃ (r : Option Value) (M' : MM), o = .returned r ∧ Post r M' ∧ mMo M M' ∧ mRep D M' t.heap ∧ ∀ q, q < D.2.1 → t.heap[q]? = st.heap[q]?
def mMet (D : DD) (l : Launch) (y : MethodName) (cc : ByteArray) (nL : Nat) (ret : Option FieldType) (rm : Room) (M : MM) (av : List Value) (Post : Option Value → MM → Prop) : Prop :=
  Met l y (ws_ y cc nL ret) rm (mPre D M av) (mQ D M Post) rm.cells rm.slots (fun q => D.2.1 ≤ q)
def mEnd (E : mE) (rm : Room) (Post : Option Value → MM → Prop) : Prop := E.2.2.2.2 = MQ E.1.2.2.2.2.2.2.2.1 (mQ E.2.1 E.2.2.2.1 Post) E.1.2.2.2.2.2.2.1 E.1.2.2.2.2.1 rm.cells rm.slots (fun q => E.2.1.2.1 ≤ q)
def pI_ (P : Int32 → MM → Prop) : Option Value → MM → Prop := fun r M => ∃ x, r = some (.int x) ∧ P x M
def pL_ (P : Int64 → MM → Prop) : Option Value → MM → Prop := fun r M => ∃ x, r = some (.long x) ∧ P x M
def pR_ (P : Option Nat → MM → Prop) : Option Value → MM → Prop := fun r M => ∃ x, r = some (va_rf x) ∧ P x M
def pV_ (P : MM → Prop) : Option Value → MM → Prop := fun r M => r = none ∧ P M
theorem m_of {D : DD} {l : Launch} {y : MethodName} {cc : ByteArray} {nL : Nat} {ret : Option FieldType} {rm : Room} {M : MM} {av : List Value} {Post : Option Value → MM → Prop} (hy : plainName y.cls = true) (hl : (lg_sl av).length ≤ nL)
    (body : ∀ E : mE, E.2.1 = D → E.1.2.1 = l → mC E y cc nL ret rm → mEnd E rm Post → mV E M 0 0 0 (lv_args 0 av) []) : mMet D l y cc nL ret rm M av Post := by
  refine Met.ofW (cc := cc) (maxL := nL) (ret := ret) hy rfl ?_
  intro p e s m args below meth c s₁ B hml hv
  obtain ⟨rfl, hRep, hKK, hB⟩ := hv
  have hts := atoms_spec (ws := ws_ y cc nL ret) B.pre
  have hown : s.vm.findClass y.cls = some m.cls := findClass_of_methodNamed B.named
  have hnm : meth.name = y.name := (name_of_methodNamed B.named B.method).1
  have hK := body ((p, l, e, (headSpec (ws_ y cc nL ret) rm).room, s, m, av.toArray, below, meth, c), D, nL, M, MQ below (mQ D M Post) av.toArray s rm.cells rm.slots (fun q => D.2.1 ≤ q)) rfl rfl
    ⟨B.exec, B.bytes, hml, B.returns, hown, fun w h => hts w (List.mem_cons_of_mem _ h), B.notSynchronized, hKK, hB, rfl, fun h => hnm.trans h, rfl⟩ rfl
  have hle := lv_entry av (n := nL) hl
  rw [lg_entry_eq]
  exact hK s.heap [] _ hRep mMo.rf (fun _ _ => rfl) (fun q h => by cases h) hle
theorem m_of2 {D : DD} {l : Launch} {y : MethodName} {cc : ByteArray} {nL : Nat} {ret : Option FieldType} {rm : Room} {M : MM} {av : List Value} {Post : Option Value → MM → Prop} (lv0 : List (Nat × Value)) (hy : plainName y.cls = true) (hl : (lg_sl av).length ≤ nL) (hlv : lv_args 0 av = lv0)
    (body : ∀ E : mE, E.2.1 = D → E.1.2.1 = l → mC E y cc nL ret rm → mEnd E rm Post → mV E M 0 0 0 lv0 []) : mMet D l y cc nL ret rm M av Post := by
  subst hlv
  exact m_of hy hl body
