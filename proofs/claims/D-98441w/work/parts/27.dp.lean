/-! sums of longs; the weights' linear algebra -/
set_option maxRecDepth 100000
def sm : Nat → (Nat → Int64) → Int64
  | 0, _ => 0
  | n + 1, g => sm n g + g n
theorem sm_congr {n : Nat} {g h : Nat → Int64} (e : ∀ i, i < n → g i = h i) : sm n g = sm n h := by
  induction n with
  | zero => rfl
  | succ n ih => unfold sm; rw [ih (fun i hi => e i (by omega)), e n (by omega)]
theorem sm_zero {n : Nat} {g : Nat → Int64} (e : ∀ i, i < n → g i = 0) : sm n g = 0 := by
  induction n with
  | zero => rfl
  | succ n ih => unfold sm; rw [ih (fun i hi => e i (by omega)), e n (by omega)]; rfl
theorem L_ac (a b c d : Int64) : (a + b) + (c + d) = (a + c) + (b + d) := by
  rw [Int64.add_assoc, Int64.add_assoc, ← Int64.add_assoc b c d, Int64.add_comm b c, Int64.add_assoc c b d]
theorem sm_add {n : Nat} {g h : Nat → Int64} : sm n (fun i => g i + h i) = sm n g + sm n h := by
  induction n with
  | zero => rfl
  | succ n ih => unfold sm; rw [ih]; exact L_ac _ _ _ _
theorem sm_mul {n : Nat} {g : Nat → Int64} {c : Int64} : sm n (fun i => g i * c) = sm n g * c := by
  induction n with
  | zero => unfold sm; rw [Int64.zero_mul]
  | succ n ih => unfold sm; rw [ih, Int64.add_mul]
theorem sm_swap {n m : Nat} {g : Nat → Nat → Int64} : sm n (fun i => sm m (fun j => g i j)) = sm m (fun j => sm n (fun i => g i j)) := by
  induction n with
  | zero => exact (sm_zero (fun _ _ => rfl)).symm
  | succ n ih =>
    show sm n (fun i => sm m (fun j => g i j)) + sm m (fun j => g n j) = sm m (fun j => sm n (fun i => g i j) + g n j)
    rw [ih]; exact (sm_add (g := fun j => sm n (fun i => g i j)) (h := fun j => g n j)).symm
theorem sm_delta {n k : Nat} {g : Nat → Int64} (hk : k < n) : sm n (fun i => if i = k then g i else 0) = g k := by
  induction n with
  | zero => omega
  | succ n ih =>
    unfold sm
    by_cases e : k = n
    · subst e
      rw [sm_zero (fun i hi => if_neg (by omega))]
      simp
    · rw [ih (by omega)]
      dsimp only
      rw [if_neg (by omega), Int64.add_zero]
theorem sm_split {a b : Nat} {g : Nat → Int64} : sm (a * b) g = sm a (fun i => sm b (fun j => g (b * i + j))) := by
  have h2 : ∀ n m (h : Nat → Int64), sm (n + m) h = sm n h + sm m (fun j => h (n + j)) := by
    intro n m h
    induction m with
    | zero => show _ = _ + (0 : Int64); rw [Int64.add_zero]; rfl
    | succ m ih =>
      show sm (n + m) h + h (n + m) = sm n h + (sm m (fun j => h (n + j)) + h (n + m))
      rw [ih, Int64.add_assoc]
  induction a with
  | zero => rw [Nat.zero_mul]; rfl
  | succ a ih =>
    rw [Nat.add_mul, Nat.one_mul, h2, ih]
    show _ = sm a _ + sm b _
    rw [Nat.mul_comm b a]
/-- who comes: a column of weights by how wet -/
def colV (t u : Int64) (to : Nat → Nat) (V : Nat → Int64) : Nat → Int64 := fun f' => sm 25 (fun g => (if to g = f' then V g * t else 0) + (if g = f' then V g * u else 0))
theorem colV_sum {n : Nat} {t u : Int64} {to : Nat → Nat} {V : Nat → Nat → Int64} {f' : Nat} : colV t u to (fun g => sm n (fun j => V j g)) f' = sm n (fun j => colV t u to (V j) f') := by
  unfold colV
  rw [sm_swap]
  refine sm_congr (fun g hg => ?_)
  have h1 : ∀ (c : Prop) [Decidable c] (x : Int64), sm n (fun j => if c then V j g * x else 0) = if c then sm n (fun j => V j g) * x else 0 := by
    intro c _ x
    by_cases e : c
    · simp only [if_pos e]; exact sm_mul
    · simp only [if_neg e]; exact sm_zero (fun _ _ => rfl)
  rw [sm_add, h1, h1]
theorem colV_congr {t u : Int64} {to : Nat → Nat} {V V' : Nat → Int64} (h : ∀ g, g < 25 → V g = V' g) : colV t u to V = colV t u to V' := by
  funext f'
  unfold colV
  exact sm_congr (fun g hg => by rw [h g hg])
/-- all who come, in their order -/
def pV (t u : Nat → Int64) (to : Nat → Nat → Nat) : Nat → (Nat → Int64) → (Nat → Int64)
  | 0, V => V
  | m + 1, V => colV (t m) (u m) (to m) (pV t u to m V)
theorem pV_sum {t u : Nat → Int64} {to : Nat → Nat → Nat} {n : Nat} {V : Nat → Nat → Int64} : ∀ m f', pV t u to m (fun g => sm n (fun j => V j g)) f' = sm n (fun j => pV t u to m (V j) f') := by
  intro m
  induction m with
  | zero => intro f'; rfl
  | succ m ih =>
    intro f'
    show colV (t m) (u m) (to m) (pV t u to m (fun g => sm n (fun j => V j g))) f' = sm n (fun j => colV (t m) (u m) (to m) (pV t u to m (V j)) f')
    rw [show pV t u to m (fun g => sm n (fun j => V j g)) = (fun g => sm n (fun j => pV t u to m (V j) g)) from funext (ih)]
    exact colV_sum
theorem pV_congr {t u : Nat → Int64} {to : Nat → Nat → Nat} {V V' : Nat → Int64} (h : ∀ g, g < 25 → V g = V' g) : ∀ m f', f' < 25 → pV t u to m V f' = pV t u to m V' f' := by
  intro m
  induction m with
  | zero => intro f' hf; exact h f' hf
  | succ m ih => intro f' _; exact congrFun (colV_congr (fun g hg => ih g hg)) f'
/-- a start at one wetness -/
def dlt (f0 : Nat) (x : Int64) : Nat → Int64 := fun g => if g = f0 then x else 0
theorem pV_dlt {t u : Nat → Int64} {to : Nat → Nat → Nat} {w : Nat → Int64} {m f' : Nat} (hf : f' < 25) : sm 25 (fun f0 => pV t u to m (dlt f0 (w f0)) f') = pV t u to m w f' := by
  rw [← pV_sum (V := fun f0 => dlt f0 (w f0)) m f']
  refine pV_congr (fun g hg => ?_) m f' hf
  have := sm_delta (n := 25) (k := g) (g := w) hg
  rw [← this]
  refine sm_congr (fun i hi => ?_)
  unfold dlt
  by_cases e : g = i
  · rw [if_pos e, if_pos e.symm]
  · rw [if_neg e, if_neg (fun x => e x.symm)]
theorem pV_0 {t u : Nat → Int64} {to : Nat → Nat → Nat} {V : Nat → Int64} (h : ∀ g, g < 25 → V g = 0) : ∀ m f', f' < 25 → pV t u to m V f' = 0 := by
  intro m
  induction m with
  | zero => intro f' hf; exact h f' hf
  | succ m ih =>
    intro f' _
    refine sm_zero (fun g hg => ?_)
    rw [ih g hg, Int64.zero_mul, Int64.zero_mul]; simp
/-- what the ends of days lay at a place: 500 is dead -/
def sunK (de : Nat → Nat → Nat → Nat) (f s k : Nat) (x : Int64) : Int64 := (if de 1 f s = k then x * 5 else 0) + (if de 0 f s = k then x * 5 else 0)
theorem sunK_sm {de : Nat → Nat → Nat → Nat} {f s k n : Nat} {x : Nat → Int64} : sunK de f s k (sm n x) = sm n (fun j => sunK de f s k (x j)) := by
  unfold sunK
  rw [sm_add]
  have h1 : ∀ (c : Prop) [Decidable c], sm n (fun j => if c then x j * 5 else 0) = if c then sm n x * 5 else 0 := by
    intro c _
    by_cases e : c
    · simp only [if_pos e]; exact sm_mul
    · simp only [if_neg e]; exact sm_zero (fun _ _ => rfl)
  rw [h1, h1]
theorem sunK_0 {de : Nat → Nat → Nat → Nat} {f s k : Nat} : sunK de f s k 0 = 0 := by
  unfold sunK; rw [Int64.zero_mul]; simp
/-- a day's weights: the component's way, by states -/
def dayW (t u : Nat → Int64) (to : Nat → Nat → Nat → Nat) (de : Nat → Nat → Nat → Nat) (m : Nat) (w : Nat → Int64) : Nat → Int64 := fun k => sm 25 (fun f => sm 20 (fun s => sunK de f s k (pV t u (fun i => to i s) m (fun g => w (20 * g + s)) f)))
/-- the model's way, by start states -/
theorem dayW_start {t u : Nat → Int64} {to : Nat → Nat → Nat → Nat} {de : Nat → Nat → Nat → Nat} {m : Nat} {w : Nat → Int64} {k : Nat} : sm 500 (fun q => sm 25 (fun f => sunK de f (q % 20) k (pV t u (fun i => to i (q % 20)) m (dlt (q / 20) (w q)) f))) = dayW t u to de m w k := by
  rw [show 500 = 25 * 20 from rfl, sm_split]
  unfold dayW
  have h1 : ∀ f0 s, s < 20 → sm 25 (fun f => sunK de f ((20 * f0 + s) % 20) k (pV t u (fun i => to i ((20 * f0 + s) % 20)) m (dlt ((20 * f0 + s) / 20) (w (20 * f0 + s))) f)) = sm 25 (fun f => sunK de f s k (pV t u (fun i => to i s) m (dlt f0 (w (20 * f0 + s))) f)) := by
    intro f0 s hs
    have e1 : (20 * f0 + s) % 20 = s := by omega
    have e2 : (20 * f0 + s) / 20 = f0 := by omega
    rw [e1, e2]
  rw [sm_congr (fun f0 _ => sm_congr (fun s hs => h1 f0 s hs))]
  rw [sm_swap]
  have h2 : ∀ s, s < 20 → sm 25 (fun f0 => sm 25 (fun f => sunK de f s k (pV t u (fun i => to i s) m (dlt f0 (w (20 * f0 + s))) f))) = sm 25 (fun f => sunK de f s k (pV t u (fun i => to i s) m (fun g => w (20 * g + s)) f)) := by
    intro s hs
    rw [sm_swap]
    refine sm_congr (fun f hf => ?_)
    rw [← pV_dlt (w := fun g => w (20 * g + s)) hf, sunK_sm]
  rw [sm_congr h2, sm_swap]
