/-! the net: its cell beside the component's; pure words of its methods -/
set_option maxRecDepth 100000
def nW (q sch : Nat) (b ra : Nat → Nat) (cA : Nat → ClassId) (bl : Bool) (ns nk nz : Nat) (cN : Nat → Nat) (cV : Nat → Nat → Nat) (cM : Nat → Nat) (cR : Nat → Nat → Nat) (kp : Nat → Bool) (nu : Nat → Option Nat) (sO tO fS sP : Nat → Nat) (sN lA : Nat → Option Nat) (tG : Nat → Nat) : va_W :=
  (q, .inr (9, [.ref sch, .int (bI bl), .int (nI ns), .int (nI nk), .int (nI nz), .ref (b 0)])) :: cW b ra cA cN cV cM cR kp nu sO tO fS sP sN lA tG
theorem va_P_tl {D : va_G} {x : Nat × va_E} {ws : va_W} {H : Heap} (hP : va_P D xCl (x :: ws) H) : va_P D xCl ws H := fun k q h => hP (k + 1) q h
theorem rm_decR (x : Int32) : x + Int32.ofInt (-1) = x - nI 1 := by
  have h : Int32.ofInt (-1) = -1 := by decide
  have h2 : nI 1 = 1 := rfl
  rw [h, h2]
  grind
theorem nI_m1_lt {i : Nat} (h : i < 2 ^ 31) : nI i - nI 1 < 0 ↔ i = 0 := by
  constructor
  · intro q
    rcases Nat.eq_zero_or_pos i with e | e
    · exact e
    · rw [pk_sub e] at q
      exact absurd q (nI_pos (by omega))
  · intro q
    subst q
    decide
theorem sm_shift (f : Nat → Nat) : ∀ m, sm (fun c => p3 c * f c) (m + 1) = f 0 + 3 * sm (fun c => p3 c * f (c + 1)) m
  | 0 => by
    show 0 + p3 0 * f 0 = f 0 + 3 * 0
    have : p3 0 = 1 := rfl
    rw [this]
    omega
  | m + 1 => by
    have ih := sm_shift f m
    show sm (fun c => p3 c * f c) (m + 1) + p3 (m + 1) * f (m + 1) = f 0 + 3 * (sm (fun c => p3 c * f (c + 1)) m + p3 m * f (m + 1))
    rw [ih, p3_succ, Nat.mul_add, ← Nat.mul_assoc 3, Nat.mul_comm 3 (p3 m)]
    omega
/-- the number of a state out of its stands and its towers -/
def dST (S T c : Nat) : Nat := (S.testBit c).toNat + (T.testBit c).toNat
def cdS (n S T : Nat) : Nat := sm (fun c => p3 c * dST S T c) n
theorem dST_le (S T c : Nat) : dST S T c ≤ 2 := by
  unfold dST
  have h1 := Bool.toNat_le (S.testBit c)
  have h2 := Bool.toNat_le (T.testBit c)
  omega
theorem cdS_lt (n S T : Nat) : cdS n S T < p3 n := sm_lt3 (dST_le S T) n
theorem cdS_step {S T n i : Nat} (hi : 1 ≤ i) (hn : i ≤ n) : 3 * sm (fun c => p3 c * dST S T (i + c)) (n - i) + (S.testBit (i - 1)).toNat + (T.testBit (i - 1)).toNat = sm (fun c => p3 c * dST S T (i - 1 + c)) (n - (i - 1)) := by
  rw [show n - (i - 1) = (n - i) + 1 by omega, sm_shift (fun c => dST S T (i - 1 + c))]
  have : ∀ c, dST S T (i - 1 + (c + 1)) = dST S T (i + c) := fun c => by rw [show i - 1 + (c + 1) = i + c by omega]
  rw [show (fun c => p3 c * dST S T (i - 1 + (c + 1))) = (fun c => p3 c * dST S T (i + c)) from funext fun c => by rw [this c]]
  show _ = dST S T (i - 1) + _
  unfold dST
  omega
section NM
variable (n many : Nat) (ru : Nat → Nat → Nat) (bl : Bool) (S T : Nat)
def nrl (c : Nat) : Option Nat := rl n S c (Nat.testBit (if bl then 0 else T) c) many ru
def nmD (c : Nat) : Bool := S.testBit c && decide (0 < dn ru (nrl n many ru bl S T c))
def nmv : Nat := bs (nmD n many ru bl S T) n
def nuD (c : Nat) : Nat := if S.testBit c then (match nrl n many ru bl S T c with
  | some r => 2 ^ r
  | none => 0) else 0
def nus : Nat → Nat
  | 0 => 0
  | k + 1 => nus k ||| nuD n many ru bl S T k
end NM
/-- a step's stands and towers, the first k cells gone through -/
def nst (S T z : Nat) (t : Nat → Nat) : Nat → Nat × Nat
  | 0 => (0, 0)
  | k + 1 => if S.testBit k then ((nst S T z t k).1 ||| 2 ^ (if z.testBit k then t k else k), (nst S T z t k).2 ||| (((nst S T z t k).1 &&& 2 ^ (if z.testBit k then t k else k)) ||| (if T.testBit k then 2 ^ (if z.testBit k then t k else k) else 0))) else nst S T z t k
theorem nst_lt {n S T z : Nat} {t : Nat → Nat} (hn : n ≤ 10) (ht : ∀ c, c < n → S.testBit c = true → t c < 10) : ∀ {k : Nat}, k ≤ n → (nst S T z t k).1 < 1024 ∧ (nst S T z t k).2 < 1024
  | 0, _ => ⟨by decide, by decide⟩
  | k + 1, h => by
    obtain ⟨a, b⟩ := nst_lt (T := T) (z := z) hn ht (show k ≤ n by omega)
    show (if S.testBit k then _ else nst S T z t k).1 < 1024 ∧ (if S.testBit k then _ else nst S T z t k).2 < 1024
    by_cases q : S.testBit k = true
    · rw [if_pos q]
      have hto : (if z.testBit k then t k else k) < 10 := by
        split
        · exact ht k (by omega) q
        · omega
      have hp : 2 ^ (if z.testBit k then t k else k) < 2 ^ 10 := Nat.pow_lt_pow_right (by decide) hto
      have or10 : ∀ {x y : Nat}, x < 2 ^ 10 → y < 2 ^ 10 → x ||| y < 2 ^ 10 := fun h1 h2 => Nat.or_lt_two_pow h1 h2
      refine ⟨or10 a hp, or10 b (or10 (Nat.lt_of_le_of_lt Nat.and_le_left a) ?_)⟩
      split
      · exact hp
      · decide
    · rw [if_neg q]
      exact ⟨a, b⟩
