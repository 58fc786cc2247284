/-! rules in the reference's array; what 'of', 'does', 'count' answer -/
set_option maxRecDepth 100000
def rS (st : Nat → Nat) (r k : Nat) : Nat := st (12 + 6 * r + k)
theorem ft_f0 {n S c : Nat} {tw : Bool} {f : Nat → Nat} (h : 0 < f 0) (h2 : ¬ f 0 = ct S 10) : ft n S c tw f = false := by
  unfold ft
  rw [show (f 0 == 0 || f 0 == ct S 10) = false by simp [h2]; omega]
  simp
theorem ft_f1 {n S c : Nat} {tw : Bool} {f : Nat → Nat} (h : ct S 10 ≤ f 1) : ft n S c tw f = false := by
  unfold ft
  rw [decide_eq_false (show ¬ f 1 < ct S 10 by omega)]
  simp
theorem ft_f5 {n S c : Nat} {tw : Bool} {f : Nat → Nat} (h : f 5 = if tw then 0 else 1) : ft n S c tw f = false := by
  unfold ft
  rw [show (f 5 == 2 || f 5 == tw.toNat) = false by rw [h]; cases tw <;> rfl]
  simp
theorem ft_v {n S c : Nat} {tw : Bool} {f : Nat → Nat} (h0 : f 0 = 0 ∨ f 0 = ct S 10) (h1 : f 1 < ct S 10) (h5 : ¬ f 5 = if tw then 0 else 1) (h6 : f 5 ≤ 2) : ft n S c tw f = (if f 2 = 0 then decide (ga n S (sd n S c) c (f 1) < f 3) else if f 2 = 1 then decide (ga n S (sd n S c) c (f 1) = f 3) else decide (f 3 < ga n S (sd n S c) c (f 1))) := by
  unfold ft
  have a : (f 5 == 2 || f 5 == tw.toNat) = true := by
    rw [Bool.or_eq_true, beq_iff_eq, beq_iff_eq]
    cases tw <;> simp at h5 ⊢ <;> omega
  have b : (f 0 == 0 || f 0 == ct S 10) = true := by
    rw [Bool.or_eq_true, beq_iff_eq, beq_iff_eq]
    exact h0
  rw [a, b, decide_eq_true h1]
  simp
theorem ft_c0t {n S c : Nat} {tw : Bool} {f : Nat → Nat} (h0 : f 0 = 0 ∨ f 0 = ct S 10) (h1 : f 1 < ct S 10) (h5 : ¬ f 5 = if tw then 0 else 1) (h6 : f 5 ≤ 2) (h2 : f 2 = 0) (q : ga n S (sd n S c) c (f 1) < f 3) : ft n S c tw f = true := by rw [ft_v h0 h1 h5 h6, if_pos h2, decide_eq_true q]
theorem ft_c0f {n S c : Nat} {tw : Bool} {f : Nat → Nat} (h0 : f 0 = 0 ∨ f 0 = ct S 10) (h1 : f 1 < ct S 10) (h5 : ¬ f 5 = if tw then 0 else 1) (h6 : f 5 ≤ 2) (h2 : f 2 = 0) (q : f 3 ≤ ga n S (sd n S c) c (f 1)) : ft n S c tw f = false := by rw [ft_v h0 h1 h5 h6, if_pos h2, decide_eq_false (Nat.not_lt.mpr q)]
theorem ft_c1t {n S c : Nat} {tw : Bool} {f : Nat → Nat} (h0 : f 0 = 0 ∨ f 0 = ct S 10) (h1 : f 1 < ct S 10) (h5 : ¬ f 5 = if tw then 0 else 1) (h6 : f 5 ≤ 2) (h2 : f 2 = 1) (q : ga n S (sd n S c) c (f 1) = f 3) : ft n S c tw f = true := by rw [ft_v h0 h1 h5 h6, if_neg (by omega), if_pos h2, decide_eq_true q]
theorem ft_c1f {n S c : Nat} {tw : Bool} {f : Nat → Nat} (h0 : f 0 = 0 ∨ f 0 = ct S 10) (h1 : f 1 < ct S 10) (h5 : ¬ f 5 = if tw then 0 else 1) (h6 : f 5 ≤ 2) (h2 : f 2 = 1) (q : ¬ ga n S (sd n S c) c (f 1) = f 3) : ft n S c tw f = false := by rw [ft_v h0 h1 h5 h6, if_neg (by omega), if_pos h2, decide_eq_false q]
theorem ft_c2t {n S c : Nat} {tw : Bool} {f : Nat → Nat} (h0 : f 0 = 0 ∨ f 0 = ct S 10) (h1 : f 1 < ct S 10) (h5 : ¬ f 5 = if tw then 0 else 1) (h6 : f 5 ≤ 2) (h2 : 0 < f 2) (h3 : ¬ f 2 = 1) (q : f 3 < ga n S (sd n S c) c (f 1)) : ft n S c tw f = true := by rw [ft_v h0 h1 h5 h6, if_neg (by omega), if_neg h3, decide_eq_true q]
theorem ft_c2f {n S c : Nat} {tw : Bool} {f : Nat → Nat} (h0 : f 0 = 0 ∨ f 0 = ct S 10) (h1 : f 1 < ct S 10) (h5 : ¬ f 5 = if tw then 0 else 1) (h6 : f 5 ≤ 2) (h2 : 0 < f 2) (h3 : ¬ f 2 = 1) (q : ga n S (sd n S c) c (f 1) ≤ f 3) : ft n S c tw f = false := by rw [ft_v h0 h1 h5 h6, if_neg (by omega), if_neg h3, decide_eq_false (Nat.not_lt.mpr q)]
theorem fst_lt {P : Nat → Bool} : ∀ {f k r : Nat}, fst_ P f k = some r → k ≤ r ∧ r < k + f ∧ P r = true ∧ ∀ j, k ≤ j → j < r → P j = false
  | 0, k, r, h => by cases h
  | f + 1, k, r, h => by
    rw [fst_succ] at h
    by_cases hp : P k = true
    · rw [if_pos hp] at h
      cases h
      exact ⟨Nat.le_refl _, by omega, hp, fun j a b => absurd b (by omega)⟩
    · rw [if_neg hp] at h
      obtain ⟨a, b, c, d⟩ := fst_lt h
      refine ⟨by omega, by omega, c, fun j x y => ?_⟩
      rcases Nat.lt_or_ge k j with q | q
      · exact d j q y
      · rw [show j = k by omega]
        exact Bool.eq_false_iff.mpr hp
theorem fst_congr {P Q : Nat → Bool} : ∀ {f k : Nat}, (∀ j, k ≤ j → j < k + f → P j = Q j) → fst_ P f k = fst_ Q f k
  | 0, _, _ => rfl
  | f + 1, k, h => by
    rw [fst_succ, fst_succ, h k (Nat.le_refl _) (by omega), fst_congr (fun j a b => h j (by omega) (by omega))]
theorem rl_lt {n S c : Nat} {tw : Bool} {many : Nat} {ru : Nat → Nat → Nat} {r : Nat} (h : rl n S c tw many ru = some r) : r < many := by
  have := (fst_lt h).2.1
  omega
theorem dI_eq1 {b : Bool} : dI b = nI 1 ↔ b = true := by cases b <;> decide
theorem dI_neg (b : Bool) : -(dI b) = dI (!b) := by cases b <;> decide
def doF (n S j : Nat) (tw : Bool) (many : Nat) (ru : Nat → Nat → Nat) (k : Nat) : Int32 := match k with
  | 0 => bI (sd n S j)
  | 1 => bI (decide (cp n S true j false j = 0))
  | 2 => oI (rl n S j tw many ru)
  | 3 => nI (dn ru (rl n S j tw many ru))
  | _ => nI (gt_ n S j (dn ru (rl n S j tw many ru)))
def doR (n : Nat) (w : Nat → Nat) (many : Nat) (ru : Nat → Nat → Nat) (v what : Int32) : Int32 := if isSt n w v = true then (if inI 0 4 what = true then doF n (SS n w) v.toNatClampNeg (decide (1 < w v.toNatClampNeg)) many ru what.toNatClampNeg else -2) else -1
def ofR (many : Nat) (ru : Nat → Nat → Nat) (v what : Int32) : Int32 := if inL many v = true then (if inI 0 5 what = true then nI (ru v.toNatClampNeg what.toNatClampNeg) else -2) else -1
def mb (k s M : Nat) : Bool := if k = 0 then decide (s &&& (s - 1) = 0) else (decide (k = 2) || decide (s = M))
def met (n code : Nat) : Bool := decide (ct (stS n code) 10 = 1)
def kd (m : Bool) (l s : Option Nat) : Nat := if m then 0 else if l.isSome then 1 else if s.isSome then 2 else 3
theorem stS_lt {n : Nat} (h : n ≤ 10) (code : Nat) : stS n code < 1024 := bs_lt10 _ h
def sgl (n S : Nat) : Nat := sm (fun c => p3 c * (S.testBit c).toNat) n
def TT (n : Nat) (w : Nat → Nat) : Nat := bs (fun c => decide (1 < w c)) n
def coF (n : Nat) (w : Nat → Nat) (many : Nat) (kp : Nat → Bool) (k : Nat) : Int32 := match k with
  | 0 => nI n
  | 1 => nI (sm w 10)
  | 2 => nI (SS n w)
  | 3 => nI (TT n w)
  | 4 => nI many
  | _ => nI ((kp 0).toNat + 2 * (kp 1).toNat)
def coR (n : Nat) (w : Nat → Nat) (many : Nat) (kp : Nat → Bool) (what : Int32) : Int32 := if inI 10 19 what = true then nI (w (what.toNatClampNeg - 10)) else if inI 0 5 what = true then coF n w many kp what.toNatClampNeg else -2
theorem SS_lt31 {n : Nat} (h : n ≤ 10) (w : Nat → Nat) : cdw w n < 2 ^ 31 := Nat.lt_of_lt_of_le (cdw_lt _ _) (Nat.le_trans (p3_le h) (by decide))
theorem dn_lt {st : Nat → Nat} (h : ∀ j, st j < 2 ^ 31) (o : Option Nat) : dn (rS st) o < 2 ^ 31 := by
  cases o with
  | none => exact (by decide : 0 < 2 ^ 31)
  | some r => exact h _
