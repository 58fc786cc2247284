/-! one step of some; a state's moves; what comes behind a step -/
set_option maxRecDepth 100000
theorem nI_xm1 {S z i : Nat} (h : nI z &&& (nI S ^^^ (-1)) = 0) (hi : i < 32) (hz : z.testBit i = true) : S.testBit i = true := by
  have h1 := congrArg (fun x : Int32 => x.toBitVec.getLsbD i) h
  simp only [Int32.toBitVec_and, Int32.toBitVec_xor, BitVec.getLsbD_and, BitVec.getLsbD_xor] at h1
  have a : (nI z).toBitVec.getLsbD i = true := by
    show (BitVec.ofNat 32 z).getLsbD i = true
    rw [BitVec.getLsbD_ofNat]
    simp [hi, hz]
  have b : (nI S).toBitVec.getLsbD i = S.testBit i := by
    show (BitVec.ofNat 32 S).getLsbD i = _
    rw [BitVec.getLsbD_ofNat]
    simp [hi]
  have c : (-1 : Int32).toBitVec.getLsbD i = true := (by decide +kernel : ∀ i, i < 32 → (-1 : Int32).toBitVec.getLsbD i = true) i hi
  have d : (0 : Int32).toBitVec.getLsbD i = false := BitVec.getLsbD_zero
  rw [a, b, c, d] at h1
  cases hS : S.testBit i
  · rw [hS] at h1
    cases h1
  · rfl
/-- a set of stands of which 'step' asks -/
def stepB (S : Nat) (v : Int32) : Bool := decide (¬ v < 0) && decide (v &&& (nI S ^^^ (-1)) = 0)
theorem stepB_iff {S : Nat} {v : Int32} (hS : S < 1024) (h : stepB S v = true) : ∃ z, z < 1024 ∧ v = nI z := by
  unfold stepB at h
  rw [Bool.and_eq_true, decide_eq_true_iff, decide_eq_true_iff] at h
  obtain ⟨z, hz, rfl⟩ := nI_of h.1
  refine ⟨z, ?_, rfl⟩
  have : z < 2 ^ 10 := by
    apply Nat.lt_pow_two_of_testBit
    intro i hi
    rcases Nat.lt_or_ge i 32 with q | q
    · cases hb : z.testBit i
      · rfl
      · have h2 := nI_xm1 h.2 q hb
        have h3 : S.testBit i = false := Nat.testBit_lt_two_pow (Nat.lt_of_lt_of_le hS (show 2 ^ 10 ≤ 2 ^ i from Nat.pow_le_pow_right (by decide) hi))
        rw [h3] at h2
        cases h2
    · exact Nat.testBit_lt_two_pow (Nat.lt_of_lt_of_le hz (Nat.pow_le_pow_right (by decide) (by omega)))
  exact this
def stT (n S z : Nat) (w : Nat → Nat) (many : Nat) (ru : Nat → Nat → Nat) (c : Nat) : Nat := gt_ n S c (if z.testBit c then dn ru (rl n S c (decide (1 < w c)) many ru) else 0)
/-- who stands where behind the step, the first k cells gone through -/
def stW (S : Nat) (w t : Nat → Nat) : Nat → Nat → Nat
  | 0 => fun _ => 0
  | k + 1 => if S.testBit k then va_up (stW S w t k) (t k) (stW S w t k (t k) + w k) else stW S w t k
theorem stW_succ_t {S : Nat} {w t : Nat → Nat} {k : Nat} (h : S.testBit k = true) : stW S w t (k + 1) = va_up (stW S w t k) (t k) (stW S w t k (t k) + w k) := by
  show (if S.testBit k then _ else _) = _
  rw [if_pos h]
theorem stW_succ_f {S : Nat} {w t : Nat → Nat} {k : Nat} (h : S.testBit k = false) : stW S w t (k + 1) = stW S w t k := by
  show (if S.testBit k then _ else _) = _
  rw [if_neg (by rw [h]; decide)]
theorem stW_le (S : Nat) (w t : Nat → Nat) : ∀ k j, stW S w t k j ≤ sm w k
  | 0, _ => Nat.le_refl 0
  | k + 1, j => by
    show _ ≤ sm w k + w k
    cases h : S.testBit k
    · rw [stW_succ_f h]
      have := stW_le S w t k j
      omega
    · rw [stW_succ_t h]
      unfold va_up
      have h1 := stW_le S w t k j
      have h2 := stW_le S w t k (t k)
      split <;> omega
theorem sm_mono (f : Nat → Nat) {a b : Nat} (h : a ≤ b) : sm f a ≤ sm f b := by
  obtain ⟨d, rfl⟩ := Nat.exists_eq_add_of_le h
  induction d with
  | zero => exact Nat.le_refl _
  | succ d ih =>
    have : sm f (a + (d + 1)) = sm f (a + d) + f (a + d) := rfl
    have := ih (Nat.le_add_right _ _)
    omega
def stepW (n : Nat) (w : Nat → Nat) (many : Nat) (ru : Nat → Nat → Nat) (z : Nat) : Nat → Nat := stW (SS n w) w (stT n (SS n w) z w many ru) n
def stepR (n : Nat) (w : Nat → Nat) (many : Nat) (ru : Nat → Nat → Nat) (v : Int32) : Int32 := if stepB (SS n w) v = true then nI (ct (SS n (stepW n w many ru v.toNatClampNeg)) 10) else -2
theorem SS_congr {n : Nat} {w w' : Nat → Nat} (h : ∀ c, c < n → w c = w' c) : SS n w = SS n w' := bs_congr fun c hc => by rw [h c hc]
theorem gt_lt {n S c d : Nat} (hn : 0 < n) (hc : c < n) : gt_ n S c d < n := by
  unfold gt_
  split
  · exact hc
  · split <;> exact it_lt hn _ _ _
/-! moves of a state -/
section MV
variable (n many : Nat) (ru : Nat → Nat → Nat) (bl : Bool) (code : Nat)
def twC (c : Nat) : Bool := !bl && decide (tg code c = 2)
def rlC (c : Nat) : Option Nat := rl n (stS n code) c (twC bl code c) many ru
def toC (c : Nat) : Nat := gt_ n (stS n code) c (dn ru (rlC n many ru bl code c))
def mvD (c : Nat) : Nat := if (stS n code).testBit c then (if toC n many ru bl code c = c then 0 else if toC n many ru bl code c = it n true c 1 then 1 else 2) else 0
def mvC : Nat := if ct (stS n code) 10 < 2 then 0 else sm (fun c => p3 c * mvD n many ru bl code c) n
def usD (c : Nat) : Nat := if (stS n code).testBit c then (match rlC n many ru bl code c with
  | some r => if 1 < ct (stS n code) 10 then 2 ^ r else 0
  | none => 0) else 0
def usC : Nat → Nat
  | 0 => 0
  | k + 1 => usC k ||| usD n many ru bl code k
end MV
theorem mvD_le (n many : Nat) (ru : Nat → Nat → Nat) (bl : Bool) (code c : Nat) : mvD n many ru bl code c ≤ 2 := by
  unfold mvD
  split
  · split
    · exact Nat.zero_le _
    · split <;> decide
  · exact Nat.zero_le _
theorem mvC_lt (n many : Nat) (ru : Nat → Nat → Nat) (bl : Bool) (code : Nat) : mvC n many ru bl code < p3 n := by
  unfold mvC
  split
  · exact p3_pos n
  · exact sm_lt3 (mvD_le n many ru bl code) n
/-! behind a step of the set z -/
def bsTo (n mvc z c : Nat) : Nat := if (if z.testBit c then tg mvc c else 0) = 0 then c else it n (decide ((if z.testBit c then tg mvc c else 0) = 1)) c 1
def bsD (n code mvc z : Nat) : Nat → Nat → Nat
  | 0 => fun _ => 0
  | k + 1 => if 0 < tg code k then va_up (bsD n code mvc z k) (bsTo n mvc z k) (if 0 < bsD n code mvc z k (bsTo n mvc z k) then 2 else tg code k) else bsD n code mvc z k
def bstep (n code mvc z : Nat) : Nat := sm (fun c => p3 c * bsD n code mvc z n c) n
theorem bsTo_lt {n mvc z c : Nat} (hn : 0 < n) (hc : c < n) : bsTo n mvc z c < n := by
  unfold bsTo
  by_cases h : (if z.testBit c then tg mvc c else 0) = 0
  · rw [if_pos h]
    exact hc
  · rw [if_neg h]
    exact it_lt hn _ _ _
theorem bsD_le (n code mvc z : Nat) : ∀ k j, bsD n code mvc z k j ≤ 2
  | 0, _ => Nat.zero_le _
  | k + 1, j => by
    show (if 0 < tg code k then va_up _ _ _ else _) j ≤ 2
    have h1 := bsD_le n code mvc z k j
    have h2 := tg_lt code k
    split
    · unfold va_up
      split
      · split <;> omega
      · exact h1
    · exact h1
theorem bstep_lt (n code mvc z : Nat) : bstep n code mvc z < p3 n := sm_lt3 (fun c => bsD_le n code mvc z n c) n
theorem bsD_t {n code mvc z k : Nat} (h : 0 < tg code k) : bsD n code mvc z (k + 1) = va_up (bsD n code mvc z k) (bsTo n mvc z k) (if 0 < bsD n code mvc z k (bsTo n mvc z k) then 2 else tg code k) := by
  show (if 0 < tg code k then _ else _) = _
  rw [if_pos h]
theorem bsD_f {n code mvc z k : Nat} (h : tg code k = 0) : bsD n code mvc z (k + 1) = bsD n code mvc z k := by
  show (if 0 < tg code k then _ else _) = _
  rw [if_neg (by omega)]
