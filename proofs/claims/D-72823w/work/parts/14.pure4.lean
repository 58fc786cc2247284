/-! what the writing methods of the reference do to its array -/
set_option maxRecDepth 100000
def ringR (n : Nat) (v : Int32) : Int32 := if inI 3 10 v = true then nI n else -2
def ringS (st : Nat → Nat) (v : Int32) : Nat → Nat := fun j => if inI 3 10 v = true then (if j = 0 then v.toNatClampNeg else if j ≤ 10 then 0 else st j) else st j
def standR (n : Nat) (w : Nat → Nat) (v k : Int32) : Int32 := if inL n v = true then (if inI 0 5 k = true then (if sm w 10 - w v.toNatClampNeg + k.toNatClampNeg ≤ 5 then nI (w v.toNatClampNeg) else -4) else -2) else -1
def standB (n : Nat) (w : Nat → Nat) (v k : Int32) : Bool := inL n v && inI 0 5 k && decide (sm w 10 - w v.toNatClampNeg + k.toNatClampNeg ≤ 5)
def standS (st : Nat → Nat) (v k : Int32) : Nat → Nat := fun j => if standB (st 0) (fun c => st (1 + c)) v k = true ∧ j = 1 + v.toNatClampNeg then k.toNatClampNeg else st j
theorem sm_ge (f : Nat → Nat) {k : Nat} : ∀ {n : Nat}, k < n → f k ≤ sm f n
  | 0, h => absurd h (Nat.not_lt_zero k)
  | n + 1, h => by
    show f k ≤ sm f n + f n
    rcases Nat.lt_or_ge k n with q | q
    · have := sm_ge f q
      omega
    · rw [show k = n by omega]
      omega
def ruleB (a b c d e : Int32) : Bool := inI 0 5 a && inI 0 4 b && inI 0 2 c && inI 1 10 d && inI 0 2 e
def ruleR (many : Nat) (a b c d e : Int32) : Int32 := if ruleB a b c d e = true then (if many = 10 then -4 else nI many) else -2
def rv (a b c d e : Int32) (k : Nat) : Nat := match k with
  | 0 => a.toNatClampNeg
  | 1 => b.toNatClampNeg
  | 2 => c.toNatClampNeg
  | 3 => d.toNatClampNeg
  | 4 => e.toNatClampNeg
  | _ => 2
def ruleS (st : Nat → Nat) (a b c d e : Int32) : Nat → Nat := fun j => if ruleB a b c d e = true ∧ ¬ st 11 = 10 then (if j = 11 then st 11 + 1 else if 12 + 6 * st 11 ≤ j ∧ j < 12 + 6 * st 11 + 6 then rv a b c d e (j - (12 + 6 * st 11)) else st j) else st j
def whomR (many : Nat) (ru : Nat → Nat → Nat) (v k : Int32) : Int32 := if inL many v = true then (if inI 0 2 k = true then nI (ru v.toNatClampNeg 5) else -2) else -1
def whomS (st : Nat → Nat) (v k : Int32) : Nat → Nat := fun j => if (inL (st 11) v && inI 0 2 k) = true ∧ j = 12 + 6 * v.toNatClampNeg + 5 then k.toNatClampNeg else st j
def dropR (many : Nat) (v : Int32) : Int32 := if inL many v = true then nI (many - 1) else -1
def dropS (st : Nat → Nat) (v : Int32) : Nat → Nat := fun j => if inL (st 11) v = true then (if j = 11 then st 11 - 1 else if 12 + 6 * v.toNatClampNeg ≤ j ∧ j + 6 < 72 then st (j + 6) else st j) else st j
def imgR (v : Int32) : Int32 := if inI 0 1 v = true then 1 else -2
def resR (kp : Nat → Bool) (v : Int32) : Int32 := if inI 0 1 v = true then (if kp v.toNatClampNeg = true then 1 else -3) else -2
theorem inI_nI {lo hi j : Nat} (hl : lo < 2 ^ 31) (hn : hi < 2 ^ 31) (h1 : lo ≤ j) (h2 : j ≤ hi) : inI lo hi (nI j) = true := (inI_iff hn hl).mpr ⟨j, h1, h2, rfl⟩
