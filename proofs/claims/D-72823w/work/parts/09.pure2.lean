/-! any, all, how many below k; what 'shape' answers -/
set_option maxRecDepth 100000
def anyP (P : Nat → Bool) : Nat → Bool
  | 0 => false
  | k + 1 => P k || anyP P k
def allP (P : Nat → Bool) : Nat → Bool
  | 0 => true
  | k + 1 => P k && allP P k
def ctP (P : Nat → Bool) : Nat → Nat
  | 0 => 0
  | k + 1 => ctP P k + (P k).toNat
theorem anyP_iff {P : Nat → Bool} : ∀ {n : Nat}, anyP P n = true ↔ ∃ k, k < n ∧ P k = true
  | 0 => by simp [anyP]
  | n + 1 => by
    show (P n || anyP P n) = true ↔ _
    rw [Bool.or_eq_true, anyP_iff]
    constructor
    · rintro (h | ⟨k, hk, h⟩)
      · exact ⟨n, by omega, h⟩
      · exact ⟨k, by omega, h⟩
    · rintro ⟨k, hk, h⟩
      rcases Nat.lt_or_ge k n with q | q
      · exact Or.inr ⟨k, q, h⟩
      · rw [show k = n by omega] at h
        exact Or.inl h
theorem allP_iff {P : Nat → Bool} : ∀ {n : Nat}, allP P n = true ↔ ∀ k, k < n → P k = true
  | 0 => by simp [allP]
  | n + 1 => by
    show (P n && allP P n) = true ↔ _
    rw [Bool.and_eq_true, allP_iff]
    constructor
    · rintro ⟨h, h2⟩ k hk
      rcases Nat.lt_or_ge k n with q | q
      · exact h2 k q
      · rw [show k = n by omega]
        exact h
    · intro h
      exact ⟨h n (by omega), fun k hk => h k (by omega)⟩
theorem allP_false {P : Nat → Bool} {b : Bool} {d c : Nat} (h : d ≤ c) (e : (allP P d && b) = false) : (allP P d && b) = (allP P c && b) := by
  rw [e]
  symm
  rcases hb : (allP P c && b)
  · rfl
  · rw [Bool.and_eq_true, allP_iff] at hb
    have : allP P d = true := allP_iff.mpr fun k hk => hb.1 k (by omega)
    rw [this, hb.2] at e
    cases e
theorem ctP_le (P : Nat → Bool) : ∀ n, ctP P n ≤ n
  | 0 => Nat.le_refl 0
  | n + 1 => by
    have h := ctP_le P n
    have h2 : (P n).toNat ≤ 1 := Bool.toNat_le _
    show ctP P n + (P n).toNat ≤ n + 1
    omega
theorem or_t {z y x : Bool} (h : (y || x) = true) : nI 1 = bI ((z || y) || x) := by cases z <;> cases y <;> cases x <;> first | rfl | cases h
theorem or_z {z y x : Bool} (h : z = true) : nI 1 = bI ((z || y) || x) := by rw [h]; rfl
theorem or_f {z y x : Bool} (h : (y || x) = false) (hz : z = false) : nI 0 = bI ((z || y) || x) := by rw [hz, Bool.false_or, h]; rfl
theorem and_e {z y x v : Bool} (h : (y && x) = true) (hz : v = z) : bI v = bI ((z && y) && x) := by
  rw [hz]
  cases z <;> cases y <;> cases x <;> first | rfl | cases h
theorem bI_inj {x y : Bool} (h : bI x = bI y) : x = y := by cases x <;> cases y <;> first | rfl | (exact absurd h (by decide))
theorem sw_out {lo hi : Nat} {x : Int32} (hl : lo < 2 ^ 31) (hh : hi < 2 ^ 31) (h : ¬ inI lo hi x = true) : x.toInt < (lo : Int) ∨ (hi : Int) < x.toInt := by
  unfold inI at h
  rw [Bool.and_eq_true, decide_eq_true_iff, decide_eq_true_iff, Int32.le_iff_toInt_le, Int32.le_iff_toInt_le, nI_toInt hl, nI_toInt hh] at h
  omega
theorem sw_ret {F : Nat → Int32} {hi k : Nat} {d x : Int32} (h : inI 0 hi (nI k) = true) (hk : k < 2 ^ 31) (e : x = F k) : x = (if inI 0 hi (nI k) = true then F ((nI k).toNatClampNeg) else d) := by
  rw [if_pos h, nI_clamp hk]
  exact e
theorem fst_succ (P : Nat → Bool) (f k : Nat) : fst_ P (f + 1) k = if P k then some k else fst_ P f (k + 1) := rfl
/-! shapes -/
def tuG (n S c d : Nat) : Bool := S.testBit c && S.testBit d && decide (cp n S true c true d = 0)
def tuF (n S c : Nat) : Bool := anyP (tuG n S c) c
def tuV (n S : Nat) : Bool := anyP (tuF n S) n
def miG (n S c d : Nat) : Bool := S.testBit c && S.testBit d && decide (cp n S true c false d = 0)
def miF (n S c : Nat) : Bool := anyP (miG n S c) n
def miV (n S : Nat) : Bool := anyP (miF n S) n
def evG (n S c : Nat) : Bool := S.testBit c && decide (cp n S true c false c = 0)
def evV (n S : Nat) : Nat := ctP (evG n S) n
def vwG (n S c d : Nat) : Bool := !(S.testBit d) || !(decide (cp n S (sd n S c) c (sd n S d) d = 0))
def vwF (n S c : Nat) : Bool := allP (vwG n S c) c && S.testBit c
def vwV (n S : Nat) : Nat := ctP (vwF n S) n
def tbG (n S by_ c : Nat) : Bool := S.testBit c == S.testBit ((c + by_) % n)
def tbF (n S by_ : Nat) : Bool := allP (tbG n S by_) n
def tbV (n S : Nat) : Int32 := if S = 0 then -6 else nI ((fst_ (tbF n S) (n - 1) 1).getD n)
def shF (n S : Nat) (k : Nat) : Int32 := match k with
  | 0 => bI (tuV n S)
  | 1 => bI (miV n S)
  | 2 => bI (decide (0 < S) && !(tuV n S) && !(miV n S))
  | 3 => nI (evV n S)
  | 4 => nI (vwV n S)
  | _ => tbV n S
def shR (n S : Nat) (what : Int32) : Int32 := if inI 0 5 what = true then shF n S what.toNatClampNeg else -2
