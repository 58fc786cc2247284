/-! the component's words against the pure ones -/
set_option maxRecDepth 100000
theorem ft_x {n S c : Nat} {tw : Bool} {f : Nat → Nat} (h5 : (f 5 == 2 || f 5 == tw.toNat) = true) (h0 : f 0 = 0 ∨ f 0 = ct S 10) (h1 : f 1 < ct S 10) : ft n S c tw f = (if f 2 = 0 then decide (ga n S (sd n S c) c (f 1) < f 3) else if f 2 = 1 then decide (ga n S (sd n S c) c (f 1) = f 3) else decide (f 3 < ga n S (sd n S c) c (f 1))) := by
  unfold ft
  have b : (f 0 == 0 || f 0 == ct S 10) = true := by
    rw [Bool.or_eq_true, beq_iff_eq, beq_iff_eq]
    exact h0
  rw [h5, b, decide_eq_true h1]
  simp
theorem ft_x5 {n S c : Nat} {tw : Bool} {f : Nat → Nat} (h5 : (f 5 == 2 || f 5 == tw.toNat) = false) : ft n S c tw f = false := by
  unfold ft
  rw [h5]
  rfl
theorem rm_dec (a : Nat) : nI (a + 1) + Int32.ofInt (-1) = nI a := by
  have h : nI (a + 1) = nI a + 1 := nI_succ a
  rw [h]
  have h2 : Int32.ofInt (-1) = -1 := by decide
  rw [h2]
  grind
theorem bs_1 (w : Nat → Nat) (n : Nat) : bs (fun c => decide (1 ≤ w c)) n = SS n w := rfl
theorem bs_2 (w : Nat → Nat) (n : Nat) : bs (fun c => decide (2 ≤ w c)) n = TT n w := rfl
theorem TT_bit (n : Nat) (w : Nat → Nat) (c : Nat) : (TT n w).testBit c = (decide (c < n) && decide (1 < w c)) := bs_bit _ c n
theorem TT_lt {n : Nat} (w : Nat → Nat) (h : n ≤ 10) : TT n w < 1024 := bs_lt10 _ h
theorem SS_pos {n : Nat} {w : Nat → Nat} (h : 0 < SS n w) : ne_ n (SS n w) := by
  apply Classical.byContradiction
  intro q
  have : SS n w = 0 := by
    apply Nat.eq_of_testBit_eq
    intro i
    rw [Nat.zero_testBit]
    cases hb : (SS n w).testBit i
    · rfl
    · rw [SS_bit, Bool.and_eq_true, decide_eq_true_iff] at hb
      exact absurd ⟨i, hb.1, by rw [SS_bit, decide_eq_true hb.1, hb.2]; rfl⟩ q
  omega
