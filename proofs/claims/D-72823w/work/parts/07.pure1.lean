/-! the pure words: numbers of base 3, sets as numbers, gaps, views, rules -/
set_option maxRecDepth 100000
def p3 (c : Nat) : Nat := 3 ^ c
theorem p3_pos (c : Nat) : 0 < p3 c := Nat.pow_pos (by decide)
theorem p3_mono {a b : Nat} (h : a ≤ b) : p3 a ≤ p3 b := Nat.pow_le_pow_right (by decide) h
theorem p3_le {c : Nat} (h : c ≤ 10) : p3 c ≤ 59049 := Nat.le_trans (p3_mono h) (by decide)
theorem p3_succ (c : Nat) : p3 (c + 1) = p3 c * 3 := rfl
theorem rm_inc (a k : Nat) : nI a + Int32.ofInt (k : Int) = nI (a + k) := by
  rw [← nI_add]
  rfl
theorem bI_nat (b : Bool) : bI b = nI b.toNat := by cases b <;> rfl
/-- how many of the first k bits are set -/
def ct (S : Nat) : Nat → Nat
  | 0 => 0
  | k + 1 => ct S k + (S.testBit k).toNat
theorem ct_le (S : Nat) : ∀ k, ct S k ≤ k
  | 0 => Nat.le_refl 0
  | k + 1 => by
    have h := ct_le S k
    have h2 : (S.testBit k).toNat ≤ 1 := Bool.toNat_le _
    show ct S k + (S.testBit k).toNat ≤ k + 1
    omega
def sm (f : Nat → Nat) : Nat → Nat
  | 0 => 0
  | k + 1 => sm f k + f k
/-- the set of the k below n of which p holds -/
def bs (p : Nat → Bool) : Nat → Nat
  | 0 => 0
  | k + 1 => bs p k ||| (if p k then 2 ^ k else 0)
theorem bs_bit (p : Nat → Bool) (c : Nat) : ∀ k, (bs p k).testBit c = (decide (c < k) && p c)
  | 0 => by simp [bs]
  | k + 1 => by
    show (bs p k ||| (if p k then 2 ^ k else 0)).testBit c = _
    rw [Nat.testBit_or, bs_bit p c k]
    by_cases h : c = k
    · subst h
      by_cases hp : p c = true <;> simp [hp]
    · by_cases hp : p k = true
      · rw [if_pos hp, Nat.testBit_two_pow]
        have e : decide (c < k + 1) = decide (c < k) := decide_eq_decide.mpr (by omega)
        rw [e]
        simp [Ne.symm h]
      · rw [if_neg hp]
        have e : decide (c < k + 1) = decide (c < k) := decide_eq_decide.mpr (by omega)
        rw [e]
        simp
theorem bs_lt (p : Nat → Bool) (k : Nat) : bs p k < 2 ^ k := by
  apply Nat.lt_pow_two_of_testBit
  intro i hi
  rw [bs_bit, decide_eq_false (Nat.not_lt.mpr hi)]
  rfl
theorem bs_lt10 (p : Nat → Bool) {k : Nat} (h : k ≤ 10) : bs p k < 1024 := Nat.lt_of_lt_of_le (bs_lt p k) (Nat.pow_le_pow_right (by decide) h)
/-- a figure of a number to three -/
def tg (code c : Nat) : Nat := code / p3 c % 3
theorem tg_lt (code c : Nat) : tg code c < 3 := Nat.mod_lt _ (by decide)
def dg (n : Nat) : Nat := if n > 1 then 2 else n
theorem dg_le (n : Nat) : dg n ≤ 2 := by unfold dg; split <;> omega
def cdw (w : Nat → Nat) (n : Nat) : Nat := sm (fun c => p3 c * dg (w c)) n
def stS (n code : Nat) : Nat := bs (fun c => decide (0 < tg code c)) n
/-- k steps on the ring of n cells -/
def it (n : Nat) (up : Bool) (c k : Nat) : Nat := (c + k * (if up then 1 else n - 1)) % n
theorem it_lt {n : Nat} (hn : 0 < n) (up : Bool) (c k : Nat) : it n up c k < n := Nat.mod_lt _ hn
theorem it_add (n : Nat) (up : Bool) (c j k : Nat) : it n up (it n up c j) k = it n up c (j + k) := by
  unfold it
  rw [Nat.mod_add_mod, Nat.add_assoc, ← Nat.add_mul]
def gpf (n S : Nat) (up : Bool) (c : Nat) : Nat → Nat → Nat
  | 0, k => k
  | f + 1, k => if S.testBit (it n up c k) then k else gpf n S up c f (k + 1)
def gp (n S : Nat) (up : Bool) (c : Nat) : Nat := gpf n S up c n 1
def ps (n S : Nat) (up : Bool) (c : Nat) : Nat → Nat
  | 0 => c
  | k + 1 => it n up (ps n S up c k) (gp n S up (ps n S up c k))
def ga (n S : Nat) (up : Bool) (c k : Nat) : Nat := gp n S up (ps n S up c k)
def cpf (n S : Nat) (u : Bool) (c : Nat) (v : Bool) (o : Nat) : Nat → Nat → Int32
  | 0, _ => 0
  | f + 1, k => if ga n S u c k = ga n S v o k then cpf n S u c v o f (k + 1) else nI (ga n S u c k) - nI (ga n S v o k)
def cp (n S : Nat) (u : Bool) (c : Nat) (v : Bool) (o : Nat) : Int32 := cpf n S u c v o (ct S 10) 0
def sd (n S c : Nat) : Bool := decide (cp n S true c false c ≤ 0)
def ft (n S c : Nat) (tw : Bool) (f : Nat → Nat) : Bool := (f 5 == 2 || f 5 == tw.toNat) && (f 0 == 0 || f 0 == ct S 10) && decide (f 1 < ct S 10) && (if f 2 = 0 then decide (ga n S (sd n S c) c (f 1) < f 3) else if f 2 = 1 then decide (ga n S (sd n S c) c (f 1) = f 3) else decide (f 3 < ga n S (sd n S c) c (f 1)))
def fst_ (P : Nat → Bool) : Nat → Nat → Option Nat
  | 0, _ => none
  | f + 1, k => if P k then some k else fst_ P f (k + 1)
def rl (n S c : Nat) (tw : Bool) (many : Nat) (ru : Nat → Nat → Nat) : Option Nat := fst_ (fun r => ft n S c tw (ru r)) many 0
def dn (ru : Nat → Nat → Nat) (o : Option Nat) : Nat := match o with
  | none => 0
  | some r => ru r 4
def gt_ (n S c d : Nat) : Nat := if d = 0 then c else if d = 1 then it n (sd n S c) c 1 else it n (!sd n S c) c 1
/-! gaps: a set with a cell below n has one -/
theorem gpf_spec (n S : Nat) (up : Bool) (c : Nat) : ∀ f k, (∃ j, k ≤ j ∧ j < k + f ∧ S.testBit (it n up c j) = true) → S.testBit (it n up c (gpf n S up c f k)) = true ∧ k ≤ gpf n S up c f k ∧ gpf n S up c f k < k + f ∧ ∀ j, k ≤ j → j < gpf n S up c f k → S.testBit (it n up c j) = false
  | 0, k, ⟨j, h1, h2, _⟩ => absurd h2 (by omega)
  | f + 1, k, ⟨j, h1, h2, h3⟩ => by
    unfold gpf
    by_cases h : S.testBit (it n up c k) = true
    · rw [if_pos h]
      exact ⟨h, Nat.le_refl k, by omega, fun i a b => absurd b (by omega)⟩
    · rw [if_neg h]
      have hj : k + 1 ≤ j := by
        rcases Nat.lt_or_ge k j with q | q
        · exact q
        · exact absurd (by rw [show k = j by omega]; exact h3) h
      obtain ⟨a, b, d, e⟩ := gpf_spec n S up c f (k + 1) ⟨j, hj, by omega, h3⟩
      refine ⟨a, by omega, by omega, fun i x y => ?_⟩
      rcases Nat.lt_or_ge k i with q | q
      · exact e i q y
      · rw [show i = k by omega]
        exact Bool.eq_false_iff.mpr h
theorem it_hits {n : Nat} (hn : 0 < n) (up : Bool) (c : Nat) {d : Nat} (hd : d < n) : ∃ j, 1 ≤ j ∧ j < 1 + n ∧ it n up c j = d := by
  have key : ∀ j, it n up c (j + n) = it n up c j := by
    intro j
    unfold it
    rw [Nat.add_mul, ← Nat.add_assoc, Nat.add_mul_mod_self_left]
  have one : ∃ j, j < n ∧ it n up c j = d := by
    cases up with
    | true =>
      refine ⟨(d + (n - c % n)) % n, Nat.mod_lt _ hn, ?_⟩
      unfold it
      rw [if_pos rfl, Nat.mul_one, Nat.add_mod_mod]
      have h1 := Nat.mod_lt c hn
      have h2 := Nat.mod_add_div c n
      have h3 : c + (d + (n - c % n)) = d + n * (c / n + 1) := by
        rw [Nat.mul_add, Nat.mul_one]
        omega
      rw [h3, Nat.add_mul_mod_self_left, Nat.mod_eq_of_lt hd]
    | false =>
      refine ⟨(c + (n - d)) % n, Nat.mod_lt _ hn, ?_⟩
      unfold it
      rw [if_neg (by decide)]
      have h0 : (c + (c + (n - d)) % n * (n - 1)) % n = (c + (c + (n - d)) * (n - 1)) % n := by
        rw [Nat.add_mod, Nat.mod_mul_mod, ← Nat.add_mod]
      rw [h0]
      have h4 : c + (c + (n - d)) * (n - 1) = d + n * (c + (n - d) - 1) := by
        obtain ⟨m, rfl⟩ : ∃ m, n = m + 1 := ⟨n - 1, by omega⟩
        obtain ⟨x, hx⟩ : ∃ x, m + 1 - d = x + 1 := ⟨m - d, by omega⟩
        have hm : m = d + x := by omega
        rw [hx, Nat.add_sub_cancel, show c + (x + 1) - 1 = c + x by omega, hm]
        grind
      rw [h4, Nat.add_mul_mod_self_left, Nat.mod_eq_of_lt hd]
  obtain ⟨j, h1, h2⟩ := one
  rcases Nat.eq_zero_or_pos j with q | q
  · subst q
    exact ⟨n, hn, by omega, by rw [← h2, ← key 0, Nat.zero_add]⟩
  · exact ⟨j, q, by omega, h2⟩
/-- S has a cell on the ring -/
def ne_ (n S : Nat) : Prop := ∃ d, d < n ∧ S.testBit d = true
theorem gp_spec {n S : Nat} (hS : ne_ n S) (up : Bool) (c : Nat) : S.testBit (it n up c (gp n S up c)) = true ∧ 1 ≤ gp n S up c ∧ gp n S up c ≤ n ∧ ∀ j, 1 ≤ j → j < gp n S up c → S.testBit (it n up c j) = false := by
  obtain ⟨d, hd, hb⟩ := hS
  obtain ⟨j, h1, h2, h3⟩ := it_hits (Nat.zero_lt_of_lt hd) up c hd
  obtain ⟨a, b, d', e⟩ := gpf_spec n S up c n 1 ⟨j, h1, h2, by rw [h3]; exact hb⟩
  exact ⟨a, b, by unfold gp; omega, e⟩
theorem ps_lt {n S : Nat} (hn : 0 < n) {up : Bool} {c : Nat} (hc : c < n) : ∀ k, ps n S up c k < n
  | 0 => hc
  | _ + 1 => it_lt hn _ _ _
/-! stepping, as the two programs reckon it -/
def bq (n : Nat) (up : Bool) (c g : Nat) : Nat := if up then c + g + n else c + n - g
theorem bq_mod {n : Nat} (up : Bool) {c g : Nat} (hg : g ≤ n) (hn : 0 < n) : bq n up c g % n = it n up c g := by
  unfold bq it
  cases up with
  | true => simp
  | false =>
    rw [if_neg (by decide), if_neg (by decide)]
    obtain ⟨m, rfl⟩ : ∃ m, n = m + 1 := ⟨n - 1, by omega⟩
    rw [Nat.add_sub_cancel]
    rcases Nat.eq_zero_or_pos g with q | q
    · subst q
      simp
    · have h : c + g * m = c + (m + 1) - g + (m + 1) * (g - 1) := by
        obtain ⟨x, rfl⟩ : ∃ x, g = x + 1 := ⟨g - 1, by omega⟩
        rw [Nat.add_sub_cancel, Nat.add_mul, Nat.one_mul, Nat.mul_comm (m + 1) x, Nat.mul_add, Nat.mul_one]
        omega
      rw [h, Nat.add_mul_mod_self_left]
theorem bq_I {n : Nat} (up : Bool) {c g : Nat} (hg : g ≤ n) : nI c + dI up * nI g + nI n = nI (bq n up c g) := by
  unfold bq dI
  cases up with
  | true =>
    rw [if_pos rfl, if_pos rfl, Int32.one_mul, nI_add, nI_add]
  | false =>
    rw [if_neg (by decide), if_neg (by decide), ← pk_sub (show g ≤ c + n by omega), ← nI_add]
    grind
theorem dI_1 (up : Bool) : dI up = dI up * nI 1 := by cases up <;> decide
/-! ranges -/
/-- v is one of 0 .. n - 1 -/
def inL (n : Nat) (v : Int32) : Bool := decide (nI 0 ≤ v) && decide (v < nI n)
def inI (lo hi : Nat) (v : Int32) : Bool := decide (nI lo ≤ v) && decide (v ≤ nI hi)
theorem inL_iff {n : Nat} {v : Int32} (hn : n < 2 ^ 31) : inL n v = true ↔ ∃ j, j < n ∧ v = nI j := by
  unfold inL
  rw [Bool.and_eq_true, decide_eq_true_iff, decide_eq_true_iff]
  constructor
  · rintro ⟨h1, h2⟩
    obtain ⟨j, hj, rfl⟩ := nI_of (Int32.not_lt.mpr h1)
    exact ⟨j, (nI_ltI hj hn).mp h2, rfl⟩
  · rintro ⟨j, hj, rfl⟩
    exact ⟨(nI_leI (by decide) (by omega)).mpr (Nat.zero_le j), (nI_ltI (by omega) hn).mpr hj⟩
theorem inI_iff {lo hi : Nat} {v : Int32} (hn : hi < 2 ^ 31) (hl : lo < 2 ^ 31) : inI lo hi v = true ↔ ∃ j, lo ≤ j ∧ j ≤ hi ∧ v = nI j := by
  unfold inI
  rw [Bool.and_eq_true, decide_eq_true_iff, decide_eq_true_iff]
  constructor
  · rintro ⟨h1, h2⟩
    have h0 : ¬ v < 0 := fun q => by
      have a1 := Int32.le_iff_toInt_le.mp h1
      have a2 := Int32.lt_iff_toInt_lt.mp q
      rw [nI_toInt hl] at a1
      have a3 : (0 : Int32).toInt = 0 := rfl
      omega
    obtain ⟨j, hj, rfl⟩ := nI_of h0
    exact ⟨j, (nI_leI hl hj).mp h1, (nI_leI hj hn).mp h2, rfl⟩
  · rintro ⟨j, h1, h2, rfl⟩
    exact ⟨(nI_leI hl (by omega)).mpr h1, (nI_leI (by omega) hn).mpr h2⟩
theorem inL_nI {n j : Nat} (hn : n < 2 ^ 31) (hj : j < 2 ^ 31) : inL n (nI j) = decide (j < n) := by
  rw [Bool.eq_iff_iff, inL_iff hn, decide_eq_true_iff]
  constructor
  · rintro ⟨i, hi, e⟩
    rw [(nI_eq hj (by omega)).mp e]
    exact hi
  · intro h
    exact ⟨j, h, rfl⟩
theorem inL_raw {n : Nat} {v : Int32} (hn : n < 2 ^ 31) : (decide (nI 0 ≤ v) && decide (v ≤ nI n - nI 1)) = inL n v := by
  unfold inL
  congr 1
  apply decide_eq_decide.mpr
  rcases Nat.eq_zero_or_pos n with q | q
  · subst q
    rw [Int32.le_iff_toInt_le, Int32.lt_iff_toInt_lt]
    have a1 : (nI 0 - nI 1).toInt = -1 := by decide
    have a2 : (nI 0).toInt = 0 := by decide
    omega
  · rw [pk_sub q, Int32.le_iff_toInt_le, Int32.lt_iff_toInt_lt, nI_toInt hn, nI_toInt (by omega)]
    omega
theorem inL_0 (v : Int32) : inL 0 v = false := by
  rcases h : inL 0 v
  · rfl
  · obtain ⟨j, hj, _⟩ := (inL_iff (by decide)).mp h
    exact absurd hj (Nat.not_lt_zero j)
/-- a stand: a cell with somebody on it -/
def isSt (n : Nat) (w : Nat → Nat) (v : Int32) : Bool := inL n v && decide (0 < w v.toNatClampNeg)
theorem isSt_iff {n : Nat} {w : Nat → Nat} {v : Int32} (hn : n < 2 ^ 31) : isSt n w v = true ↔ ∃ j, j < n ∧ 0 < w j ∧ v = nI j := by
  unfold isSt
  rw [Bool.and_eq_true, inL_iff hn, decide_eq_true_iff]
  constructor
  · rintro ⟨⟨j, hj, rfl⟩, h2⟩
    rw [nI_clamp (by omega)] at h2
    exact ⟨j, hj, h2, rfl⟩
  · rintro ⟨j, hj, h2, rfl⟩
    rw [nI_clamp (by omega)]
    exact ⟨⟨j, hj, rfl⟩, h2⟩
theorem nI_sub_0 {a b : Nat} (ha : a < 2 ^ 31) (hb : b < 2 ^ 31) : nI a - nI b = 0 ↔ a = b := by
  rw [← nI_eq ha hb]
  constructor
  · intro h; grind
  · intro h; rw [h]; grind
theorem ga_le {n S : Nat} (hS : ne_ n S) (up : Bool) (c k : Nat) : ga n S up c k ≤ n := (gp_spec hS up _).2.2.1
theorem ga_pos {n S : Nat} (hS : ne_ n S) (up : Bool) (c k : Nat) : 1 ≤ ga n S up c k := (gp_spec hS up _).2.1
/-! numbers to three -/
theorem sm_lt3 {d : Nat → Nat} (hd : ∀ c, d c ≤ 2) : ∀ n, sm (fun c => p3 c * d c) n < p3 n
  | 0 => (by decide : 0 < 1)
  | n + 1 => by
    have h := sm_lt3 hd n
    have h2 : p3 n * d n ≤ p3 n * 2 := Nat.mul_le_mul_left _ (hd n)
    show sm (fun c => p3 c * d c) n + p3 n * d n < p3 n * 3
    omega
theorem tg_sm {d : Nat → Nat} (hd : ∀ c, d c ≤ 2) (k : Nat) : ∀ n, tg (sm (fun c => p3 c * d c) n) k = if k < n then d k else 0
  | 0 => by
    show 0 / p3 k % 3 = _
    rw [Nat.zero_div, if_neg (Nat.not_lt_zero k)]
  | n + 1 => by
    have ih := tg_sm hd k n
    have hlt := sm_lt3 hd n
    show (sm (fun c => p3 c * d c) n + p3 n * d n) / p3 k % 3 = _
    rcases Nat.lt_trichotomy k n with h | h | h
    · have e : p3 n * d n = p3 k * (3 * (p3 (n - k - 1) * d n)) := by
        have : p3 n = p3 k * (3 * p3 (n - k - 1)) := by
          unfold p3
          rw [← Nat.pow_succ', ← Nat.pow_add]
          congr 1
          omega
        rw [this]
        simp only [Nat.mul_assoc]
      rw [e, Nat.add_mul_div_left _ _ (p3_pos k), Nat.add_mul_mod_self_left, if_pos (by omega)]
      rw [if_pos h] at ih
      exact ih
    · subst h
      rw [Nat.add_mul_div_left _ _ (p3_pos k), Nat.div_eq_of_lt hlt, Nat.zero_add, if_pos (by omega)]
      exact Nat.mod_eq_of_lt (Nat.lt_succ_of_le (hd k))
    · rw [if_neg (by omega)]
      have h2 : sm (fun c => p3 c * d c) n + p3 n * d n < p3 k := Nat.lt_of_lt_of_le (sm_lt3 hd (n + 1)) (p3_mono (by omega))
      rw [Nat.div_eq_of_lt h2]
theorem cdw_lt (w : Nat → Nat) (n : Nat) : cdw w n < p3 n := sm_lt3 (fun c => dg_le (w c)) n
theorem tg_cdw (w : Nat → Nat) {n k : Nat} (h : k < n) : tg (cdw w n) k = dg (w k) := by
  have := tg_sm (d := fun c => dg (w c)) (fun c => dg_le (w c)) k n
  rw [if_pos h] at this
  exact this
theorem dg_pos (n : Nat) : 0 < dg n ↔ 0 < n := by unfold dg; split <;> omega
theorem bs_congr {p q : Nat → Bool} : ∀ {n : Nat}, (∀ c, c < n → p c = q c) → bs p n = bs q n
  | 0, _ => rfl
  | n + 1, h => by
    show bs p n ||| _ = bs q n ||| _
    rw [bs_congr (fun c hc => h c (by omega)), h n (by omega)]
/-- the stands -/
def SS (n : Nat) (w : Nat → Nat) : Nat := bs (fun c => decide (0 < w c)) n
theorem stS_cdw (w : Nat → Nat) (n : Nat) : stS n (cdw w n) = SS n w := by
  unfold stS SS
  apply bs_congr
  intro c hc
  rw [tg_cdw w hc]
  exact decide_eq_decide.mpr (dg_pos _)
theorem SS_bit (n : Nat) (w : Nat → Nat) (c : Nat) : (SS n w).testBit c = (decide (c < n) && decide (0 < w c)) := bs_bit _ c n
theorem SS_lt {n : Nat} (w : Nat → Nat) (h : n ≤ 10) : SS n w < 1024 := bs_lt10 _ h
theorem SS_ne {n : Nat} {w : Nat → Nat} {c : Nat} (hc : c < n) (hw : 0 < w c) : ne_ n (SS n w) := ⟨c, hc, by rw [SS_bit, decide_eq_true hc, decide_eq_true hw]; rfl⟩
/-- what 'gap' answers -/
def dirR (n S : Nat) (what : Int32) (j : Nat) : Bool := if what = nI 0 then true else if what = nI 1 then false else sd n S j
def gapR (n : Nat) (w : Nat → Nat) (v what i : Int32) : Int32 := if isSt n w v then (if inI 0 2 what then (if i = -1 then nI (ct (SS n w) 10) else if inL (ct (SS n w) 10) i then nI (ga n (SS n w) (dirR n (SS n w) what v.toNatClampNeg) v.toNatClampNeg i.toNatClampNeg) else -6) else -2) else -1
