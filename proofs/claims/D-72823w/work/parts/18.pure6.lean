/-! sets of movers one behind the other; all that can come of a list -/
set_option maxRecDepth 100000
def nxs (M z : Nat) : Nat := (z + (1024 - M)) &&& M
theorem nxs_le (M z : Nat) : nxs M z ≤ M := Nat.and_le_right
theorem and_low {a b M : Nat} (hM : M < 1024) (h : a % 1024 = b % 1024) : a &&& M = b &&& M := by
  apply Nat.eq_of_testBit_eq
  intro i
  rw [Nat.testBit_and, Nat.testBit_and]
  rcases Nat.lt_or_ge i 10 with q | q
  · have h1 : (a % 2 ^ 10).testBit i = (b % 2 ^ 10).testBit i := by rw [show (2 : Nat) ^ 10 = 1024 from rfl, h]
    rw [Nat.testBit_mod_two_pow, Nat.testBit_mod_two_pow] at h1
    simp only [q, decide_true, Bool.true_and] at h1
    rw [h1]
  · have h1 : M.testBit i = false := Nat.testBit_lt_two_pow (Nat.lt_of_lt_of_le hM (show 2 ^ 10 ≤ 2 ^ i from Nat.pow_le_pow_right (by decide) q))
    rw [h1, Bool.and_false, Bool.and_false]
theorem nxs_I {M z : Nat} (hM : M < 1024) : (nI z - nI M) &&& nI M = nI (nxs M z) := by
  have h1 : nI z - nI M = nI (z + (2 ^ 32 - M)) := by
    rw [← nI_add, ← pk_sub (show M ≤ 2 ^ 32 by omega)]
    have : nI (2 ^ 32) = 0 := by decide
    rw [this]
    grind
  rw [h1, nI_and]
  congr 1
  apply and_low hM
  omega
theorem nxs_neg {M : Nat} (hM : M < 1024) : -(nI M) &&& nI M = nI (nxs M 0) := by
  rw [← nxs_I hM]
  congr 1
def sbs (M : Nat) : Nat → Nat → List Nat
  | 0, _ => []
  | f + 1, z => if z = 0 then [] else z :: sbs M f (nxs M z)
def sbk (M : Nat) : Nat → Nat → Bool
  | 0, z => decide (z = 0)
  | f + 1, z => decide (z = 0) || sbk M f (nxs M z)
theorem sbk_all : ∀ M, M < 1024 → sbk M 1024 (nxs M 0) = true := by decide +kernel
theorem sbk_next {M f z : Nat} (h : sbk M f z = true) (hz : 0 < z) : ∃ g, f = g + 1 ∧ sbk M g (nxs M z) = true ∧ sbs M f z = z :: sbs M g (nxs M z) := by
  cases f with
  | zero =>
    have : z = 0 := of_decide_eq_true h
    omega
  | succ g =>
    refine ⟨g, rfl, ?_, ?_⟩
    · have h2 : (decide (z = 0) || sbk M g (nxs M z)) = true := h
      rw [decide_eq_false (by omega), Bool.false_or] at h2
      exact h2
    · show (if z = 0 then [] else z :: sbs M g (nxs M z)) = _
      rw [if_neg (by omega)]
theorem sbs_0 {M f : Nat} : sbs M f 0 = [] := by
  cases f with
  | zero => rfl
  | succ g => rfl
/-- the sets of movers of a schedule -/
def sets (k M : Nat) : List Nat := (sbs M 1024 (nxs M 0)).filter (fun z => mb k z M)
theorem sbs_mem {M : Nat} (hM : M < 1024) : ∀ {f z x : Nat}, z &&& M = z → x ∈ sbs M f z → 0 < x ∧ x < 1024 ∧ x &&& M = x
  | 0, _, _, _, h => by cases h
  | f + 1, z, x, hz, h => by
    have h2 : x ∈ (if z = 0 then [] else z :: sbs M f (nxs M z)) := h
    by_cases q : z = 0
    · rw [if_pos q] at h2
      cases h2
    · rw [if_neg q] at h2
      rcases List.mem_cons.mp h2 with e | e
      · subst e
        refine ⟨by omega, ?_, hz⟩
        rw [← hz]
        exact Nat.lt_of_le_of_lt Nat.and_le_right hM
      · exact sbs_mem hM (by unfold nxs; rw [Nat.and_assoc, Nat.and_self]) e
theorem sets_mem {k M x : Nat} (hM : M < 1024) (h : x ∈ sets k M) : 0 < x ∧ x < 1024 ∧ x &&& M = x := sbs_mem (f := 1024) (z := nxs M 0) hM (by unfold nxs; rw [Nat.and_assoc, Nat.and_self]) (List.mem_filter.mp h).1
/-! lists of states -/
def noteL (L : List Nat) (c : Nat) : List Nat := if c ∈ L then L else L ++ [c]
theorem noteL_mem {L : List Nat} {c x : Nat} : x ∈ noteL L c ↔ x ∈ L ∨ x = c := by
  unfold noteL
  split
  · rename_i h
    constructor
    · exact Or.inl
    · rintro (q | q)
      · exact q
      · rw [q]; exact h
  · simp
theorem noteL_nodup {L : List Nat} {c : Nat} (h : L.Nodup) : (noteL L c).Nodup := by
  unfold noteL
  split
  · exact h
  · rename_i hc
    rw [List.nodup_append]
    refine ⟨h, by simp, ?_⟩
    intro a ha b hb e
    rw [List.mem_singleton.mp hb] at e
    exact hc (e ▸ ha)
theorem noteL_pre (L : List Nat) (c : Nat) : L <+: noteL L c := by
  unfold noteL
  split
  · exact List.prefix_refl L
  · exact List.prefix_append L [c]
theorem noteLs_mem {x : Nat} : ∀ {l L : List Nat}, x ∈ l.foldl noteL L ↔ x ∈ L ∨ x ∈ l
  | [], L => by simp
  | c :: l, L => by
    rw [List.foldl_cons, noteLs_mem, noteL_mem, List.mem_cons, or_assoc]
theorem noteLs_nodup : ∀ {l L : List Nat}, L.Nodup → (l.foldl noteL L).Nodup
  | [], _, h => h
  | c :: l, L, h => noteLs_nodup (l := l) (L := noteL L c) (noteL_nodup h)
theorem noteLs_pre : ∀ (l L : List Nat), L <+: l.foldl noteL L
  | [], L => List.prefix_refl L
  | c :: l, L => (noteL_pre L c).trans (noteLs_pre l (noteL L c))
def exL (sc : Nat → List Nat) (L0 : List Nat) : Nat → List Nat
  | 0 => L0
  | i + 1 => (sc ((exL sc L0 i).getD i 0)).foldl noteL (exL sc L0 i)
def exG (sc : Nat → List Nat) (L0 : List Nat) (i : Nat) : Prop := ∀ j, j < i → j < (exL sc L0 j).length
/-- the list of all that can come -/
def exF (sc : Nat → List Nat) (L0 L : List Nat) : Prop := ∃ i, L = exL sc L0 i ∧ L.length ≤ i ∧ exG sc L0 i
theorem exF_one {sc : Nat → List Nat} {L0 L L' : List Nat} (h : exF sc L0 L) (h' : exF sc L0 L') : L = L' := by
  obtain ⟨i, rfl, h1, h2⟩ := h
  obtain ⟨j, rfl, h3, h4⟩ := h'
  rcases Nat.lt_trichotomy i j with q | q | q
  · have := h4 i q
    omega
  · rw [q]
  · have := h2 j q
    omega
theorem exL_pre {sc : Nat → List Nat} {L0 : List Nat} {i j : Nat} (h : i ≤ j) : exL sc L0 i <+: exL sc L0 j := by
  obtain ⟨d, rfl⟩ := Nat.exists_eq_add_of_le h
  induction d with
  | zero => exact List.prefix_refl _
  | succ d ih => exact (ih (Nat.le_add_right _ _)).trans (noteLs_pre _ _)
theorem pre_getD {L L' : List Nat} (h : L <+: L') {i : Nat} (hi : i < L.length) : L'.getD i 0 = L.getD i 0 := by
  obtain ⟨t, rfl⟩ := h
  rw [List.getD_eq_getElem?_getD, List.getD_eq_getElem?_getD, List.getElem?_append_left hi]
theorem getD_mem {L : List Nat} {i : Nat} (hi : i < L.length) : L.getD i 0 ∈ L := by
  rw [List.getD_eq_getElem?_getD, List.getElem?_eq_getElem hi]
  exact List.getElem_mem hi
theorem mem_getD {L : List Nat} {c : Nat} (h : c ∈ L) : ∃ i, i < L.length ∧ L.getD i 0 = c := by
  obtain ⟨i, hi, e⟩ := List.getElem_of_mem h
  exact ⟨i, hi, by rw [List.getD_eq_getElem?_getD, List.getElem?_eq_getElem hi]; exact e⟩
theorem exL_ok {sc : Nat → List Nat} {L0 : List Nat} {P : Nat → Prop} (hn : L0.Nodup) (h0 : ∀ c ∈ L0, P c) (hs : ∀ c, P c → ∀ d ∈ sc c, P d) : ∀ {i : Nat}, exG sc L0 i → (exL sc L0 i).Nodup ∧ ∀ c ∈ exL sc L0 i, P c
  | 0, _ => ⟨hn, h0⟩
  | i + 1, h => by
    obtain ⟨a, b⟩ := exL_ok (i := i) hn h0 hs (fun j hj => h j (by omega))
    refine ⟨noteLs_nodup a, fun c hc => ?_⟩
    rcases noteLs_mem.mp hc with q | q
    · exact b c q
    · exact hs _ (b _ (getD_mem (h i (by omega)))) c q
theorem exF_closed {sc : Nat → List Nat} {L0 L : List Nat} (h : exF sc L0 L) {c d : Nat} (hc : c ∈ L) (hd : d ∈ sc c) : d ∈ L := by
  obtain ⟨i, rfl, h1, h2⟩ := h
  obtain ⟨j, hj, rfl⟩ := mem_getD hc
  have hji : j < i := by omega
  have hjl := h2 j hji
  rw [pre_getD (exL_pre (Nat.le_of_lt hji)) hjl] at hd
  have h3 : d ∈ exL sc L0 (j + 1) := noteLs_mem.mpr (Or.inr hd)
  exact (exL_pre (Nat.succ_le_of_lt hji)).subset h3
theorem exF_ok {sc : Nat → List Nat} {L0 L : List Nat} {P : Nat → Prop} (h : exF sc L0 L) (hn : L0.Nodup) (h0 : ∀ c ∈ L0, P c) (hs : ∀ c, P c → ∀ d ∈ sc c, P d) : L.Nodup ∧ ∀ c ∈ L, P c := by
  obtain ⟨i, rfl, -, h2⟩ := h
  exact exL_ok hn h0 hs h2
theorem exF_pre {sc : Nat → List Nat} {L0 L : List Nat} (h : exF sc L0 L) : L0 <+: L := by
  obtain ⟨i, rfl, -, -⟩ := h
  exact exL_pre (Nat.zero_le i)
/-! how many there can be: figures of sum at most five -/
def vl : Nat → Nat → List Nat
  | 0, _ => [0]
  | d + 1, w => vl d w ++ ((if 1 ≤ w then (vl d (w - 1)).map (· + p3 d) else []) ++ (if 2 ≤ w then (vl d (w - 2)).map (· + p3 d * 2) else []))
theorem tg_mod {c d k : Nat} (h : k < d) : tg (c % p3 d) k = tg c k := by
  unfold tg p3
  obtain ⟨e, rfl⟩ : ∃ e, d = k + (e + 1) := ⟨d - k - 1, by omega⟩
  have h1 : (3 : Nat) ^ (k + (e + 1)) = 3 ^ k * (3 * 3 ^ e) := by rw [Nat.pow_add, Nat.pow_succ']
  rw [h1, Nat.mod_mul_right_div_self, Nat.mod_mul_right_mod]
theorem sm_congr {f g : Nat → Nat} : ∀ {n : Nat}, (∀ k, k < n → f k = g k) → sm f n = sm g n
  | 0, _ => rfl
  | n + 1, h => by
    show sm f n + f n = sm g n + g n
    rw [sm_congr (fun k hk => h k (by omega)), h n (by omega)]
theorem vl_mem : ∀ {d w c : Nat}, c < p3 d → sm (tg c) d ≤ w → c ∈ vl d w
  | 0, w, c, h, _ => by
    have : c < 1 := h
    rw [show c = 0 by omega]
    exact List.mem_singleton.mpr rfl
  | d + 1, w, c, h, hw => by
    have hp := p3_pos d
    have h1 : sm (tg c) (d + 1) = sm (tg (c % p3 d)) d + tg c d := by
      show sm (tg c) d + tg c d = _
      rw [sm_congr (fun k hk => (tg_mod hk).symm)]
    have h2 : c / p3 d < 3 := by
      rw [Nat.div_lt_iff_lt_mul hp]
      have : p3 (d + 1) = p3 d * 3 := rfl
      omega
    have h3 : tg c d = c / p3 d := Nat.mod_eq_of_lt h2
    have h4 := Nat.mod_add_div c (p3 d)
    have h5 := Nat.mod_lt c hp
    rw [h1, h3] at hw
    show c ∈ vl d w ++ (_ ++ _)
    rw [List.mem_append, List.mem_append]
    have h6 : c / p3 d = 0 ∨ c / p3 d = 1 ∨ c / p3 d = 2 := by omega
    rcases h6 with q | q | q
    · rw [q, Nat.mul_zero, Nat.add_zero] at h4
      rw [q] at hw
      exact Or.inl (vl_mem (by omega) (by rw [h4] at hw; omega))
    · right; left
      rw [if_pos (by omega), List.mem_map]
      exact ⟨c % p3 d, vl_mem h5 (by omega), by rw [q] at h4; omega⟩
    · right; right
      rw [if_pos (by omega), List.mem_map]
      exact ⟨c % p3 d, vl_mem h5 (by omega), by rw [q] at h4; omega⟩
def lsum (f : Nat → Nat) : List Nat → Nat
  | [] => 0
  | a :: l => f a + lsum f l
theorem lsum_erase (f : Nat → Nat) {a : Nat} : ∀ {M : List Nat}, a ∈ M → lsum f M = f a + lsum f (M.erase a)
  | [], h => by cases h
  | b :: M, h => by
    by_cases e : b = a
    · subst e
      rw [List.erase_cons_head]
      rfl
    · have h2 : a ∈ M := by
        rcases List.mem_cons.mp h with q | q
        · exact absurd q.symm e
        · exact q
      have h3 : (b :: M).erase a = b :: M.erase a := by
        rw [List.erase_cons_tail]
        simpa using e
      rw [h3]
      show f b + lsum f M = f a + (f b + lsum f (M.erase a))
      rw [lsum_erase f h2]
      omega
theorem lsum_sub (f : Nat → Nat) : ∀ {L M : List Nat}, L.Nodup → (∀ c ∈ L, c ∈ M) → lsum f L ≤ lsum f M
  | [], _, _, _ => Nat.zero_le _
  | a :: L, M, hn, h => by
    have hn' := List.nodup_cons.mp hn
    rw [lsum_erase f (h a List.mem_cons_self)]
    have := lsum_sub f (M := M.erase a) hn'.2 (fun c hc => (List.mem_erase_of_ne (a := c) (b := a) (fun e => hn'.1 (by rw [← e]; exact hc))).mpr (h c (List.mem_cons_of_mem _ hc)))
    show f a + lsum f L ≤ _
    omega
theorem lsum_one : ∀ (L : List Nat), lsum (fun _ => 1) L = L.length
  | [] => rfl
  | a :: L => by
    show 1 + lsum (fun _ => 1) L = L.length + 1
    rw [lsum_one L]
    omega
/-- a state that can come: at most five walkers -/
def okc (n c : Nat) : Prop := c < p3 n ∧ sm (tg c) n ≤ 5
theorem tg_0 {c n k : Nat} (h : c < p3 n) (hk : n ≤ k) : tg c k = 0 := by
  unfold tg
  rw [Nat.div_eq_of_lt (Nat.lt_of_lt_of_le h (p3_mono hk))]
theorem sm_ext {f : Nat → Nat} {n m : Nat} (h : n ≤ m) (h0 : ∀ k, n ≤ k → f k = 0) : sm f m = sm f n := by
  obtain ⟨d, rfl⟩ := Nat.exists_eq_add_of_le h
  induction d with
  | zero => rfl
  | succ d ih =>
    show sm f (n + d) + f (n + d) = _
    rw [ih (Nat.le_add_right _ _), h0 _ (Nat.le_add_right _ _)]
    rfl
theorem okc_vl {n c : Nat} (hn : n ≤ 10) (h : okc n c) : c ∈ vl 10 5 := vl_mem (Nat.lt_of_lt_of_le h.1 (p3_mono hn)) (by rw [sm_ext hn (fun k hk => tg_0 h.1 hk)]; exact h.2)
theorem vl_len : (vl 10 5).length ≤ 4000 := by decide +kernel
theorem okc_len {n : Nat} (hn : n ≤ 10) {L : List Nat} (h : L.Nodup) (ho : ∀ c ∈ L, okc n c) : L.length ≤ 4000 := by
  rw [← lsum_one]
  refine Nat.le_trans (lsum_sub _ h (fun c hc => okc_vl hn (ho c hc))) ?_
  rw [lsum_one]
  exact vl_len
