/-! what 'meets', 'first', 'blind', 'used', 'all' answer: relations that leave one answer -/
set_option maxRecDepth 100000
theorem okc_cdw {n : Nat} {w : Nat → Nat} (hn : n ≤ 10) (h : sm w 10 ≤ 5) : okc n (cdw w n) := by
  refine ⟨cdw_lt w n, ?_⟩
  rw [sm_congr (fun k hk => tg_cdw w hk)]
  have h1 : sm (fun k => dg (w k)) n ≤ sm w n := by
    have : ∀ m, sm (fun k => dg (w k)) m ≤ sm w m := fun m => by
      induction m with
      | zero => exact Nat.le_refl _
      | succ m ih =>
        show sm (fun k => dg (w k)) m + dg (w m) ≤ sm w m + w m
        have : dg (w m) ≤ w m := by unfold dg; split <;> omega
        omega
    exact this n
  exact Nat.le_trans h1 (Nat.le_trans (sm_mono w hn) h)
section AN
variable (n many : Nat) (ru : Nat → Nat → Nat) (bl : Bool) (k : Nat)
def meF (L : List Nat) (f g : Nat → Option Nat) (code t : Nat) : Int32 := match t with
  | 0 => oI (f code)
  | 1 => oI (g code)
  | 2 => nI (kd (met n code) (g code) (f code))
  | 3 => nI L.length
  | _ => nI (ctP (fun i => !(met n (L.getD i 0)) && decide (mvS n many ru bl (L.getD i 0) = 0)) L.length)
def MeOK (L0 : List Nat) (code t : Nat) (r : Int32) : Prop := ∃ L f g, exF (sucs n many ru bl k) L0 L ∧ SPs (sucs n many ru bl k) (met n) L f ∧ LPs (sucs n many ru bl k) (met n) L g ∧ r = meF n many ru bl L f g code t
def fiF (f : Nat → Option Nat) (code : Nat) : Int32 := match f code with
  | some (v + 1) => oI ((sets k (mvS n many ru bl code)).find? (fun z => decide (f (bstep n code (mvC n many ru bl code) z) = some v)))
  | _ => -6
def FiOK (L0 : List Nat) (code : Nat) (r : Int32) : Prop := ∃ L f, exF (sucs n many ru bl k) L0 L ∧ SPs (sucs n many ru bl k) (met n) L f ∧ r = fiF n many ru bl k f code
def usL (L : List Nat) : Nat := L.foldl (fun u c => u ||| usC n many ru bl c n) 0
def UsOK (L0 : List Nat) (r : Int32) : Prop := ∃ L, exF (sucs n many ru bl k) L0 L ∧ r = nI (usL n many ru bl L)
def alS (m S : Nat) : Bool := decide (ct S 10 = m)
/-- the states with m stands of one each, rising -/
def alL (m : Nat) : Nat → List Nat
  | 0 => []
  | S + 1 => if alS m S then alL m S ++ [sgl n S] else alL m S
def AlOK (m t : Nat) (r : Int32) : Prop := ∃ L f g, exF (sucs n many ru bl k) (alL n m (2 ^ n)) L ∧ SPs (sucs n many ru bl k) (met n) L f ∧ LPs (sucs n many ru bl k) (met n) L g ∧ r = nI (ctP (fun S => alS m S && decide (kd (met n (sgl n S)) (g (sgl n S)) (f (sgl n S)) = t)) (2 ^ n))
end AN
section AN2
variable {n many : Nat} {ru : Nat → Nat → Nat} {bl : Bool} {k : Nat}
theorem MeOK_one {L0 : List Nat} {code t : Nat} {r r' : Int32} (hc : code ∈ L0) (h : MeOK n many ru bl k L0 code t r) (h' : MeOK n many ru bl k L0 code t r') : r = r' := by
  obtain ⟨L, f, g, a1, a2, a3, rfl⟩ := h
  obtain ⟨L', f', g', b1, b2, b3, rfl⟩ := h'
  have e := exF_one a1 b1
  subst e
  have hcl : ∀ c ∈ L, ∀ d ∈ sucs n many ru bl k c, d ∈ L := fun c hc d hd => exF_closed a1 hc hd
  have hL : code ∈ L := (exF_pre a1).subset hc
  have e1 := SP_one hcl a2 b2 hL
  have e2 := LP_one hcl a3 b3 hL
  unfold meF
  rw [e1, e2]
theorem FiOK_one {L0 : List Nat} {code : Nat} {r r' : Int32} (hc : code ∈ L0) (h : FiOK n many ru bl k L0 code r) (h' : FiOK n many ru bl k L0 code r') : r = r' := by
  obtain ⟨L, f, a1, a2, rfl⟩ := h
  obtain ⟨L', f', b1, b2, rfl⟩ := h'
  have e := exF_one a1 b1
  subst e
  have hcl : ∀ c ∈ L, ∀ d ∈ sucs n many ru bl k c, d ∈ L := fun c hc d hd => exF_closed a1 hc hd
  have hL : code ∈ L := (exF_pre a1).subset hc
  have e1 := SP_one hcl a2 b2 hL
  unfold fiF
  rw [← e1]
  cases hf : f code with
  | none => rfl
  | some v =>
    cases v with
    | zero => rfl
    | succ v =>
      show oI _ = oI _
      congr 1
      have key : ∀ l : List Nat, (∀ z ∈ l, z ∈ sets k (mvS n many ru bl code)) → l.find? (fun z => decide (f (bstep n code (mvC n many ru bl code) z) = some v)) = l.find? (fun z => decide (f' (bstep n code (mvC n many ru bl code) z) = some v)) := by
        intro l
        induction l with
        | nil => intro _; rfl
        | cons z l ih =>
          intro hz
          have hm : bstep n code (mvC n many ru bl code) z ∈ L := hcl code hL _ (List.mem_map.mpr ⟨z, hz z List.mem_cons_self, rfl⟩)
          rw [List.find?_cons, List.find?_cons, SP_one hcl a2 b2 hm, ih (fun x hx => hz x (List.mem_cons_of_mem _ hx))]
      exact key _ (fun z hz => hz)
theorem UsOK_one {L0 : List Nat} {r r' : Int32} (h : UsOK n many ru bl k L0 r) (h' : UsOK n many ru bl k L0 r') : r = r' := by
  obtain ⟨L, a1, rfl⟩ := h
  obtain ⟨L', b1, rfl⟩ := h'
  rw [exF_one a1 b1]
theorem alL_mem {m c : Nat} : ∀ {B : Nat}, c ∈ alL n m B ↔ ∃ S, S < B ∧ alS m S = true ∧ c = sgl n S
  | 0 => by
    constructor
    · intro h; cases h
    · rintro ⟨S, h, -⟩; exact absurd h (Nat.not_lt_zero S)
  | B + 1 => by
    show c ∈ (if alS m B then alL n m B ++ [sgl n B] else alL n m B) ↔ _
    by_cases q : alS m B = true
    · rw [if_pos q, List.mem_append, alL_mem, List.mem_singleton]
      constructor
      · rintro (⟨S, h1, h2, h3⟩ | h)
        · exact ⟨S, by omega, h2, h3⟩
        · exact ⟨B, by omega, q, h⟩
      · rintro ⟨S, h1, h2, h3⟩
        rcases Nat.lt_or_ge S B with e | e
        · exact Or.inl ⟨S, e, h2, h3⟩
        · rw [show S = B by omega] at h3
          exact Or.inr h3
    · rw [if_neg q, alL_mem]
      constructor
      · rintro ⟨S, h1, h2, h3⟩
        exact ⟨S, by omega, h2, h3⟩
      · rintro ⟨S, h1, h2, h3⟩
        rcases Nat.lt_or_ge S B with e | e
        · exact ⟨S, e, h2, h3⟩
        · rw [show S = B by omega] at h2
          exact absurd h2 q
theorem ctP_congr {P Q : Nat → Bool} : ∀ {n : Nat}, (∀ k, k < n → P k = Q k) → ctP P n = ctP Q n
  | 0, _ => rfl
  | n + 1, h => by
    show ctP P n + (P n).toNat = ctP Q n + (Q n).toNat
    rw [ctP_congr (fun k hk => h k (by omega)), h n (by omega)]
theorem AlOK_one {m t : Nat} {r r' : Int32} (h : AlOK n many ru bl k m t r) (h' : AlOK n many ru bl k m t r') : r = r' := by
  obtain ⟨L, f, g, a1, a2, a3, rfl⟩ := h
  obtain ⟨L', f', g', b1, b2, b3, rfl⟩ := h'
  have e := exF_one a1 b1
  subst e
  have hcl : ∀ c ∈ L, ∀ d ∈ sucs n many ru bl k c, d ∈ L := fun c hc d hd => exF_closed a1 hc hd
  congr 1
  apply ctP_congr
  intro S hS
  cases q : alS m S
  · rfl
  · have hL : sgl n S ∈ L := (exF_pre a1).subset (alL_mem.mpr ⟨S, hS, q, rfl⟩)
    rw [SP_one hcl a2 b2 hL, LP_one hcl a3 b3 hL]
end AN2
theorem bit_ext {S T : Nat} {n : Nat} (hS : S < 2 ^ n) (hT : T < 2 ^ n) (h : ∀ i, i < n → S.testBit i = T.testBit i) : S = T := by
  apply Nat.eq_of_testBit_eq
  intro i
  rcases Nat.lt_or_ge i n with q | q
  · exact h i q
  · rw [Nat.testBit_lt_two_pow (Nat.lt_of_lt_of_le hS (Nat.pow_le_pow_right (by decide) q)), Nat.testBit_lt_two_pow (Nat.lt_of_lt_of_le hT (Nat.pow_le_pow_right (by decide) q))]
theorem tn_le (b : Bool) : b.toNat ≤ 2 := by cases b <;> decide
theorem sgl_lt (n S : Nat) : sgl n S < p3 n := sm_lt3 (fun c => tn_le _) n
theorem tg_sgl {n S k : Nat} (h : k < n) : tg (sgl n S) k = (S.testBit k).toNat := by
  have := tg_sm (d := fun c => (S.testBit c).toNat) (fun c => tn_le _) k n
  rw [if_pos h] at this
  exact this
theorem sgl_inj {n S T : Nat} (hS : S < 2 ^ n) (hT : T < 2 ^ n) (h : sgl n S = sgl n T) : S = T := by
  apply bit_ext hS hT
  intro i hi
  have h1 := tg_sgl (S := S) hi
  rw [h, tg_sgl hi] at h1
  cases a : S.testBit i <;> cases b : T.testBit i <;> rw [a, b] at h1 <;> first | rfl | (exact absurd h1 (by decide))
theorem alL_nodup {n m : Nat} : ∀ {B : Nat}, B ≤ 2 ^ n → (alL n m B).Nodup
  | 0, _ => List.nodup_nil
  | B + 1, h => by
    show (if alS m B then alL n m B ++ [sgl n B] else alL n m B).Nodup
    have ih := alL_nodup (n := n) (m := m) (B := B) (by omega)
    split
    · rw [List.nodup_append]
      refine ⟨ih, by simp, ?_⟩
      intro a ha b hb e
      rw [List.mem_singleton.mp hb] at e
      obtain ⟨S, h1, -, h3⟩ := alL_mem.mp ha
      have := sgl_inj (n := n) (by omega) (by omega) (h3.symm.trans e)
      omega
    · exact ih
theorem ct_sm (S : Nat) : ∀ k, ct S k = sm (fun c => (S.testBit c).toNat) k
  | 0 => rfl
  | k + 1 => by
    show ct S k + _ = sm _ k + _
    rw [ct_sm S k]
theorem okc_sgl {n S : Nat} (hn : n ≤ 10) (h : ct S 10 ≤ 5) : okc n (sgl n S) := by
  refine ⟨sgl_lt n S, ?_⟩
  rw [sm_congr (fun k hk => tg_sgl hk)]
  refine Nat.le_trans ?_ h
  rw [ct_sm]
  exact sm_mono _ hn
theorem noteL_new {L : List Nat} {c : Nat} (h : c ∉ L) : noteL L c = L ++ [c] := by unfold noteL; rw [if_neg h]
theorem alL_note {n m B : Nat} (hB : B < 2 ^ n) (h : alS m B = true) : noteL (alL n m B) (sgl n B) = alL n m (B + 1) := by
  show _ = (if alS m B then alL n m B ++ [sgl n B] else alL n m B)
  rw [if_pos h, noteL_new]
  intro q
  obtain ⟨S, h1, -, h3⟩ := alL_mem.mp q
  have := sgl_inj (n := n) hB (by omega) h3
  omega
theorem alL_skip {n m B : Nat} (h : alS m B = false) : alL n m (B + 1) = alL n m B := by
  show (if alS m B then alL n m B ++ [sgl n B] else alL n m B) = _
  rw [if_neg (by rw [h]; decide)]
def schB (v : Int32) : Bool := inI 0 2 v
def MeP (n : Nat) (w : Nat → Nat) (many : Nat) (ru : Nat → Nat → Nat) (v what r : Int32) : Prop := ((inI 0 2 v && inI 0 4 what) = false → r = -2) ∧ ((inI 0 2 v && inI 0 4 what) = true → (cdw w n = 0 → r = -3) ∧ (¬ cdw w n = 0 → MeOK n many ru false v.toNatClampNeg [cdw w n] (cdw w n) what.toNatClampNeg r))
def FiP (n : Nat) (w : Nat → Nat) (many : Nat) (ru : Nat → Nat → Nat) (v r : Int32) : Prop := (inI 0 2 v = false → r = -2) ∧ (inI 0 2 v = true → (cdw w n = 0 → r = -3) ∧ (¬ cdw w n = 0 → FiOK n many ru false v.toNatClampNeg [cdw w n] (cdw w n) r))
def BlP (n : Nat) (w : Nat → Nat) (many : Nat) (ru : Nat → Nat → Nat) (v r : Int32) : Prop := (inI 0 2 v = false → r = -2) ∧ (inI 0 2 v = true → (cdw w n = 0 → r = -3) ∧ (¬ cdw w n = 0 → MeOK n many ru true v.toNatClampNeg [cdw w n] (cdw w n) 2 r))
def UsP (n : Nat) (w : Nat → Nat) (many : Nat) (ru : Nat → Nat → Nat) (v r : Int32) : Prop := (inI 0 2 v = false → r = -2) ∧ (inI 0 2 v = true → (cdw w n = 0 → r = -3) ∧ (¬ cdw w n = 0 → UsOK n many ru false v.toNatClampNeg [cdw w n] r))
def alB (n : Nat) (m v t : Int32) : Bool := inI 1 5 m && decide (m ≤ nI n) && inI 0 2 v && inI 0 3 t
def AlP (n many : Nat) (ru : Nat → Nat → Nat) (m v t r : Int32) : Prop := (alB n m v t = false → r = -2) ∧ (alB n m v t = true → AlOK n many ru false v.toNatClampNeg m.toNatClampNeg t.toNatClampNeg r)
