/-! successors, their weights; the reference's list; rounds; soon and late -/
set_option maxRecDepth 100000
theorem sm_up (f : Nat → Nat) {i v : Nat} : ∀ {n : Nat}, i < n → sm (va_up f i v) n + f i = sm f n + v
  | 0, h => absurd h (Nat.not_lt_zero i)
  | n + 1, h => by
    show sm (va_up f i v) n + va_up f i v n + f i = sm f n + f n + v
    rcases Nat.lt_or_ge i n with q | q
    · have h1 := sm_up f (v := v) q
      have h2 : va_up f i v n = f n := by unfold va_up; rw [if_neg (by omega)]
      omega
    · have e : i = n := by omega
      subst e
      have h1 : sm (va_up f i v) i = sm f i := sm_congr fun k hk => by unfold va_up; rw [if_neg (by omega)]
      have h2 : va_up f i v i = v := by unfold va_up; rw [if_pos rfl]
      omega
theorem bsD_sm {n code mvc z : Nat} (hn : 0 < n) : ∀ {k : Nat}, k ≤ n → sm (bsD n code mvc z k) n ≤ sm (tg code) k
  | 0, _ => by
    have : sm (bsD n code mvc z 0) n = 0 := by
      have : ∀ m, sm (fun _ => 0) m = 0 := fun m => by
        induction m with
        | zero => rfl
        | succ m ih => show sm (fun _ => 0) m + 0 = 0; rw [ih]
      exact this n
    rw [this]
    exact Nat.zero_le _
  | k + 1, h => by
    have ih := bsD_sm (code := code) (mvc := mvc) (z := z) hn (show k ≤ n by omega)
    show _ ≤ sm (tg code) k + tg code k
    rcases Nat.eq_zero_or_pos (tg code k) with q | q
    · rw [bsD_f q]
      omega
    · rw [bsD_t q]
      have hto : bsTo n mvc z k < n := bsTo_lt hn (by omega)
      have h1 := sm_up (bsD n code mvc z k) (v := if 0 < bsD n code mvc z k (bsTo n mvc z k) then 2 else tg code k) hto
      split at h1
      · rename_i h2
        rw [if_pos h2]
        omega
      · rename_i h2
        rw [if_neg h2]
        omega
theorem tg_bstep {n code mvc z j : Nat} (hj : j < n) : tg (bstep n code mvc z) j = bsD n code mvc z n j := by
  unfold bstep
  rw [tg_sm (bsD_le n code mvc z n) j n, if_pos hj]
theorem bstep_okc {n code mvc z : Nat} (hn : 0 < n) (h : okc n code) : okc n (bstep n code mvc z) := by
  refine ⟨bstep_lt _ _ _ _, ?_⟩
  rw [sm_congr (fun k hk => tg_bstep hk)]
  exact Nat.le_trans (bsD_sm hn (Nat.le_refl n)) h.2
section SC
variable (n many : Nat) (ru : Nat → Nat → Nat) (bl : Bool) (k : Nat)
def mvS (code : Nat) : Nat := stS n (mvC n many ru bl code)
def sucs (code : Nat) : List Nat := (sets k (mvS n many ru bl code)).map (bstep n code (mvC n many ru bl code))
/-- the reference's list holds L -/
def MR (L : List Nat) (li : Nat → Nat) (isl : Nat → Bool) (mv : Nat → Nat) (ld us : Nat) : Prop := ld = L.length ∧ (∀ i, i < L.length → li i = L.getD i 0) ∧ (∀ c, c < 59049 → isl c = decide (c ∈ L)) ∧ (∀ c ∈ L, mv c = mvC n many ru bl c) ∧ us = L.foldl (fun u c => u ||| usC n many ru bl c n) 0
end SC
theorem sucs_okc {n many : Nat} {ru : Nat → Nat → Nat} {bl : Bool} {k : Nat} (hn : 0 < n) (c : Nat) (h : okc n c) : ∀ d ∈ sucs n many ru bl k c, okc n d := by
  intro d hd
  obtain ⟨z, -, rfl⟩ := List.mem_map.mp hd
  exact bstep_okc hn h
theorem MR_note {n many : Nat} {ru : Nat → Nat → Nat} {bl : Bool} {L : List Nat} {li li1 : Nat → Nat} {isl isl1 : Nat → Bool} {mv mv1 : Nat → Nat} {ld ld1 us us1 c : Nat} (h : MR n many ru bl L li isl mv ld us) (hc : c < 59049)
    (h1 : isl c = true → isl1 = isl ∧ li1 = li ∧ mv1 = mv ∧ ld1 = ld ∧ us1 = us) (h2 : isl c = false → isl1 = va_up isl c true ∧ li1 = va_up li ld c ∧ mv1 = va_up mv c (mvC n many ru bl c) ∧ ld1 = ld + 1 ∧ us1 = us ||| usC n many ru bl c n) : MR n many ru bl (noteL L c) li1 isl1 mv1 ld1 us1 := by
  obtain ⟨a1, a2, a3, a4, a5⟩ := h
  have a3c := a3 c hc
  by_cases hm : c ∈ L
  · rw [decide_eq_true hm] at a3c
    obtain ⟨rfl, rfl, rfl, rfl, rfl⟩ := h1 a3c
    unfold noteL
    rw [if_pos hm]
    exact ⟨a1, a2, a3, a4, a5⟩
  · rw [decide_eq_false hm] at a3c
    obtain ⟨rfl, rfl, rfl, rfl, rfl⟩ := h2 a3c
    unfold noteL
    rw [if_neg hm]
    refine ⟨by rw [List.length_append, a1]; rfl, fun i hi => ?_, fun x hx => ?_, fun x hx => ?_, ?_⟩
    · rw [List.length_append, List.length_singleton] at hi
      unfold va_up
      rw [List.getD_eq_getElem?_getD]
      rcases Nat.lt_or_ge i L.length with q | q
      · rw [if_neg (by omega), a2 i q, List.getElem?_append_left q, List.getD_eq_getElem?_getD]
      · rw [if_pos (by omega), List.getElem?_append_right q, show i - L.length = 0 by omega]
        rfl
    · unfold va_up
      by_cases e : x = c
      · rw [if_pos e]
        symm
        rw [decide_eq_true_iff, e]
        simp
      · rw [if_neg e, a3 x hx]
        apply decide_eq_decide.mpr
        simp [e]
    · unfold va_up
      by_cases e : x = c
      · rw [if_pos e, e]
      · rw [if_neg e]
        rcases List.mem_append.mp hx with q | q
        · exact a4 x q
        · exact absurd (List.mem_singleton.mp q) e
    · rw [List.foldl_append, ← a5]
      rfl
theorem MR_len {n many : Nat} {ru : Nat → Nat → Nat} {bl : Bool} {L : List Nat} {li : Nat → Nat} {isl : Nat → Bool} {mv : Nat → Nat} {ld us : Nat} (h : MR n many ru bl L li isl mv ld us) : ld = L.length := h.1
theorem MR_nil {n many : Nat} {ru : Nat → Nat → Nat} {bl : Bool} {li : Nat → Nat} {isl : Nat → Bool} {mv : Nat → Nat} (h : ∀ k, k < 59049 → isl k = false) : MR n many ru bl [] li isl mv 0 0 := ⟨rfl, fun i hi => absurd hi (Nat.not_lt_zero i), fun c hc => by rw [h c hc]; rfl, fun c hc => absurd hc List.not_mem_nil, rfl⟩
/-! rounds -/
section RD
variable (sc : Nat → List Nat) (me : Nat → Bool)
def lvl0 (c : Nat) : Option Nat := if me c then some 0 else none
def sv : Nat → Nat → Option Nat
  | 0, c => lvl0 me c
  | r + 1, c => if (sv r c).isNone && (sc c).any (fun d => decide (sv r d = some r)) then some (r + 1) else sv r c
def lv : Nat → Nat → Option Nat
  | 0, c => lvl0 me c
  | r + 1, c => if (lv r c).isNone && (!(sc c).isEmpty && (sc c).all (fun d => (lv r d).isSome)) then some (r + 1) else lv r c
def chS (r c : Nat) : Bool := (sv sc me r c).isNone && (sc c).any (fun d => decide (sv sc me r d = some r))
def chL (r c : Nat) : Bool := (lv sc me r c).isNone && (!(sc c).isEmpty && (sc c).all (fun d => (lv sc me r d).isSome))
/-- f says how soon all can have met -/
def SPs (L : List Nat) (f : Nat → Option Nat) : Prop := ∀ c ∈ L, (me c = true → f c = some 0) ∧ (me c = false → (∀ v, f c = some v → ∃ u, v = u + 1 ∧ ∃ d ∈ sc c, f d = some u) ∧ ∀ d ∈ sc c, ∀ u, f d = some u → ∃ v, f c = some v ∧ v ≤ u + 1)
/-- f says how late -/
def LPs (L : List Nat) (f : Nat → Option Nat) : Prop := ∀ c ∈ L, (me c = true → f c = some 0) ∧ (me c = false → (∀ v, f c = some v → sc c ≠ [] ∧ (∃ u, v = u + 1 ∧ ∃ d ∈ sc c, f d = some u) ∧ ∀ d ∈ sc c, ∃ u, f d = some u ∧ u < v) ∧ (sc c ≠ [] → (∀ d ∈ sc c, ∃ u, f d = some u) → ∃ v, f c = some v))
end RD
section RD2
variable {sc : Nat → List Nat} {me : Nat → Bool}
theorem sv_succ (r c : Nat) : sv sc me (r + 1) c = if chS sc me r c then some (r + 1) else sv sc me r c := rfl
theorem lv_succ (r c : Nat) : lv sc me (r + 1) c = if chL sc me r c then some (r + 1) else lv sc me r c := rfl
theorem sv_keep {r c v : Nat} (h : sv sc me r c = some v) : sv sc me (r + 1) c = some v := by
  rw [sv_succ, if_neg (by unfold chS; rw [h]; simp), h]
theorem lv_keep {r c v : Nat} (h : lv sc me r c = some v) : lv sc me (r + 1) c = some v := by
  rw [lv_succ, if_neg (by unfold chL; rw [h]; simp), h]
theorem sv_keeps {r c v : Nat} (h : sv sc me r c = some v) (d : Nat) : sv sc me (r + d) c = some v := by
  induction d with
  | zero => exact h
  | succ d ih => exact sv_keep ih
theorem lv_keeps {r c v : Nat} (h : lv sc me r c = some v) (d : Nat) : lv sc me (r + d) c = some v := by
  induction d with
  | zero => exact h
  | succ d ih => exact lv_keep ih
theorem lvl0_some {c v : Nat} (h : lvl0 me c = some v) : me c = true ∧ v = 0 := by
  unfold lvl0 at h
  split at h
  · rename_i q
    cases h
    exact ⟨q, rfl⟩
  · cases h
theorem sv_when : ∀ {r c v : Nat}, sv sc me r c = some v → v ≤ r ∧ sv sc me v c = some v ∧ (0 < v → me c = false ∧ ∃ d ∈ sc c, sv sc me (v - 1) d = some (v - 1))
  | 0, c, v, h => by
    have := lvl0_some h
    obtain ⟨h1, rfl⟩ := this
    exact ⟨Nat.le_refl _, h, fun q => absurd q (Nat.lt_irrefl 0)⟩
  | r + 1, c, v, h => by
    rw [sv_succ] at h
    by_cases q : chS sc me r c = true
    · rw [if_pos q] at h
      cases h
      refine ⟨Nat.le_refl _, by rw [sv_succ, if_pos q], fun _ => ?_⟩
      unfold chS at q
      rw [Bool.and_eq_true, List.any_eq_true] at q
      obtain ⟨q1, d, hd, q2⟩ := q
      refine ⟨?_, d, hd, of_decide_eq_true q2⟩
      cases hm : me c
      · rfl
      · have h0 : sv sc me 0 c = some 0 := by show lvl0 me c = _; unfold lvl0; rw [if_pos hm]
        have h1 := sv_keeps h0 r
        rw [Nat.zero_add] at h1
        rw [h1] at q1
        cases q1
    · rw [if_neg q] at h
      obtain ⟨a, b, d⟩ := sv_when h
      exact ⟨by omega, b, d⟩
theorem lv_when : ∀ {r c v : Nat}, lv sc me r c = some v → v ≤ r ∧ lv sc me v c = some v ∧ (0 < v → me c = false ∧ chL sc me (v - 1) c = true)
  | 0, c, v, h => by
    have := lvl0_some h
    obtain ⟨h1, rfl⟩ := this
    exact ⟨Nat.le_refl _, h, fun q => absurd q (Nat.lt_irrefl 0)⟩
  | r + 1, c, v, h => by
    rw [lv_succ] at h
    by_cases q : chL sc me r c = true
    · rw [if_pos q] at h
      cases h
      refine ⟨Nat.le_refl _, by rw [lv_succ, if_pos q], fun _ => ⟨?_, q⟩⟩
      cases hm : me c
      · rfl
      · have h0 : lv sc me 0 c = some 0 := by show lvl0 me c = _; unfold lvl0; rw [if_pos hm]
        have h1 := lv_keeps h0 r
        rw [Nat.zero_add] at h1
        unfold chL at q
        rw [h1] at q
        cases q
    · rw [if_neg q] at h
      obtain ⟨a, b, d⟩ := lv_when h
      exact ⟨by omega, b, d⟩
theorem lvl0_met {c : Nat} (h : me c = true) : lvl0 me c = some 0 := by unfold lvl0; rw [if_pos h]
theorem lvl0_not {c : Nat} (h : me c = false) : lvl0 me c = none := by unfold lvl0; rw [if_neg (by rw [h]; decide)]
theorem sv_SP {L : List Nat} (hcl : ∀ c ∈ L, ∀ d ∈ sc c, d ∈ L) {r : Nat} (hst : ∀ c ∈ L, chS sc me r c = false) : SPs sc me L (sv sc me r) := by
  intro c hc
  refine ⟨fun hm => by have := sv_keeps (sc := sc) (show sv sc me 0 c = some 0 from lvl0_met hm) r; rwa [Nat.zero_add] at this, fun hm => ⟨fun v hv => ?_, fun d hd u hu => ?_⟩⟩
  · obtain ⟨h1, h2, h3⟩ := sv_when hv
    have hv0 : 0 < v := by
      rcases Nat.eq_zero_or_pos v with q | q
      · subst q
        have : lvl0 me c = some 0 := h2
        rw [lvl0_not hm] at this
        cases this
      · exact q
    obtain ⟨-, d, hd, h4⟩ := h3 hv0
    refine ⟨v - 1, by omega, d, hd, ?_⟩
    have := sv_keeps h4 (r - (v - 1))
    rwa [show v - 1 + (r - (v - 1)) = r by omega] at this
  · obtain ⟨h1, h2, -⟩ := sv_when hu
    -- at stage u + 1 the state c is known
    have key : ∃ v, sv sc me (u + 1) c = some v := by
      by_cases q : chS sc me u c = true
      · exact ⟨u + 1, by rw [sv_succ, if_pos q]⟩
      · cases hs : sv sc me u c with
        | some v => exact ⟨v, sv_keep hs⟩
        | none =>
          exfalso
          apply q
          unfold chS
          rw [hs, Bool.and_eq_true]
          exact ⟨rfl, List.any_eq_true.mpr ⟨d, hd, decide_eq_true h2⟩⟩
    obtain ⟨v, hv⟩ := key
    have hle := (sv_when hv).1
    rcases Nat.lt_or_ge u r with q | q
    · have := sv_keeps hv (r - (u + 1))
      rw [show u + 1 + (r - (u + 1)) = r by omega] at this
      exact ⟨v, this, hle⟩
    · have e : u = r := by omega
      subst e
      rw [sv_succ, if_neg (by rw [hst c hc]; decide)] at hv
      exact ⟨v, hv, by have := (sv_when hv).1; omega⟩
theorem lv_LP {L : List Nat} (hcl : ∀ c ∈ L, ∀ d ∈ sc c, d ∈ L) {r : Nat} (hst : ∀ c ∈ L, chL sc me r c = false) : LPs sc me L (lv sc me r) := by
  intro c hc
  refine ⟨fun hm => by have := lv_keeps (sc := sc) (show lv sc me 0 c = some 0 from lvl0_met hm) r; rwa [Nat.zero_add] at this, fun hm => ⟨fun v hv => ?_, fun hne hall => ?_⟩⟩
  · obtain ⟨h1, h2, h3⟩ := lv_when hv
    have hv0 : 0 < v := by
      rcases Nat.eq_zero_or_pos v with q | q
      · subst q
        have : lvl0 me c = some 0 := h2
        rw [lvl0_not hm] at this
        cases this
      · exact q
    obtain ⟨-, h4⟩ := h3 hv0
    obtain ⟨w, rfl⟩ : ∃ w, v = w + 1 := ⟨v - 1, by omega⟩
    rw [Nat.add_sub_cancel] at h4
    have h4' := h4
    unfold chL at h4
    rw [Bool.and_eq_true, Bool.and_eq_true, List.all_eq_true] at h4
    obtain ⟨h5, h6, h7⟩ := h4
    have hne : sc c ≠ [] := by
      intro e
      rw [e] at h6
      cases h6
    have up : ∀ {d u : Nat}, lv sc me w d = some u → lv sc me r d = some u := fun {d u} h => by
      have := lv_keeps h (r - w)
      rwa [show w + (r - w) = r by omega] at this
    refine ⟨hne, ⟨w, rfl, ?_⟩, fun d hd => ?_⟩
    · -- somebody came at w itself
      cases w with
      | zero =>
        obtain ⟨d, hd⟩ : ∃ d, d ∈ sc c := by
          cases hs : sc c with
          | nil => exact absurd hs hne
          | cons d l => exact ⟨d, List.mem_cons_self⟩
        have h8 := h7 d hd
        obtain ⟨u, hu⟩ := Option.isSome_iff_exists.mp h8
        have := (lv_when hu).1
        rw [show u = 0 by omega] at hu
        exact ⟨d, hd, up hu⟩
      | succ w =>
        apply Classical.byContradiction
        intro hno
        have hall : (sc c).all (fun d => (lv sc me w d).isSome) = true := by
          rw [List.all_eq_true]
          intro d hd
          obtain ⟨u, hu⟩ := Option.isSome_iff_exists.mp (h7 d hd)
          obtain ⟨b1, b2, -⟩ := lv_when hu
          have : u ≠ w + 1 := fun e => hno ⟨d, hd, by rw [← e]; exact up hu⟩
          have := lv_keeps b2 (w - u)
          rw [show u + (w - u) = w by omega] at this
          rw [this]
          rfl
        have hn : (lv sc me w c).isNone = true := by
          cases hs : lv sc me w c with
          | none => rfl
          | some x =>
            rw [lv_keep hs] at h5
            cases h5
        have hch : chL sc me w c = true := by
          unfold chL
          rw [hn, hall, h6]
          rfl
        rw [lv_succ, if_pos hch] at h5
        cases h5
    · obtain ⟨u, hu⟩ := Option.isSome_iff_exists.mp (h7 d hd)
      exact ⟨u, up hu, by have := (lv_when hu).1; omega⟩
  · have h1 := hst c hc
    cases hs : lv sc me r c with
    | some v => exact ⟨v, rfl⟩
    | none =>
      exfalso
      unfold chL at h1
      rw [hs] at h1
      have h2 : (sc c).all (fun d => (lv sc me r d).isSome) = true := by
        rw [List.all_eq_true]
        intro d hd
        obtain ⟨u, hu⟩ := hall d hd
        rw [hu]
        rfl
      have h3 : (sc c).isEmpty = false := by
        cases hq : sc c with
        | nil => exact absurd hq hne
        | cons d l => rfl
      rw [h2, h3] at h1
      cases h1
theorem SP_le {L : List Nat} (hcl : ∀ c ∈ L, ∀ d ∈ sc c, d ∈ L) {f g : Nat → Option Nat} (hf : SPs sc me L f) (hg : SPs sc me L g) : ∀ {v c : Nat}, c ∈ L → f c = some v → ∃ u, g c = some u ∧ u ≤ v
  | v, c, hc, h => by
    cases hm : me c
    · obtain ⟨u, hu, d, hd, hfd⟩ := ((hf c hc).2 hm).1 v h
      subst hu
      obtain ⟨x, hx, hle⟩ := SP_le hcl hf hg (hcl c hc d hd) hfd
      obtain ⟨y, hy, hle2⟩ := ((hg c hc).2 hm).2 d hd x hx
      exact ⟨y, hy, by omega⟩
    · exact ⟨0, (hg c hc).1 hm, Nat.zero_le _⟩
  termination_by v => v
theorem SP_one {L : List Nat} (hcl : ∀ c ∈ L, ∀ d ∈ sc c, d ∈ L) {f g : Nat → Option Nat} (hf : SPs sc me L f) (hg : SPs sc me L g) {c : Nat} (hc : c ∈ L) : f c = g c := by
  cases h1 : f c with
  | some v =>
    obtain ⟨u, hu, hle⟩ := SP_le hcl hf hg hc h1
    obtain ⟨x, hx, hle2⟩ := SP_le hcl hg hf hc hu
    rw [h1] at hx
    cases hx
    rw [hu, show u = v by omega]
  | none =>
    cases h2 : g c with
    | none => rfl
    | some v =>
      obtain ⟨u, hu, -⟩ := SP_le hcl hg hf hc h2
      rw [h1] at hu
      cases hu
theorem LP_eq {L : List Nat} (hcl : ∀ c ∈ L, ∀ d ∈ sc c, d ∈ L) {f g : Nat → Option Nat} (hf : LPs sc me L f) (hg : LPs sc me L g) (v : Nat) : ∀ c ∈ L, f c = some v → g c = some v := by
  induction v using Nat.strongRecOn with
  | ind v ih =>
    intro c hc h
    cases hm : me c
    · obtain ⟨hne, ⟨u, hu, d0, hd0, hf0⟩, hall⟩ := ((hf c hc).2 hm).1 v h
      have hg' : ∀ d ∈ sc c, ∃ x, f d = some x ∧ g d = some x ∧ x < v := fun d hd => by
        obtain ⟨x, hx, hlt⟩ := hall d hd
        exact ⟨x, hx, ih x hlt d (hcl c hc d hd) hx, hlt⟩
      obtain ⟨w, hw⟩ := ((hg c hc).2 hm).2 hne (fun d hd => by obtain ⟨x, -, hx, -⟩ := hg' d hd; exact ⟨x, hx⟩)
      obtain ⟨-, ⟨u', hu', d1, hd1, hg1⟩, hall'⟩ := ((hg c hc).2 hm).1 w hw
      obtain ⟨x, hx1, hx2, hx3⟩ := hg' d1 hd1
      rw [hg1] at hx2
      cases hx2
      obtain ⟨y, hy1, hy2, hy3⟩ := hg' d0 hd0
      rw [hf0] at hy1
      cases hy1
      obtain ⟨t, ht, htw⟩ := hall' d0 hd0
      rw [hy2] at ht
      cases ht
      rw [hw, show w = v by omega]
    · have h1 := (hf c hc).1 hm
      rw [h] at h1
      cases h1
      exact (hg c hc).1 hm
theorem LP_one {L : List Nat} (hcl : ∀ c ∈ L, ∀ d ∈ sc c, d ∈ L) {f g : Nat → Option Nat} (hf : LPs sc me L f) (hg : LPs sc me L g) {c : Nat} (hc : c ∈ L) : f c = g c := by
  cases h1 : f c with
  | some v => exact (LP_eq hcl hf hg v c hc h1).symm
  | none =>
    cases h2 : g c with
    | none => rfl
    | some v =>
      rw [LP_eq hcl hg hf v c hc h2] at h1
      cases h1
/-! how many are not known yet -/
def nN (L : List Nat) (f : Nat → Option Nat) : Nat := (L.filter (fun c => (f c).isNone)).length
theorem nN_le {f g : Nat → Option Nat} : ∀ {L : List Nat}, (∀ c ∈ L, (g c).isNone = true → (f c).isNone = true) → nN L g ≤ nN L f
  | [], _ => Nat.le_refl _
  | a :: L, h => by
    have ih := nN_le (f := f) (g := g) (L := L) (fun c hc => h c (List.mem_cons_of_mem _ hc))
    unfold nN at ih ⊢
    rw [List.filter_cons, List.filter_cons]
    have ha := h a List.mem_cons_self
    by_cases q : (g a).isNone = true
    · rw [if_pos q, if_pos (ha q)]
      simp only [List.length_cons]
      omega
    · rw [if_neg q]
      split
      · simp only [List.length_cons]
        omega
      · exact ih
theorem nN_lt {f g : Nat → Option Nat} : ∀ {L : List Nat}, (∀ c ∈ L, (g c).isNone = true → (f c).isNone = true) → (∃ c ∈ L, (f c).isNone = true ∧ (g c).isNone = false) → nN L g < nN L f
  | [], _, ⟨c, hc, _⟩ => by cases hc
  | a :: L, h, ⟨c, hc, h1, h2⟩ => by
    have ha := h a List.mem_cons_self
    have hL : ∀ c ∈ L, (g c).isNone = true → (f c).isNone = true := fun c hc => h c (List.mem_cons_of_mem _ hc)
    have ihle := nN_le hL
    unfold nN at ihle ⊢
    rw [List.filter_cons, List.filter_cons]
    rcases List.mem_cons.mp hc with e | e
    · subst e
      rw [if_pos h1, if_neg (by rw [h2]; decide)]
      simp only [List.length_cons]
      omega
    · have ih := nN_lt hL ⟨c, e, h1, h2⟩
      unfold nN at ih
      by_cases q : (g a).isNone = true
      · rw [if_pos q, if_pos (ha q)]
        simp only [List.length_cons]
        omega
      · rw [if_neg q]
        split
        · simp only [List.length_cons]
          omega
        · exact ih
theorem nN_len (L : List Nat) (f : Nat → Option Nat) : nN L f ≤ L.length := List.length_filter_le _ _
theorem rd_lt {L : List Nat} {r : Nat} (h : ∃ c ∈ L, (chS sc me r c || chL sc me r c) = true) : nN L (sv sc me (r + 1)) + nN L (lv sc me (r + 1)) < nN L (sv sc me r) + nN L (lv sc me r) := by
  have hs : ∀ c ∈ L, (sv sc me (r + 1) c).isNone = true → (sv sc me r c).isNone = true := fun c _ q => by
    cases hh : sv sc me r c with
    | none => rfl
    | some v => rw [sv_keep hh] at q; cases q
  have hl : ∀ c ∈ L, (lv sc me (r + 1) c).isNone = true → (lv sc me r c).isNone = true := fun c _ q => by
    cases hh : lv sc me r c with
    | none => rfl
    | some v => rw [lv_keep hh] at q; cases q
  have h1 := nN_le hs
  have h2 := nN_le hl
  obtain ⟨c, hc, hch⟩ := h
  rcases Bool.or_eq_true_iff.mp hch with q | q
  · have h3 := nN_lt hs ⟨c, hc, by unfold chS at q; exact (Bool.and_eq_true_iff.mp q).1, by rw [sv_succ, if_pos q]; rfl⟩
    omega
  · have h3 := nN_lt hl ⟨c, hc, by unfold chL at q; exact (Bool.and_eq_true_iff.mp q).1, by rw [lv_succ, if_pos q]; rfl⟩
    omega
end RD2
theorem sets_ne : ∀ k, k < 3 → ∀ M, M < 1024 → (sets k M).isEmpty = decide (M = 0) := by decide +kernel
theorem oI_eqn {o : Option Nat} {r : Nat} (ho : ∀ v, o = some v → v < 2 ^ 31) (hr : r < 2 ^ 31) : oI o = nI r ↔ o = some r := by
  cases o with
  | none =>
    constructor
    · intro h
      have h1 := congrArg Int32.toInt h
      rw [nI_toInt hr] at h1
      have h2 : (oI none).toInt = -6 := by decide
      omega
    · intro h
      cases h
  | some v =>
    show nI v = nI r ↔ _
    rw [nI_eq (ho v rfl) hr, Option.some.injEq]
theorem inI_oI {o : Option Nat} {r : Nat} (ho : ∀ v, o = some v → v < 2 ^ 31) (hr : r < 2 ^ 31) : inI 0 r (oI o) = o.any (fun v => decide (v ≤ r)) := by
  cases o with
  | none =>
    show inI 0 r (-6) = false
    unfold inI
    rw [decide_eq_false (by decide)]
    rfl
  | some v =>
    show inI 0 r (nI v) = decide (v ≤ r)
    rw [Bool.eq_iff_iff, inI_iff hr (by decide), decide_eq_true_iff]
    constructor
    · rintro ⟨j, -, h2, e⟩
      rw [(nI_eq (ho v rfl) (by omega)).mp e]
      exact h2
    · intro h
      exact ⟨v, Nat.zero_le _, h, rfl⟩
