/-! one look of a round, against the rounds' own words -/
set_option maxRecDepth 100000
def rmS (n code mvc k M f z : Nat) : List Nat := ((sbs M f z).filter (fun z => mb k z M)).map (bstep n code mvc)
theorem rmS_t {n code mvc k M f g z z' : Nat} (h : sbs M f z = z :: sbs M g z') (hm : mb k z M = true) : rmS n code mvc k M f z = bstep n code mvc z :: rmS n code mvc k M g z' := by
  unfold rmS
  rw [h, List.filter_cons, if_pos hm]
  rfl
theorem rmS_f {n code mvc k M f g z z' : Nat} (h : sbs M f z = z :: sbs M g z') (hm : mb k z M = false) : rmS n code mvc k M f z = rmS n code mvc k M g z' := by
  unfold rmS
  rw [h, List.filter_cons, if_neg (by rw [hm]; decide)]
theorem rmS_0 {n code mvc k M f : Nat} : rmS n code mvc k M f 0 = [] := by
  unfold rmS
  rw [sbs_0]
  rfl
/-- the successors out of a state's moves -/
def scM (n mvc k code : Nat) : List Nat := rmS n code mvc k (stS n mvc) 1024 (nxs (stS n mvc) 0)
theorem scM_sucs {n many : Nat} {ru : Nat → Nat → Nat} {bl : Bool} {k code mvc : Nat} (h : mvc = mvC n many ru bl code) : scM n mvc k code = sucs n many ru bl k code := by
  subst h
  rfl
theorem scM_empty {n mvc k code : Nat} (hk : k < 3) (hn : n ≤ 10) : decide (0 < stS n mvc) = !(scM n mvc k code).isEmpty := by
  have h := sets_ne k hk (stS n mvc) (stS_lt hn mvc)
  have h2 : (scM n mvc k code).isEmpty = (sets k (stS n mvc)).isEmpty := by
    show (List.map _ (sets k (stS n mvc))).isEmpty = _
    cases sets k (stS n mvc) <;> rfl
  rw [h2, h]
  rcases Nat.eq_zero_or_pos (stS n mvc) with q | q
  · rw [q]; rfl
  · rw [decide_eq_true q, decide_eq_false (by omega)]; rfl
def lkS (l : List Nat) (so : Nat → Option Nat) (r : Nat) : Bool := l.any (fun d => decide (so d = some r))
def lkL (l : List Nat) (la : Nat → Option Nat) (r : Nat) : Bool := l.all (fun d => (la d).any (fun v => decide (v ≤ r)))
theorem lk_S {sc : Nat → List Nat} {me : Nat → Bool} {s1 : Nat → Option Nat} {r c : Nat} (hc : s1 c = sv sc me r c) (hd : ∀ d ∈ sc c, s1 d = sv sc me r d ∨ s1 d = sv sc me (r + 1) d) : ((s1 c).isNone && lkS (sc c) s1 r) = chS sc me r c := by
  unfold chS lkS
  rw [hc]
  congr 1
  rw [Bool.eq_iff_iff, List.any_eq_true, List.any_eq_true]
  have key : ∀ d ∈ sc c, (s1 d = some r ↔ sv sc me r d = some r) := by
    intro d h
    rcases hd d h with q | q
    · rw [q]
    · rw [q]
      constructor
      · intro e
        rw [sv_succ] at e
        by_cases x : chS sc me r d = true
        · rw [if_pos x] at e
          have := Option.some.inj e
          omega
        · rw [if_neg x] at e
          exact e
      · exact sv_keep
  constructor
  · rintro ⟨d, h, e⟩
    exact ⟨d, h, decide_eq_true ((key d h).mp (of_decide_eq_true e))⟩
  · rintro ⟨d, h, e⟩
    exact ⟨d, h, decide_eq_true ((key d h).mpr (of_decide_eq_true e))⟩
theorem lk_L {sc : Nat → List Nat} {me : Nat → Bool} {l1 : Nat → Option Nat} {r c : Nat} {b : Bool} (hb : b = !(sc c).isEmpty) (hc : l1 c = lv sc me r c) (hd : ∀ d ∈ sc c, l1 d = lv sc me r d ∨ l1 d = lv sc me (r + 1) d) : ((l1 c).isNone && (b && lkL (sc c) l1 r)) = chL sc me r c := by
  unfold chL lkL
  rw [hc, hb]
  congr 2
  rw [Bool.eq_iff_iff, List.all_eq_true, List.all_eq_true]
  have key : ∀ d ∈ sc c, ((l1 d).any (fun v => decide (v ≤ r)) = true ↔ (lv sc me r d).isSome = true) := by
    intro d h
    rcases hd d h with q | q
    · rw [q]
      cases hx : lv sc me r d with
      | none => simp
      | some v => simp [(lv_when hx).1]
    · rw [q]
      cases hx : lv sc me r d with
      | none =>
        rw [lv_succ]
        by_cases x : chL sc me r d = true
        · rw [if_pos x]
          simp
        · rw [if_neg x, hx]
          simp
      | some v =>
        rw [lv_keep hx]
        simp [(lv_when hx).1]
  constructor
  · intro h d hd
    exact (key d hd).mp (h d hd)
  · intro h d hd
    exact (key d hd).mpr (h d hd)
theorem SPs_congr {sc : Nat → List Nat} {me : Nat → Bool} {L : List Nat} (hcl : ∀ c ∈ L, ∀ d ∈ sc c, d ∈ L) {f g : Nat → Option Nat} (e : ∀ c ∈ L, f c = g c) (h : SPs sc me L f) : SPs sc me L g := by
  intro c hc
  obtain ⟨a, b⟩ := h c hc
  refine ⟨fun hm => by rw [← e c hc]; exact a hm, fun hm => ⟨fun v hv => ?_, fun d hd u hu => ?_⟩⟩
  · obtain ⟨u, hu, d, hd, h1⟩ := (b hm).1 v (by rw [e c hc]; exact hv)
    exact ⟨u, hu, d, hd, by rw [← e d (hcl c hc d hd)]; exact h1⟩
  · obtain ⟨v, hv, hle⟩ := (b hm).2 d hd u (by rw [e d (hcl c hc d hd)]; exact hu)
    exact ⟨v, by rw [← e c hc]; exact hv, hle⟩
theorem LPs_congr {sc : Nat → List Nat} {me : Nat → Bool} {L : List Nat} (hcl : ∀ c ∈ L, ∀ d ∈ sc c, d ∈ L) {f g : Nat → Option Nat} (e : ∀ c ∈ L, f c = g c) (h : LPs sc me L f) : LPs sc me L g := by
  intro c hc
  obtain ⟨a, b⟩ := h c hc
  refine ⟨fun hm => by rw [← e c hc]; exact a hm, fun hm => ⟨fun v hv => ?_, fun hne hall => ?_⟩⟩
  · obtain ⟨h1, ⟨u, hu, d, hd, h2⟩, h3⟩ := (b hm).1 v (by rw [e c hc]; exact hv)
    exact ⟨h1, ⟨u, hu, d, hd, by rw [← e d (hcl c hc d hd)]; exact h2⟩, fun d hd => by obtain ⟨u, hu, hlt⟩ := h3 d hd; exact ⟨u, by rw [← e d (hcl c hc d hd)]; exact hu, hlt⟩⟩
  · obtain ⟨v, hv⟩ := (b hm).2 hne (fun d hd => by obtain ⟨u, hu⟩ := hall d hd; exact ⟨u, by rw [e d (hcl c hc d hd)]; exact hu⟩)
    exact ⟨v, by rw [← e c hc]; exact hv⟩
theorem va_up_bd {f : Nat → Option Nat} {B c : Nat} {o : Option Nat} (h : ∀ x v, f x = some v → v < B) (ho : ∀ v, o = some v → v < B) : ∀ x v, va_up f c o x = some v → v < B := by
  intro x v e
  unfold va_up at e
  split at e
  · exact ho v e
  · exact h x v e
theorem nodup_getD {L : List Nat} (h : L.Nodup) {i j : Nat} (hi : i < L.length) (hj : j < L.length) (e : L.getD i 0 = L.getD j 0) : i = j := by
  rw [List.getD_eq_getElem?_getD, List.getD_eq_getElem?_getD, List.getElem?_eq_getElem hi, List.getElem?_eq_getElem hj] at e
  have e : L[i] = L[j] := e
  have hp := List.pairwise_iff_getElem.mp h
  rcases Nat.lt_trichotomy i j with q | q | q
  · exact absurd e (hp i j hi hj q)
  · exact q
  · exact absurd e.symm (hp j i hj hi q)
theorem note_mv {n many : Nat} {ru : Nat → Nat → Nat} {bl : Bool} (hn : n ≤ 10) {li li1 : Nat → Nat} {isl isl1 : Nat → Bool} {mv mv1 : Nat → Nat} {ld ld1 us us1 c : Nat} (h : ∀ x, mv x < 59049)
    (h1 : isl c = true → isl1 = isl ∧ li1 = li ∧ mv1 = mv ∧ ld1 = ld ∧ us1 = us) (h2 : isl c = false → isl1 = va_up isl c true ∧ li1 = va_up li ld c ∧ mv1 = va_up mv c (mvC n many ru bl c) ∧ ld1 = ld + 1 ∧ us1 = us ||| usC n many ru bl c n) : ∀ x, mv1 x < 59049 := by
  intro x
  cases hi : isl c
  · obtain ⟨-, -, e, -⟩ := h2 hi
    rw [e]
    unfold va_up
    split
    · exact Nat.lt_of_lt_of_le (mvC_lt _ _ _ _ _) (p3_le hn)
    · exact h x
  · obtain ⟨-, -, e, -⟩ := h1 hi
    rw [e]
    exact h x
theorem okc_lt {n c : Nat} (hn : n ≤ 10) (h : okc n c) : c < 59049 := Nat.lt_of_lt_of_le h.1 (p3_le hn)
theorem noteL_okc {n : Nat} {L : List Nat} {c : Nat} (h : ∀ x ∈ L, okc n x) (hc : okc n c) : ∀ x ∈ noteL L c, okc n x := by
  intro x hx
  rcases noteL_mem.mp hx with q | q
  · exact h x q
  · rw [q]; exact hc
theorem exL_so {sc : Nat → List Nat} {L0 : List Nat} {f g : Nat → Option Nat} {i c : Nat} (hi : i < (exL sc L0 i).length) (hc : c = (exL sc L0 i).getD i 0) (h : ∀ j, j < i → f ((exL sc L0 i).getD j 0) = g ((exL sc L0 i).getD j 0)) : ∀ j, j < i + 1 → va_up f c (g c) ((exL sc L0 (i + 1)).getD j 0) = g ((exL sc L0 (i + 1)).getD j 0) := by
  intro j hj
  rw [pre_getD (exL_pre (Nat.le_succ i)) (show j < (exL sc L0 i).length by omega)]
  unfold va_up
  by_cases q : (exL sc L0 i).getD j 0 = c
  · rw [if_pos q, q]
  · rw [if_neg q]
    apply h
    rcases Nat.lt_or_ge j i with e | e
    · exact e
    · exact absurd (by rw [show j = i by omega, hc]) q
theorem exG_succ {sc : Nat → List Nat} {L0 : List Nat} {i : Nat} (h : exG sc L0 i) (hi : i < (exL sc L0 i).length) : exG sc L0 (i + 1) := by
  intro j hj
  rcases Nat.lt_or_ge j i with e | e
  · exact h j e
  · rw [show j = i by omega]
    exact hi
theorem exL_len {sc : Nat → List Nat} {L0 : List Nat} {i j : Nat} (h : i ≤ j) : (exL sc L0 i).length ≤ (exL sc L0 j).length := (exL_pre h).length_le
theorem rd_any {L : List Nat} {P : Nat → Bool} (h : anyP (fun j => P (L.getD j 0)) L.length = true) : ∃ c ∈ L, P c = true := by
  obtain ⟨j, hj, e⟩ := anyP_iff.mp h
  exact ⟨_, getD_mem hj, e⟩
theorem rd_none {L : List Nat} {P : Nat → Bool} (h : anyP (fun j => P (L.getD j 0)) L.length = false) : ∀ c ∈ L, P c = false := by
  intro c hc
  obtain ⟨j, hj, rfl⟩ := mem_getD hc
  cases e : P (L.getD j 0)
  · rfl
  · rw [anyP_iff.mpr ⟨j, hj, e⟩] at h
    cases h
theorem rd_end {sc : Nat → List Nat} {me : Nat → Bool} {L : List Nat} {r : Nat} {s l : Nat → Option Nat} (hcl : ∀ c ∈ L, ∀ d ∈ sc c, d ∈ L) (h : ∀ c ∈ L, (chS sc me r c || chL sc me r c) = false) (hs : ∀ c ∈ L, s c = sv sc me (r + 1) c) (hl : ∀ c ∈ L, l c = lv sc me (r + 1) c) : SPs sc me L s ∧ LPs sc me L l := by
  have h1 : ∀ c ∈ L, chS sc me r c = false := fun c hc => (Bool.or_eq_false_iff.mp (h c hc)).1
  have h2 : ∀ c ∈ L, chL sc me r c = false := fun c hc => (Bool.or_eq_false_iff.mp (h c hc)).2
  refine ⟨SPs_congr hcl (fun c hc => ?_) (sv_SP hcl h1), LPs_congr hcl (fun c hc => ?_) (lv_LP hcl h2)⟩
  · rw [hs c hc, sv_succ, if_neg (by rw [h1 c hc]; decide)]
  · rw [hl c hc, lv_succ, if_neg (by rw [h2 c hc]; decide)]
