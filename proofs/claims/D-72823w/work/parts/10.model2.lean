set_option maxRecDepth 100000

abbrev rmX6_isTurned : Room := { frames := 5, cells := 0, slots := 0, locals := 121 }
set_option maxHeartbeats 4000000 in
theorem metX6_isTurned (l : Launch) (D : va_G) (cA : Nat → ClassId) (a : Nat → Nat) (st im : Nat → Nat) (kp : Nat → Bool) (nx li : Nat → Nat) (isl : Nat → Bool) (mv : Nat → Nat) (so la : Nat → Option Nat) (cm : Nat → Nat) (ld us : Nat) (bl : Bool) (S : Nat) (hn3 : 3 ≤ st 0) (hn10 : st 0 ≤ 10) (hS : S < 1024) : RO l yX6_isTurned cX6_isTurned 5 (some .boolean) rmX6_isTurned [.ref (a 0), .int (nI S)] (wB D cA (mW a cA st im kp nx li isl mv so la cm ld us bl)) (bI (tuV (st 0) S)) := by
  refine ro_bool rfl (Nat.le_of_ble_eq_true rfl) ?_
  intro p e s m below meth cd Q ls hx hb hml hown hts hB hl hret
  obtain ⟨hP, hK, hN⟩ := hB
  have hown : s.vm.findClass RX6 = some m.cls := hown
  have hl : lv_has ls 5 [(0, .ref (a 0)), (1, .int (nI S))] := hl
  refine lv_iconst (v := (bI false)) hx hb dX6_isTurned_0 (by decide) ?_
  refine lv_istore_n (lv' := [(2, .int (bI false)), (0, .ref (a 0)), (1, .int (nI S))]) hx hb dX6_isTurned_1 rfl hl (by decide) rfl (fun ls hl => ?_)
  refine lv_iconst (v := (nI 0)) hx hb dX6_isTurned_2 (by decide) ?_
  refine lv_istore_n (lv' := [(3, .int (nI 0)), (2, .int (bI false)), (0, .ref (a 0)), (1, .int (nI S))]) hx hb dX6_isTurned_3 rfl hl (by decide) rfl (fun ls hl => ?_)
  have loop4 : ∀ (N : Nat) (c : Nat), st 0 - c < N → (c ≤ st 0) → ∀ (ls : Array Slot), lv_has ls 5 [(3, .int (nI c)), (2, .int (bI (anyP (tuF (st 0) S) c))), (0, .ref (a 0)), (1, .int (nI S))] → W p l e rmX6_isTurned s m ([.ref (a 0), .int (nI S)] : List Value).toArray below meth cd s.heap [] 0 0 Q (F0 m 4 ls []) := by
    intro N
    induction N with
    | zero => intro c hm; exact absurd hm (Nat.not_lt_zero _)
    | succ N ih4 =>
      intro c hm4 i4_0 ls hl
      refine lv_iload_n hx hb dX6_isTurned_4 rfl (lv_at hl 0 rfl) ?_
      refine lv_aload_n hx hb dX6_isTurned_5 rfl (lv_at hl 2 rfl) ?_
      refine rm_cV (ls := ls) (As := []) (rest := [.int (nI c)]) ⟨hx, hb, hml, hown, hts⟩ (metX6_cells l D cA a st im kp nx li isl mv so la cm ld us bl  ) (cwX6_cells_X6 hts ⟨Nat.le_of_ble_eq_true rfl, Nat.le_of_ble_eq_true rfl⟩) hP hK hN (va_recv hK hP xc5 (q0 := 0) rfl) rfl hl.1 rfl (Nat.le_of_ble_eq_true rfl) dX6_isTurned_6 ⟨Nat.zero_le _, Nat.zero_le _⟩ ?_
      refine rm_cge (tgt := 73) hx hb dX6_isTurned_9 (by decide) (by omega) (by omega) (fun q9 => ?_) (fun q9 => ?_)
      · skip
        refine lv_iload_n hx hb dX6_isTurned_73 rfl (lv_at hl 1 rfl) ?_
        exact hret _ 74 ls (by unfold tuV; rw [show c = st 0 by omega]) dX6_isTurned_74
      · skip
        refine lv_iconst (v := (nI 0)) hx hb dX6_isTurned_12 (by decide) ?_
        refine lv_istore (lv' := [(4, .int (nI 0)), (3, .int (nI c)), (2, .int (bI (anyP (tuF (st 0) S) c))), (0, .ref (a 0)), (1, .int (nI S))]) hx hb dX6_isTurned_13 hl (by decide) rfl (fun ls hl => ?_)
        have loop15 : ∀ (N : Nat) (d : Nat), c - d < N → (d ≤ c) → ∀ (ls : Array Slot), lv_has ls 5 [(4, .int (nI d)), (2, .int (bI (anyP (tuG (st 0) S c) d || anyP (tuF (st 0) S) c))), (3, .int (nI c)), (0, .ref (a 0)), (1, .int (nI S))] → W p l e rmX6_isTurned s m ([.ref (a 0), .int (nI S)] : List Value).toArray below meth cd s.heap [] 0 0 Q (F0 m 15 ls []) := by
          intro N
          induction N with
          | zero => intro d hm; exact absurd hm (Nat.not_lt_zero _)
          | succ N ih15 =>
            intro d hm15 i15_0 ls hl
            refine lv_iload hx hb dX6_isTurned_15 (lv_at hl 0 rfl) ?_
            refine lv_iload_n hx hb dX6_isTurned_17 rfl (lv_at hl 2 rfl) ?_
            refine rm_cge (tgt := 67) hx hb dX6_isTurned_18 (by decide) (by omega) (by omega) (fun q18 => ?_) (fun q18 => ?_)
            · skip
              have e : c = d := by omega
              subst e
              refine lv_iinc (v := (nI (c + 1))) (lv' := [(3, .int (nI (c + 1))), (4, .int (nI c)), (2, .int (bI (anyP (tuG (st 0) S c) c || anyP (tuF (st 0) S) c))), (0, .ref (a 0)), (1, .int (nI S))]) hx hb dX6_isTurned_67 hl (k := 2) rfl (rm_inc c 1) (by decide) rfl (fun ls hl => ?_)
              refine lv_goto (tgt := 4) hx hb dX6_isTurned_70 (by decide) ?_
              exact ih4 (c + 1) (by omega) (by omega) ls (lv_sub hl [0, 2, 3, 4] rfl)
            · skip
              have join60 : ∀ (ls : Array Slot), lv_has ls 5 [(4, .int (nI d)), (2, .int (bI (anyP (tuG (st 0) S c) d || anyP (tuF (st 0) S) c))), (3, .int (nI c)), (0, .ref (a 0)), (1, .int (nI S))] → W p l e rmX6_isTurned s m ([.ref (a 0), .int (nI S)] : List Value).toArray below meth cd s.heap [] 0 0 Q (F0 m 60 ls [.int (bI ((tuG (st 0) S c d || anyP (tuG (st 0) S c) d) || anyP (tuF (st 0) S) c))]) := by
                intro   ls hl
                refine lv_istore_n (lv' := [(2, .int (bI ((tuG (st 0) S c d || anyP (tuG (st 0) S c) d) || anyP (tuF (st 0) S) c))), (4, .int (nI d)), (3, .int (nI c)), (0, .ref (a 0)), (1, .int (nI S))]) hx hb dX6_isTurned_60 rfl hl (by decide) rfl (fun ls hl => ?_)
                refine lv_iinc (v := (nI (d + 1))) (lv' := [(4, .int (nI (d + 1))), (2, .int (bI ((tuG (st 0) S c d || anyP (tuG (st 0) S c) d) || anyP (tuF (st 0) S) c))), (3, .int (nI c)), (0, .ref (a 0)), (1, .int (nI S))]) hx hb dX6_isTurned_61 hl (k := 1) rfl (rm_inc d 1) (by decide) rfl (fun ls hl => ?_)
                refine lv_goto (tgt := 15) hx hb dX6_isTurned_64 (by decide) ?_
                exact ih15 (d + 1) (by omega) (by omega) ls hl
              refine lv_iload_n hx hb dX6_isTurned_21 rfl (lv_at hl 1 rfl) ?_
              refine rm_bne (tgt := 55) hx hb dX6_isTurned_22 (by decide) (fun q22 => ?_) (fun q22 => ?_)
              · skip
                refine lv_iconst (v := (nI 1)) hx hb dX6_isTurned_55 (by decide) ?_
                refine lv_goto (tgt := 60) hx hb dX6_isTurned_56 (by decide) ?_
                refine rm_top (y := (bI ((tuG (st 0) S c d || anyP (tuG (st 0) S c) d) || anyP (tuF (st 0) S) c))) (or_t q22) ?_
                exact join60   ls hl
              · skip
                refine lv_iload_n hx hb dX6_isTurned_25 rfl (lv_at hl 4 rfl) ?_
                refine lv_iload_n hx hb dX6_isTurned_26 rfl (lv_at hl 2 rfl) ?_
                refine rm_cS (ls := ls) (As := [.int (nI S), .int (nI c)]) (rest := []) ⟨hx, hb, hml, hown, hts⟩ (metX6_has l S c (by first | assumption | omega) (by first | assumption | omega)) (cwX6_has_X6 hts ⟨Nat.le_of_ble_eq_true rfl, Nat.le_of_ble_eq_true rfl⟩) noB rfl hl.1 rfl (Nat.le_of_ble_eq_true rfl) dX6_isTurned_27 ⟨Nat.zero_le _, Nat.zero_le _⟩ ?_
                refine rm_beq (tgt := 59) hx hb dX6_isTurned_30 (by decide) (fun q30 => ?_) (fun q30 => ?_)
                · skip
                  refine lv_iconst (v := (nI 0)) hx hb dX6_isTurned_59 (by decide) ?_
                  refine rm_top (y := (bI ((tuG (st 0) S c d || anyP (tuG (st 0) S c) d) || anyP (tuF (st 0) S) c))) (or_f q22 (by unfold tuG; rw [q30]; rfl)) ?_
                  exact join60   ls hl
                · skip
                  refine lv_iload_n hx hb dX6_isTurned_33 rfl (lv_at hl 4 rfl) ?_
                  refine lv_iload hx hb dX6_isTurned_34 (lv_at hl 0 rfl) ?_
                  refine rm_cS (ls := ls) (As := [.int (nI S), .int (nI d)]) (rest := []) ⟨hx, hb, hml, hown, hts⟩ (metX6_has l S d (by first | assumption | omega) (by first | assumption | omega)) (cwX6_has_X6 hts ⟨Nat.le_of_ble_eq_true rfl, Nat.le_of_ble_eq_true rfl⟩) noB rfl hl.1 rfl (Nat.le_of_ble_eq_true rfl) dX6_isTurned_36 ⟨Nat.zero_le _, Nat.zero_le _⟩ ?_
                  refine rm_beq (tgt := 59) hx hb dX6_isTurned_39 (by decide) (fun q39 => ?_) (fun q39 => ?_)
                  · skip
                    refine lv_iconst (v := (nI 0)) hx hb dX6_isTurned_59 (by decide) ?_
                    refine rm_top (y := (bI ((tuG (st 0) S c d || anyP (tuG (st 0) S c) d) || anyP (tuF (st 0) S) c))) (or_f q22 (by unfold tuG; rw [q39, Bool.and_false]; rfl)) ?_
                    exact join60   ls hl
                  · skip
                    have hne : ne_ (st 0) S := ⟨c, q9, q30⟩
                    refine lv_aload_n hx hb dX6_isTurned_42 rfl (lv_at hl 3 rfl) ?_
                    refine lv_iload_n hx hb dX6_isTurned_43 rfl (lv_at hl 4 rfl) ?_
                    refine lv_iload_n hx hb dX6_isTurned_44 rfl (lv_at hl 2 rfl) ?_
                    refine lv_iconst (v := (nI 1)) hx hb dX6_isTurned_45 (by decide) ?_
                    refine lv_iload hx hb dX6_isTurned_46 (lv_at hl 0 rfl) ?_
                    refine lv_iconst (v := (nI 1)) hx hb dX6_isTurned_48 (by decide) ?_
                    refine rm_cV (ls := ls) (As := [.int (nI S), .int (nI c), .int (dI true), .int (nI d), .int (dI true)]) (rest := []) ⟨hx, hb, hml, hown, hts⟩ (metX6_held l D cA a st im kp nx li isl mv so la cm ld us bl S c true d true (by first | assumption | omega) (by first | assumption | omega) (by first | assumption | omega) (by first | assumption | omega) (by first | assumption | omega) (by first | assumption | omega)) (cwX6_held_X6 hts ⟨Nat.le_of_ble_eq_true rfl, Nat.le_of_ble_eq_true rfl⟩) hP hK hN (va_recv hK hP xc5 (q0 := 0) rfl) rfl hl.1 rfl (Nat.le_of_ble_eq_true rfl) dX6_isTurned_49 ⟨Nat.zero_le _, Nat.zero_le _⟩ ?_
                    refine lv_if_ne (tgt := 59) hx hb dX6_isTurned_52 (by decide) (fun q52 => ?_) (fun q52 => ?_)
                    · skip
                      refine lv_iconst (v := (nI 0)) hx hb dX6_isTurned_59 (by decide) ?_
                      refine rm_top (y := (bI ((tuG (st 0) S c d || anyP (tuG (st 0) S c) d) || anyP (tuF (st 0) S) c))) (or_f q22 (by unfold tuG; rw [decide_eq_false q52, Bool.and_false])) ?_
                      exact join60   ls hl
                    · skip
                      refine lv_iconst (v := (nI 1)) hx hb dX6_isTurned_55 (by decide) ?_
                      refine lv_goto (tgt := 60) hx hb dX6_isTurned_56 (by decide) ?_
                      refine rm_top (y := (bI ((tuG (st 0) S c d || anyP (tuG (st 0) S c) d) || anyP (tuF (st 0) S) c))) (or_z (by unfold tuG; rw [q30, q39, decide_eq_true q52]; rfl)) ?_
                      exact join60   ls hl
        exact loop15 _ 0 (Nat.lt_succ_self _) (by omega) ls (lv_sub hl [0, 2, 1, 3, 4] rfl)
  exact loop4 _ 0 (Nat.lt_succ_self _) (by omega) ls hl
theorem cwX6_isTurned_X6 {R : Room} {s : State} {args : Array Value} (hts : ∀ w ∈ lw_all, w.before args s = true) (hR : (rmX6_isTurned).frames + 1 ≤ R.frames ∧ 8 + (5 + 11) + (rmX6_isTurned).locals ≤ R.locals) : CallW R s args RX6 RX6 96 yX6_isTurned cX6_isTurned 5 (some .boolean) (ws_ yX6_isTurned cX6_isTurned 5 (some .boolean)) rmX6_isTurned 0 0 1 := cwV 1 hts (lw_V q749 q751 qs33 q63 q752) rfl rfl rfl (by decide +kernel) hR
abbrev rmX6_isMirrored : Room := { frames := 5, cells := 0, slots := 0, locals := 121 }
set_option maxHeartbeats 4000000 in
theorem metX6_isMirrored (l : Launch) (D : va_G) (cA : Nat → ClassId) (a : Nat → Nat) (st im : Nat → Nat) (kp : Nat → Bool) (nx li : Nat → Nat) (isl : Nat → Bool) (mv : Nat → Nat) (so la : Nat → Option Nat) (cm : Nat → Nat) (ld us : Nat) (bl : Bool) (S : Nat) (hn3 : 3 ≤ st 0) (hn10 : st 0 ≤ 10) (hS : S < 1024) : RO l yX6_isMirrored cX6_isMirrored 5 (some .boolean) rmX6_isMirrored [.ref (a 0), .int (nI S)] (wB D cA (mW a cA st im kp nx li isl mv so la cm ld us bl)) (bI (miV (st 0) S)) := by
  refine ro_bool rfl (Nat.le_of_ble_eq_true rfl) ?_
  intro p e s m below meth cd Q ls hx hb hml hown hts hB hl hret
  obtain ⟨hP, hK, hN⟩ := hB
  have hown : s.vm.findClass RX6 = some m.cls := hown
  have hl : lv_has ls 5 [(0, .ref (a 0)), (1, .int (nI S))] := hl
  refine lv_iconst (v := (bI false)) hx hb dX6_isMirrored_0 (by decide) ?_
  refine lv_istore_n (lv' := [(2, .int (bI false)), (0, .ref (a 0)), (1, .int (nI S))]) hx hb dX6_isMirrored_1 rfl hl (by decide) rfl (fun ls hl => ?_)
  refine lv_iconst (v := (nI 0)) hx hb dX6_isMirrored_2 (by decide) ?_
  refine lv_istore_n (lv' := [(3, .int (nI 0)), (2, .int (bI false)), (0, .ref (a 0)), (1, .int (nI S))]) hx hb dX6_isMirrored_3 rfl hl (by decide) rfl (fun ls hl => ?_)
  have loop4 : ∀ (N : Nat) (c : Nat), st 0 - c < N → (c ≤ st 0) → ∀ (ls : Array Slot), lv_has ls 5 [(3, .int (nI c)), (2, .int (bI (anyP (miF (st 0) S) c))), (0, .ref (a 0)), (1, .int (nI S))] → W p l e rmX6_isMirrored s m ([.ref (a 0), .int (nI S)] : List Value).toArray below meth cd s.heap [] 0 0 Q (F0 m 4 ls []) := by
    intro N
    induction N with
    | zero => intro c hm; exact absurd hm (Nat.not_lt_zero _)
    | succ N ih4 =>
      intro c hm4 i4_0 ls hl
      refine lv_iload_n hx hb dX6_isMirrored_4 rfl (lv_at hl 0 rfl) ?_
      refine lv_aload_n hx hb dX6_isMirrored_5 rfl (lv_at hl 2 rfl) ?_
      refine rm_cV (ls := ls) (As := []) (rest := [.int (nI c)]) ⟨hx, hb, hml, hown, hts⟩ (metX6_cells l D cA a st im kp nx li isl mv so la cm ld us bl  ) (cwX6_cells_X6 hts ⟨Nat.le_of_ble_eq_true rfl, Nat.le_of_ble_eq_true rfl⟩) hP hK hN (va_recv hK hP xc5 (q0 := 0) rfl) rfl hl.1 rfl (Nat.le_of_ble_eq_true rfl) dX6_isMirrored_6 ⟨Nat.zero_le _, Nat.zero_le _⟩ ?_
      refine rm_cge (tgt := 76) hx hb dX6_isMirrored_9 (by decide) (by omega) (by omega) (fun q9 => ?_) (fun q9 => ?_)
      · skip
        refine lv_iload_n hx hb dX6_isMirrored_76 rfl (lv_at hl 1 rfl) ?_
        exact hret _ 77 ls (by unfold miV; rw [show c = st 0 by omega]) dX6_isMirrored_77
      · skip
        refine lv_iconst (v := (nI 0)) hx hb dX6_isMirrored_12 (by decide) ?_
        refine lv_istore (lv' := [(4, .int (nI 0)), (3, .int (nI c)), (2, .int (bI (anyP (miF (st 0) S) c))), (0, .ref (a 0)), (1, .int (nI S))]) hx hb dX6_isMirrored_13 hl (by decide) rfl (fun ls hl => ?_)
        have loop15 : ∀ (N : Nat) (d : Nat), st 0 - d < N → (d ≤ st 0) → ∀ (ls : Array Slot), lv_has ls 5 [(4, .int (nI d)), (2, .int (bI (anyP (miG (st 0) S c) d || anyP (miF (st 0) S) c))), (3, .int (nI c)), (0, .ref (a 0)), (1, .int (nI S))] → W p l e rmX6_isMirrored s m ([.ref (a 0), .int (nI S)] : List Value).toArray below meth cd s.heap [] 0 0 Q (F0 m 15 ls []) := by
          intro N
          induction N with
          | zero => intro d hm; exact absurd hm (Nat.not_lt_zero _)
          | succ N ih15 =>
            intro d hm15 i15_0 ls hl
            refine lv_iload hx hb dX6_isMirrored_15 (lv_at hl 0 rfl) ?_
            refine lv_aload_n hx hb dX6_isMirrored_17 rfl (lv_at hl 3 rfl) ?_
            refine rm_cV (ls := ls) (As := []) (rest := [.int (nI d)]) ⟨hx, hb, hml, hown, hts⟩ (metX6_cells l D cA a st im kp nx li isl mv so la cm ld us bl  ) (cwX6_cells_X6 hts ⟨Nat.le_of_ble_eq_true rfl, Nat.le_of_ble_eq_true rfl⟩) hP hK hN (va_recv hK hP xc5 (q0 := 0) rfl) rfl hl.1 rfl (Nat.le_of_ble_eq_true rfl) dX6_isMirrored_18 ⟨Nat.zero_le _, Nat.zero_le _⟩ ?_
            refine rm_cge (tgt := 70) hx hb dX6_isMirrored_21 (by decide) (by omega) (by omega) (fun q21 => ?_) (fun q21 => ?_)
            · skip
              have e : d = st 0 := by omega
              rw [e] at hl
              refine lv_iinc (v := (nI (c + 1))) (lv' := [(3, .int (nI (c + 1))), (4, .int (nI (st 0))), (2, .int (bI (anyP (miG (st 0) S c) (st 0) || anyP (miF (st 0) S) c))), (0, .ref (a 0)), (1, .int (nI S))]) hx hb dX6_isMirrored_70 hl (k := 2) rfl (rm_inc c 1) (by decide) rfl (fun ls hl => ?_)
              refine lv_goto (tgt := 4) hx hb dX6_isMirrored_73 (by decide) ?_
              exact ih4 (c + 1) (by omega) (by omega) ls (lv_sub hl [0, 2, 3, 4] rfl)
            · skip
              have join63 : ∀ (ls : Array Slot), lv_has ls 5 [(4, .int (nI d)), (2, .int (bI (anyP (miG (st 0) S c) d || anyP (miF (st 0) S) c))), (3, .int (nI c)), (0, .ref (a 0)), (1, .int (nI S))] → W p l e rmX6_isMirrored s m ([.ref (a 0), .int (nI S)] : List Value).toArray below meth cd s.heap [] 0 0 Q (F0 m 63 ls [.int (bI ((miG (st 0) S c d || anyP (miG (st 0) S c) d) || anyP (miF (st 0) S) c))]) := by
                intro   ls hl
                refine lv_istore_n (lv' := [(2, .int (bI ((miG (st 0) S c d || anyP (miG (st 0) S c) d) || anyP (miF (st 0) S) c))), (4, .int (nI d)), (3, .int (nI c)), (0, .ref (a 0)), (1, .int (nI S))]) hx hb dX6_isMirrored_63 rfl hl (by decide) rfl (fun ls hl => ?_)
                refine lv_iinc (v := (nI (d + 1))) (lv' := [(4, .int (nI (d + 1))), (2, .int (bI ((miG (st 0) S c d || anyP (miG (st 0) S c) d) || anyP (miF (st 0) S) c))), (3, .int (nI c)), (0, .ref (a 0)), (1, .int (nI S))]) hx hb dX6_isMirrored_64 hl (k := 1) rfl (rm_inc d 1) (by decide) rfl (fun ls hl => ?_)
                refine lv_goto (tgt := 15) hx hb dX6_isMirrored_67 (by decide) ?_
                exact ih15 (d + 1) (by omega) (by omega) ls hl
              refine lv_iload_n hx hb dX6_isMirrored_24 rfl (lv_at hl 1 rfl) ?_
              refine rm_bne (tgt := 58) hx hb dX6_isMirrored_25 (by decide) (fun q25 => ?_) (fun q25 => ?_)
              · skip
                refine lv_iconst (v := (nI 1)) hx hb dX6_isMirrored_58 (by decide) ?_
                refine lv_goto (tgt := 63) hx hb dX6_isMirrored_59 (by decide) ?_
                refine rm_top (y := (bI ((miG (st 0) S c d || anyP (miG (st 0) S c) d) || anyP (miF (st 0) S) c))) (or_t q25) ?_
                exact join63   ls hl
              · skip
                refine lv_iload_n hx hb dX6_isMirrored_28 rfl (lv_at hl 4 rfl) ?_
                refine lv_iload_n hx hb dX6_isMirrored_29 rfl (lv_at hl 2 rfl) ?_
                refine rm_cS (ls := ls) (As := [.int (nI S), .int (nI c)]) (rest := []) ⟨hx, hb, hml, hown, hts⟩ (metX6_has l S c (by first | assumption | omega) (by first | assumption | omega)) (cwX6_has_X6 hts ⟨Nat.le_of_ble_eq_true rfl, Nat.le_of_ble_eq_true rfl⟩) noB rfl hl.1 rfl (Nat.le_of_ble_eq_true rfl) dX6_isMirrored_30 ⟨Nat.zero_le _, Nat.zero_le _⟩ ?_
                refine rm_beq (tgt := 62) hx hb dX6_isMirrored_33 (by decide) (fun q33 => ?_) (fun q33 => ?_)
                · skip
                  refine lv_iconst (v := (nI 0)) hx hb dX6_isMirrored_62 (by decide) ?_
                  refine rm_top (y := (bI ((miG (st 0) S c d || anyP (miG (st 0) S c) d) || anyP (miF (st 0) S) c))) (or_f q25 (by unfold miG; rw [q33]; rfl)) ?_
                  exact join63   ls hl
                · skip
                  refine lv_iload_n hx hb dX6_isMirrored_36 rfl (lv_at hl 4 rfl) ?_
                  refine lv_iload hx hb dX6_isMirrored_37 (lv_at hl 0 rfl) ?_
                  refine rm_cS (ls := ls) (As := [.int (nI S), .int (nI d)]) (rest := []) ⟨hx, hb, hml, hown, hts⟩ (metX6_has l S d (by first | assumption | omega) (by first | assumption | omega)) (cwX6_has_X6 hts ⟨Nat.le_of_ble_eq_true rfl, Nat.le_of_ble_eq_true rfl⟩) noB rfl hl.1 rfl (Nat.le_of_ble_eq_true rfl) dX6_isMirrored_39 ⟨Nat.zero_le _, Nat.zero_le _⟩ ?_
                  refine rm_beq (tgt := 62) hx hb dX6_isMirrored_42 (by decide) (fun q42 => ?_) (fun q42 => ?_)
                  · skip
                    refine lv_iconst (v := (nI 0)) hx hb dX6_isMirrored_62 (by decide) ?_
                    refine rm_top (y := (bI ((miG (st 0) S c d || anyP (miG (st 0) S c) d) || anyP (miF (st 0) S) c))) (or_f q25 (by unfold miG; rw [q42, Bool.and_false]; rfl)) ?_
                    exact join63   ls hl
                  · skip
                    have hne : ne_ (st 0) S := ⟨c, q9, q33⟩
                    refine lv_aload_n hx hb dX6_isMirrored_45 rfl (lv_at hl 3 rfl) ?_
                    refine lv_iload_n hx hb dX6_isMirrored_46 rfl (lv_at hl 4 rfl) ?_
                    refine lv_iload_n hx hb dX6_isMirrored_47 rfl (lv_at hl 2 rfl) ?_
                    refine lv_iconst (v := (nI 1)) hx hb dX6_isMirrored_48 (by decide) ?_
                    refine lv_iload hx hb dX6_isMirrored_49 (lv_at hl 0 rfl) ?_
                    refine lv_iconst (v := (-1)) hx hb dX6_isMirrored_51 (by decide) ?_
                    refine rm_cV (ls := ls) (As := [.int (nI S), .int (nI c), .int (dI true), .int (nI d), .int (dI false)]) (rest := []) ⟨hx, hb, hml, hown, hts⟩ (metX6_held l D cA a st im kp nx li isl mv so la cm ld us bl S c true d false (by first | assumption | omega) (by first | assumption | omega) (by first | assumption | omega) (by first | assumption | omega) (by first | assumption | omega) (by first | assumption | omega)) (cwX6_held_X6 hts ⟨Nat.le_of_ble_eq_true rfl, Nat.le_of_ble_eq_true rfl⟩) hP hK hN (va_recv hK hP xc5 (q0 := 0) rfl) rfl hl.1 rfl (Nat.le_of_ble_eq_true rfl) dX6_isMirrored_52 ⟨Nat.zero_le _, Nat.zero_le _⟩ ?_
                    refine lv_if_ne (tgt := 62) hx hb dX6_isMirrored_55 (by decide) (fun q55 => ?_) (fun q55 => ?_)
                    · skip
                      refine lv_iconst (v := (nI 0)) hx hb dX6_isMirrored_62 (by decide) ?_
                      refine rm_top (y := (bI ((miG (st 0) S c d || anyP (miG (st 0) S c) d) || anyP (miF (st 0) S) c))) (or_f q25 (by unfold miG; rw [decide_eq_false q55, Bool.and_false])) ?_
                      exact join63   ls hl
                    · skip
                      refine lv_iconst (v := (nI 1)) hx hb dX6_isMirrored_58 (by decide) ?_
                      refine lv_goto (tgt := 63) hx hb dX6_isMirrored_59 (by decide) ?_
                      refine rm_top (y := (bI ((miG (st 0) S c d || anyP (miG (st 0) S c) d) || anyP (miF (st 0) S) c))) (or_z (by unfold miG; rw [q33, q42, decide_eq_true q55]; rfl)) ?_
                      exact join63   ls hl
        exact loop15 _ 0 (Nat.lt_succ_self _) (by omega) ls (lv_sub hl [0, 2, 1, 3, 4] rfl)
  exact loop4 _ 0 (Nat.lt_succ_self _) (by omega) ls hl
theorem cwX6_isMirrored_X6 {R : Room} {s : State} {args : Array Value} (hts : ∀ w ∈ lw_all, w.before args s = true) (hR : (rmX6_isMirrored).frames + 1 ≤ R.frames ∧ 8 + (5 + 11) + (rmX6_isMirrored).locals ≤ R.locals) : CallW R s args RX6 RX6 99 yX6_isMirrored cX6_isMirrored 5 (some .boolean) (ws_ yX6_isMirrored cX6_isMirrored 5 (some .boolean)) rmX6_isMirrored 0 0 1 := cwV 1 hts (lw_V q756 q758 qs34 q63 q759) rfl rfl rfl (by decide +kernel) hR
abbrev rmX6_even : Room := { frames := 5, cells := 0, slots := 0, locals := 121 }
set_option maxHeartbeats 4000000 in
theorem metX6_even (l : Launch) (D : va_G) (cA : Nat → ClassId) (a : Nat → Nat) (st im : Nat → Nat) (kp : Nat → Bool) (nx li : Nat → Nat) (isl : Nat → Bool) (mv : Nat → Nat) (so la : Nat → Option Nat) (cm : Nat → Nat) (ld us : Nat) (bl : Bool) (S : Nat) (hn3 : 3 ≤ st 0) (hn10 : st 0 ≤ 10) (hS : S < 1024) : RO l yX6_even cX6_even 4 (some .int) rmX6_even [.ref (a 0), .int (nI S)] (wB D cA (mW a cA st im kp nx li isl mv so la cm ld us bl)) ((nI (evV (st 0) S))) := by
  refine ro_int rfl (Nat.le_of_ble_eq_true rfl) ?_
  intro p e s m below meth cd Q ls hx hb hml hown hts hB hl hret
  obtain ⟨hP, hK, hN⟩ := hB
  have hown : s.vm.findClass RX6 = some m.cls := hown
  have hl : lv_has ls 4 [(0, .ref (a 0)), (1, .int (nI S))] := hl
  refine lv_iconst (v := (nI 0)) hx hb dX6_even_0 (by decide) ?_
  refine lv_istore_n (lv' := [(2, .int (nI 0)), (0, .ref (a 0)), (1, .int (nI S))]) hx hb dX6_even_1 rfl hl (by decide) rfl (fun ls hl => ?_)
  refine lv_iconst (v := (nI 0)) hx hb dX6_even_2 (by decide) ?_
  refine lv_istore_n (lv' := [(3, .int (nI 0)), (2, .int (nI 0)), (0, .ref (a 0)), (1, .int (nI S))]) hx hb dX6_even_3 rfl hl (by decide) rfl (fun ls hl => ?_)
  have loop4 : ∀ (N : Nat) (c : Nat), st 0 - c < N → (c ≤ st 0) → ∀ (ls : Array Slot), lv_has ls 4 [(3, .int (nI c)), (2, .int (nI (ctP (evG (st 0) S) c))), (0, .ref (a 0)), (1, .int (nI S))] → W p l e rmX6_even s m ([.ref (a 0), .int (nI S)] : List Value).toArray below meth cd s.heap [] 0 0 Q (F0 m 4 ls []) := by
    intro N
    induction N with
    | zero => intro c hm; exact absurd hm (Nat.not_lt_zero _)
    | succ N ih4 =>
      intro c hm4 i4_0 ls hl
      refine lv_iload_n hx hb dX6_even_4 rfl (lv_at hl 0 rfl) ?_
      refine lv_aload_n hx hb dX6_even_5 rfl (lv_at hl 2 rfl) ?_
      refine rm_cV (ls := ls) (As := []) (rest := [.int (nI c)]) ⟨hx, hb, hml, hown, hts⟩ (metX6_cells l D cA a st im kp nx li isl mv so la cm ld us bl  ) (cwX6_cells_X6 hts ⟨Nat.le_of_ble_eq_true rfl, Nat.le_of_ble_eq_true rfl⟩) hP hK hN (va_recv hK hP xc5 (q0 := 0) rfl) rfl hl.1 rfl (Nat.le_of_ble_eq_true rfl) dX6_even_6 ⟨Nat.zero_le _, Nat.zero_le _⟩ ?_
      refine rm_cge (tgt := 46) hx hb dX6_even_9 (by decide) (by omega) (by omega) (fun q9 => ?_) (fun q9 => ?_)
      · skip
        refine lv_iload_n hx hb dX6_even_46 rfl (lv_at hl 1 rfl) ?_
        exact hret _ 47 ls (by unfold evV; rw [show c = st 0 by omega]) dX6_even_47
      · skip
        refine lv_iload_n hx hb dX6_even_12 rfl (lv_at hl 1 rfl) ?_
        have join38 : ∀ (ls : Array Slot), lv_has ls 4 [(3, .int (nI c)), (2, .int (nI (ctP (evG (st 0) S) c))), (0, .ref (a 0)), (1, .int (nI S))] → W p l e rmX6_even s m ([.ref (a 0), .int (nI S)] : List Value).toArray below meth cd s.heap [] 0 0 Q (F0 m 38 ls [.int (nI ((evG (st 0) S c).toNat)), .int (nI (ctP (evG (st 0) S) c))]) := by
          intro   ls hl
          refine rm_iadd hx hb dX6_even_38 ?_
          refine lv_istore_n (lv' := [(2, .int (nI ((ctP (evG (st 0) S) c) + ((evG (st 0) S c).toNat)))), (3, .int (nI c)), (0, .ref (a 0)), (1, .int (nI S))]) hx hb dX6_even_39 rfl hl (by decide) rfl (fun ls hl => ?_)
          refine lv_iinc (v := (nI (c + 1))) (lv' := [(3, .int (nI (c + 1))), (2, .int (nI ((ctP (evG (st 0) S) c) + ((evG (st 0) S c).toNat)))), (0, .ref (a 0)), (1, .int (nI S))]) hx hb dX6_even_40 hl (k := 1) rfl (rm_inc c 1) (by decide) rfl (fun ls hl => ?_)
          refine lv_goto (tgt := 4) hx hb dX6_even_43 (by decide) ?_
          exact ih4 (c + 1) (by omega) (by omega) ls hl
        refine lv_iload_n hx hb dX6_even_13 rfl (lv_at hl 3 rfl) ?_
        refine lv_iload_n hx hb dX6_even_14 rfl (lv_at hl 0 rfl) ?_
        refine rm_cS (ls := ls) (As := [.int (nI S), .int (nI c)]) (rest := [.int (nI (ctP (evG (st 0) S) c))]) ⟨hx, hb, hml, hown, hts⟩ (metX6_has l S c (by first | assumption | omega) (by first | assumption | omega)) (cwX6_has_X6 hts ⟨Nat.le_of_ble_eq_true rfl, Nat.le_of_ble_eq_true rfl⟩) noB rfl hl.1 rfl (Nat.le_of_ble_eq_true rfl) dX6_even_15 ⟨Nat.zero_le _, Nat.zero_le _⟩ ?_
        refine rm_beq (tgt := 37) hx hb dX6_even_18 (by decide) (fun q18 => ?_) (fun q18 => ?_)
        · skip
          refine lv_iconst (v := (nI 0)) hx hb dX6_even_37 (by decide) ?_
          refine rm_top (y := (nI ((evG (st 0) S c).toNat))) (by unfold evG; rw [q18]; rfl) ?_
          exact join38   ls hl
        · skip
          have hne : ne_ (st 0) S := ⟨c, q9, q18⟩
          refine lv_aload_n hx hb dX6_even_21 rfl (lv_at hl 2 rfl) ?_
          refine lv_iload_n hx hb dX6_even_22 rfl (lv_at hl 3 rfl) ?_
          refine lv_iload_n hx hb dX6_even_23 rfl (lv_at hl 0 rfl) ?_
          refine lv_iconst (v := (nI 1)) hx hb dX6_even_24 (by decide) ?_
          refine lv_iload_n hx hb dX6_even_25 rfl (lv_at hl 0 rfl) ?_
          refine lv_iconst (v := (-1)) hx hb dX6_even_26 (by decide) ?_
          refine rm_cV (ls := ls) (As := [.int (nI S), .int (nI c), .int (dI true), .int (nI c), .int (dI false)]) (rest := [.int (nI (ctP (evG (st 0) S) c))]) ⟨hx, hb, hml, hown, hts⟩ (metX6_held l D cA a st im kp nx li isl mv so la cm ld us bl S c true c false (by first | assumption | omega) (by first | assumption | omega) (by first | assumption | omega) (by first | assumption | omega) (by first | assumption | omega) (by first | assumption | omega)) (cwX6_held_X6 hts ⟨Nat.le_of_ble_eq_true rfl, Nat.le_of_ble_eq_true rfl⟩) hP hK hN (va_recv hK hP xc5 (q0 := 0) rfl) rfl hl.1 rfl (Nat.le_of_ble_eq_true rfl) dX6_even_27 ⟨Nat.zero_le _, Nat.zero_le _⟩ ?_
          refine lv_if_ne (tgt := 37) hx hb dX6_even_30 (by decide) (fun q30 => ?_) (fun q30 => ?_)
          · skip
            refine lv_iconst (v := (nI 0)) hx hb dX6_even_37 (by decide) ?_
            refine rm_top (y := (nI ((evG (st 0) S c).toNat))) (by unfold evG; rw [decide_eq_false q30, Bool.and_false]; rfl) ?_
            exact join38   ls hl
          · skip
            refine lv_iconst (v := (nI 1)) hx hb dX6_even_33 (by decide) ?_
            refine lv_goto (tgt := 38) hx hb dX6_even_34 (by decide) ?_
            refine rm_top (y := (nI ((evG (st 0) S c).toNat))) (by unfold evG; rw [q18, decide_eq_true q30]; rfl) ?_
            exact join38   ls hl
  exact loop4 _ 0 (Nat.lt_succ_self _) (by omega) ls hl
theorem cwX6_even_X6 {R : Room} {s : State} {args : Array Value} (hts : ∀ w ∈ lw_all, w.before args s = true) (hR : (rmX6_even).frames + 1 ≤ R.frames ∧ 8 + (4 + 11) + (rmX6_even).locals ≤ R.locals) : CallW R s args RX6 RX6 102 yX6_even cX6_even 4 (some .int) (ws_ yX6_even cX6_even 4 (some .int)) rmX6_even 0 0 1 := cwV 1 hts (lw_V q760 q762 qs35 q63 q763) rfl rfl rfl (by decide +kernel) hR
abbrev rmX6_views : Room := { frames := 6, cells := 0, slots := 0, locals := 143 }
set_option maxHeartbeats 4000000 in
theorem metX6_views (l : Launch) (D : va_G) (cA : Nat → ClassId) (a : Nat → Nat) (st im : Nat → Nat) (kp : Nat → Bool) (nx li : Nat → Nat) (isl : Nat → Bool) (mv : Nat → Nat) (so la : Nat → Option Nat) (cm : Nat → Nat) (ld us : Nat) (bl : Bool) (S : Nat) (hn3 : 3 ≤ st 0) (hn10 : st 0 ≤ 10) (hS : S < 1024) : RO l yX6_views cX6_views 6 (some .int) rmX6_views [.ref (a 0), .int (nI S)] (wB D cA (mW a cA st im kp nx li isl mv so la cm ld us bl)) ((nI (vwV (st 0) S))) := by
  refine ro_int rfl (Nat.le_of_ble_eq_true rfl) ?_
  intro p e s m below meth cd Q ls hx hb hml hown hts hB hl hret
  obtain ⟨hP, hK, hN⟩ := hB
  have hown : s.vm.findClass RX6 = some m.cls := hown
  have hl : lv_has ls 6 [(0, .ref (a 0)), (1, .int (nI S))] := hl
  refine lv_iconst (v := (nI 0)) hx hb dX6_views_0 (by decide) ?_
  refine lv_istore_n (lv' := [(2, .int (nI 0)), (0, .ref (a 0)), (1, .int (nI S))]) hx hb dX6_views_1 rfl hl (by decide) rfl (fun ls hl => ?_)
  refine lv_iconst (v := (nI 0)) hx hb dX6_views_2 (by decide) ?_
  refine lv_istore_n (lv' := [(3, .int (nI 0)), (2, .int (nI 0)), (0, .ref (a 0)), (1, .int (nI S))]) hx hb dX6_views_3 rfl hl (by decide) rfl (fun ls hl => ?_)
  have loop4 : ∀ (N : Nat) (c : Nat), st 0 - c < N → (c ≤ st 0) → ∀ (ls : Array Slot), lv_has ls 6 [(3, .int (nI c)), (2, .int (nI (ctP (vwF (st 0) S) c))), (0, .ref (a 0)), (1, .int (nI S))] → W p l e rmX6_views s m ([.ref (a 0), .int (nI S)] : List Value).toArray below meth cd s.heap [] 0 0 Q (F0 m 4 ls []) := by
    intro N
    induction N with
    | zero => intro c hm; exact absurd hm (Nat.not_lt_zero _)
    | succ N ih4 =>
      intro c hm4 i4_0 ls hl
      refine lv_iload_n hx hb dX6_views_4 rfl (lv_at hl 0 rfl) ?_
      refine lv_aload_n hx hb dX6_views_5 rfl (lv_at hl 2 rfl) ?_
      refine rm_cV (ls := ls) (As := []) (rest := [.int (nI c)]) ⟨hx, hb, hml, hown, hts⟩ (metX6_cells l D cA a st im kp nx li isl mv so la cm ld us bl  ) (cwX6_cells_X6 hts ⟨Nat.le_of_ble_eq_true rfl, Nat.le_of_ble_eq_true rfl⟩) hP hK hN (va_recv hK hP xc5 (q0 := 0) rfl) rfl hl.1 rfl (Nat.le_of_ble_eq_true rfl) dX6_views_6 ⟨Nat.zero_le _, Nat.zero_le _⟩ ?_
      refine rm_cge (tgt := 98) hx hb dX6_views_9 (by decide) (by omega) (by omega) (fun q9 => ?_) (fun q9 => ?_)
      · skip
        refine lv_iload_n hx hb dX6_views_98 rfl (lv_at hl 1 rfl) ?_
        exact hret _ 99 ls (by unfold vwV; rw [show c = st 0 by omega]) dX6_views_99
      · skip
        refine lv_iload_n hx hb dX6_views_12 rfl (lv_at hl 3 rfl) ?_
        refine lv_iload_n hx hb dX6_views_13 rfl (lv_at hl 0 rfl) ?_
        refine rm_cS (ls := ls) (As := [.int (nI S), .int (nI c)]) (rest := []) ⟨hx, hb, hml, hown, hts⟩ (metX6_has l S c (by first | assumption | omega) (by first | assumption | omega)) (cwX6_has_X6 hts ⟨Nat.le_of_ble_eq_true rfl, Nat.le_of_ble_eq_true rfl⟩) noB rfl hl.1 rfl (Nat.le_of_ble_eq_true rfl) dX6_views_14 ⟨Nat.zero_le _, Nat.zero_le _⟩ ?_
        refine lv_istore (lv' := [(4, .int (bI (Nat.testBit S c))), (3, .int (nI c)), (2, .int (nI (ctP (vwF (st 0) S) c))), (0, .ref (a 0)), (1, .int (nI S))]) hx hb dX6_views_17 hl (by decide) rfl (fun ls hl => ?_)
        have join79 : ∀ (ls : Array Slot), lv_has ls 6 [(4, .int (bI (vwF (st 0) S c))), (3, .int (nI c)), (2, .int (nI (ctP (vwF (st 0) S) c))), (0, .ref (a 0)), (1, .int (nI S))] → W p l e rmX6_views s m ([.ref (a 0), .int (nI S)] : List Value).toArray below meth cd s.heap [] 0 0 Q (F0 m 79 ls []) := by
          intro   ls hl
          refine lv_iload_n hx hb dX6_views_79 rfl (lv_at hl 2 rfl) ?_
          have join90 : ∀ (ls : Array Slot), lv_has ls 6 [(4, .int (bI (vwF (st 0) S c))), (3, .int (nI c)), (2, .int (nI (ctP (vwF (st 0) S) c))), (0, .ref (a 0)), (1, .int (nI S))] → W p l e rmX6_views s m ([.ref (a 0), .int (nI S)] : List Value).toArray below meth cd s.heap [] 0 0 Q (F0 m 90 ls [.int (nI ((vwF (st 0) S c).toNat)), .int (nI (ctP (vwF (st 0) S) c))]) := by
            intro   ls hl
            refine rm_iadd hx hb dX6_views_90 ?_
            refine lv_istore_n (lv' := [(2, .int (nI ((ctP (vwF (st 0) S) c) + ((vwF (st 0) S c).toNat)))), (4, .int (bI (vwF (st 0) S c))), (3, .int (nI c)), (0, .ref (a 0)), (1, .int (nI S))]) hx hb dX6_views_91 rfl hl (by decide) rfl (fun ls hl => ?_)
            refine lv_iinc (v := (nI (c + 1))) (lv' := [(3, .int (nI (c + 1))), (2, .int (nI ((ctP (vwF (st 0) S) c) + ((vwF (st 0) S c).toNat)))), (4, .int (bI (vwF (st 0) S c))), (0, .ref (a 0)), (1, .int (nI S))]) hx hb dX6_views_92 hl (k := 2) rfl (rm_inc c 1) (by decide) rfl (fun ls hl => ?_)
            refine lv_goto (tgt := 4) hx hb dX6_views_95 (by decide) ?_
            exact ih4 (c + 1) (by omega) (by omega) ls (lv_sub hl [0, 1, 3, 4] rfl)
          refine lv_iload hx hb dX6_views_80 (lv_at hl 0 rfl) ?_
          refine rm_beq (tgt := 89) hx hb dX6_views_82 (by decide) (fun q82 => ?_) (fun q82 => ?_)
          · skip
            refine lv_iconst (v := (nI 0)) hx hb dX6_views_89 (by decide) ?_
            refine rm_top (y := (nI ((vwF (st 0) S c).toNat))) (by rw [q82]; rfl) ?_
            exact join90   ls hl
          · skip
            refine lv_iconst (v := (nI 1)) hx hb dX6_views_85 (by decide) ?_
            refine lv_goto (tgt := 90) hx hb dX6_views_86 (by decide) ?_
            refine rm_top (y := (nI ((vwF (st 0) S c).toNat))) (by rw [q82]; rfl) ?_
            exact join90   ls hl
        refine lv_iconst (v := (nI 0)) hx hb dX6_views_19 (by decide) ?_
        refine lv_istore (lv' := [(5, .int (nI 0)), (4, .int (bI (Nat.testBit S c))), (3, .int (nI c)), (2, .int (nI (ctP (vwF (st 0) S) c))), (0, .ref (a 0)), (1, .int (nI S))]) hx hb dX6_views_20 hl (by decide) rfl (fun ls hl => ?_)
        have loop22 : ∀ (N : Nat) (d : Nat), c - d < N → (d ≤ c) → ∀ (ls : Array Slot), lv_has ls 6 [(5, .int (nI d)), (4, .int (bI (allP (vwG (st 0) S c) d && Nat.testBit S c))), (3, .int (nI c)), (2, .int (nI (ctP (vwF (st 0) S) c))), (0, .ref (a 0)), (1, .int (nI S))] → W p l e rmX6_views s m ([.ref (a 0), .int (nI S)] : List Value).toArray below meth cd s.heap [] 0 0 Q (F0 m 22 ls []) := by
          intro N
          induction N with
          | zero => intro d hm; exact absurd hm (Nat.not_lt_zero _)
          | succ N ih22 =>
            intro d hm22 i22_0 ls hl
            refine lv_iload hx hb dX6_views_22 (lv_at hl 0 rfl) ?_
            refine lv_iload_n hx hb dX6_views_24 rfl (lv_at hl 2 rfl) ?_
            refine rm_cge (tgt := 79) hx hb dX6_views_25 (by decide) (by omega) (by omega) (fun q25 => ?_) (fun q25 => ?_)
            · skip
              have e : c = d := by omega
              subst e
              exact join79   ls (lv_sub hl [1, 2, 3, 4, 5] rfl)
            · skip
              refine lv_iload hx hb dX6_views_28 (lv_at hl 1 rfl) ?_
              refine rm_beq (tgt := 79) hx hb dX6_views_30 (by decide) (fun q30 => ?_) (fun q30 => ?_)
              · skip
                rw [allP_false (Nat.le_of_lt q25) q30] at hl
                exact join79   ls (lv_sub hl [1, 2, 3, 4, 5] rfl)
              · skip
                have join71 : ∀ (ls : Array Slot), lv_has ls 6 [(5, .int (nI d)), (4, .int (bI (allP (vwG (st 0) S c) d && Nat.testBit S c))), (3, .int (nI c)), (2, .int (nI (ctP (vwF (st 0) S) c))), (0, .ref (a 0)), (1, .int (nI S))] → W p l e rmX6_views s m ([.ref (a 0), .int (nI S)] : List Value).toArray below meth cd s.heap [] 0 0 Q (F0 m 71 ls [.int (bI ((vwG (st 0) S c d && allP (vwG (st 0) S c) d) && Nat.testBit S c))]) := by
                  intro   ls hl
                  refine lv_istore (lv' := [(4, .int (bI ((vwG (st 0) S c d && allP (vwG (st 0) S c) d) && Nat.testBit S c))), (5, .int (nI d)), (3, .int (nI c)), (2, .int (nI (ctP (vwF (st 0) S) c))), (0, .ref (a 0)), (1, .int (nI S))]) hx hb dX6_views_71 hl (by decide) rfl (fun ls hl => ?_)
                  refine lv_iinc (v := (nI (d + 1))) (lv' := [(5, .int (nI (d + 1))), (4, .int (bI ((vwG (st 0) S c d && allP (vwG (st 0) S c) d) && Nat.testBit S c))), (3, .int (nI c)), (2, .int (nI (ctP (vwF (st 0) S) c))), (0, .ref (a 0)), (1, .int (nI S))]) hx hb dX6_views_73 hl (k := 1) rfl (rm_inc d 1) (by decide) rfl (fun ls hl => ?_)
                  refine lv_goto (tgt := 22) hx hb dX6_views_76 (by decide) ?_
                  exact ih22 (d + 1) (by omega) (by omega) ls hl
                refine lv_iload_n hx hb dX6_views_33 rfl (lv_at hl 5 rfl) ?_
                refine lv_iload hx hb dX6_views_34 (lv_at hl 0 rfl) ?_
                refine rm_cS (ls := ls) (As := [.int (nI S), .int (nI d)]) (rest := []) ⟨hx, hb, hml, hown, hts⟩ (metX6_has l S d (by first | assumption | omega) (by first | assumption | omega)) (cwX6_has_X6 hts ⟨Nat.le_of_ble_eq_true rfl, Nat.le_of_ble_eq_true rfl⟩) noB rfl hl.1 rfl (Nat.le_of_ble_eq_true rfl) dX6_views_36 ⟨Nat.zero_le _, Nat.zero_le _⟩ ?_
                refine rm_beq (tgt := 66) hx hb dX6_views_39 (by decide) (fun q39 => ?_) (fun q39 => ?_)
                · skip
                  refine lv_iconst (v := (nI 1)) hx hb dX6_views_66 (by decide) ?_
                  refine lv_goto (tgt := 71) hx hb dX6_views_67 (by decide) ?_
                  refine rm_top (y := (bI ((vwG (st 0) S c d && allP (vwG (st 0) S c) d) && Nat.testBit S c))) (and_e (v := true) q30 (by unfold vwG; rw [q39]; rfl)) ?_
                  exact join71   ls hl
                · skip
                  have hne : ne_ (st 0) S := ⟨d, by omega, q39⟩
                  refine lv_aload_n hx hb dX6_views_42 rfl (lv_at hl 4 rfl) ?_
                  refine lv_iload_n hx hb dX6_views_43 rfl (lv_at hl 5 rfl) ?_
                  refine lv_iload_n hx hb dX6_views_44 rfl (lv_at hl 2 rfl) ?_
                  refine lv_aload_n hx hb dX6_views_45 rfl (lv_at hl 4 rfl) ?_
                  refine lv_iload_n hx hb dX6_views_46 rfl (lv_at hl 5 rfl) ?_
                  refine lv_iload_n hx hb dX6_views_47 rfl (lv_at hl 2 rfl) ?_
                  refine rm_cV (ls := ls) (As := [.int (nI S), .int (nI c)]) (rest := [.int (nI c), .int (nI S), .ref (a 0)]) ⟨hx, hb, hml, hown, hts⟩ (metX6_viewWay l D cA a st im kp nx li isl mv so la cm ld us bl S c (by first | assumption | omega) (by first | assumption | omega) (by first | assumption | omega) (by first | assumption | omega) (by first | assumption | omega)) (cwX6_viewWay_X6 hts ⟨Nat.le_of_ble_eq_true rfl, Nat.le_of_ble_eq_true rfl⟩) hP hK hN (va_recv hK hP xc5 (q0 := 0) rfl) rfl hl.1 rfl (Nat.le_of_ble_eq_true rfl) dX6_views_48 ⟨Nat.zero_le _, Nat.zero_le _⟩ ?_
                  refine lv_iload hx hb dX6_views_51 (lv_at hl 0 rfl) ?_
                  refine lv_aload_n hx hb dX6_views_53 rfl (lv_at hl 4 rfl) ?_
                  refine lv_iload_n hx hb dX6_views_54 rfl (lv_at hl 5 rfl) ?_
                  refine lv_iload hx hb dX6_views_55 (lv_at hl 0 rfl) ?_
                  refine rm_cV (ls := ls) (As := [.int (nI S), .int (nI d)]) (rest := [.int (nI d), .int (dI (sd (st 0) S c)), .int (nI c), .int (nI S), .ref (a 0)]) ⟨hx, hb, hml, hown, hts⟩ (metX6_viewWay l D cA a st im kp nx li isl mv so la cm ld us bl S d (by first | assumption | omega) (by first | assumption | omega) (by first | assumption | omega) (by first | assumption | omega) (by first | assumption | omega)) (cwX6_viewWay_X6 hts ⟨Nat.le_of_ble_eq_true rfl, Nat.le_of_ble_eq_true rfl⟩) hP hK hN (va_recv hK hP xc5 (q0 := 0) rfl) rfl hl.1 rfl (Nat.le_of_ble_eq_true rfl) dX6_views_57 ⟨Nat.zero_le _, Nat.zero_le _⟩ ?_
                  refine rm_cV (ls := ls) (As := [.int (nI S), .int (nI c), .int (dI (sd (st 0) S c)), .int (nI d), .int (dI (sd (st 0) S d))]) (rest := []) ⟨hx, hb, hml, hown, hts⟩ (metX6_held l D cA a st im kp nx li isl mv so la cm ld us bl S c (sd (st 0) S c) d (sd (st 0) S d) (by first | assumption | omega) (by first | assumption | omega) (by first | assumption | omega) (by first | assumption | omega) (by first | assumption | omega) (by first | assumption | omega)) (cwX6_held_X6 hts ⟨Nat.le_of_ble_eq_true rfl, Nat.le_of_ble_eq_true rfl⟩) hP hK hN (va_recv hK hP xc5 (q0 := 0) rfl) rfl hl.1 rfl (Nat.le_of_ble_eq_true rfl) dX6_views_60 ⟨Nat.zero_le _, Nat.zero_le _⟩ ?_
                  refine lv_if_eq (tgt := 70) hx hb dX6_views_63 (by decide) (fun q63 => ?_) (fun q63 => ?_)
                  · skip
                    refine lv_iconst (v := (nI 0)) hx hb dX6_views_70 (by decide) ?_
                    refine rm_top (y := (bI ((vwG (st 0) S c d && allP (vwG (st 0) S c) d) && Nat.testBit S c))) (and_e (v := false) q30 (by unfold vwG; rw [q39, decide_eq_true q63]; rfl)) ?_
                    exact join71   ls hl
                  · skip
                    refine lv_iconst (v := (nI 1)) hx hb dX6_views_66 (by decide) ?_
                    refine lv_goto (tgt := 71) hx hb dX6_views_67 (by decide) ?_
                    refine rm_top (y := (bI ((vwG (st 0) S c d && allP (vwG (st 0) S c) d) && Nat.testBit S c))) (and_e (v := true) q30 (by unfold vwG; rw [decide_eq_false q63]; simp)) ?_
                    exact join71   ls hl
        exact loop22 _ 0 (Nat.lt_succ_self _) (by omega) ls hl
  exact loop4 _ 0 (Nat.lt_succ_self _) (by omega) ls hl
theorem cwX6_views_X6 {R : Room} {s : State} {args : Array Value} (hts : ∀ w ∈ lw_all, w.before args s = true) (hR : (rmX6_views).frames + 1 ≤ R.frames ∧ 8 + (6 + 11) + (rmX6_views).locals ≤ R.locals) : CallW R s args RX6 RX6 105 yX6_views cX6_views 6 (some .int) (ws_ yX6_views cX6_views 6 (some .int)) rmX6_views 0 0 1 := cwV 1 hts (lw_V q764 q766 qs36 q63 q767) rfl rfl rfl (by decide +kernel) hR
abbrev rmX6_turnedBy : Room := { frames := 1, cells := 0, slots := 0, locals := 21 }
set_option maxHeartbeats 4000000 in
theorem metX6_turnedBy (l : Launch) (D : va_G) (cA : Nat → ClassId) (a : Nat → Nat) (st im : Nat → Nat) (kp : Nat → Bool) (nx li : Nat → Nat) (isl : Nat → Bool) (mv : Nat → Nat) (so la : Nat → Option Nat) (cm : Nat → Nat) (ld us : Nat) (bl : Bool) (S : Nat) (hn3 : 3 ≤ st 0) (hn10 : st 0 ≤ 10) (hS : S < 1024) : RO l yX6_turnedBy cX6_turnedBy 5 (some .int) rmX6_turnedBy [.ref (a 0), .int (nI S)] (wB D cA (mW a cA st im kp nx li isl mv so la cm ld us bl)) ((tbV (st 0) S)) := by
  refine ro_int rfl (Nat.le_of_ble_eq_true rfl) ?_
  intro p e s m below meth cd Q ls hx hb hml hown hts hB hl hret
  obtain ⟨hP, hK, hN⟩ := hB
  have hown : s.vm.findClass RX6 = some m.cls := hown
  have hl : lv_has ls 5 [(0, .ref (a 0)), (1, .int (nI S))] := hl
  refine lv_iload_n hx hb dX6_turnedBy_0 rfl (lv_at hl 1 rfl) ?_
  refine rm_ine (tgt := 7) hx hb dX6_turnedBy_1 (by decide) (by omega) (fun q1 => ?_) (fun q1 => ?_)
  · skip
    refine lv_iconst (v := (nI 1)) hx hb dX6_turnedBy_7 (by decide) ?_
    refine lv_istore_n (lv' := [(2, .int (nI 1)), (0, .ref (a 0)), (1, .int (nI S))]) hx hb dX6_turnedBy_8 rfl hl (by decide) rfl (fun ls hl => ?_)
    have loop9 : ∀ (N : Nat) (b : Nat), st 0 - b < N → (1 ≤ b) → (b ≤ st 0) → ((fst_ (tbF (st 0) S) (st 0 - b) b) = fst_ (tbF (st 0) S) (st 0 - 1) 1) → ∀ (ls : Array Slot), lv_has ls 5 [(2, .int (nI b)), (0, .ref (a 0)), (1, .int (nI S))] → W p l e rmX6_turnedBy s m ([.ref (a 0), .int (nI S)] : List Value).toArray below meth cd s.heap [] 0 0 Q (F0 m 9 ls []) := by
      intro N
      induction N with
      | zero => intro b hm; exact absurd hm (Nat.not_lt_zero _)
      | succ N ih9 =>
        intro b hm9 i9_0 i9_1 i9_2 ls hl
        refine lv_iload_n hx hb dX6_turnedBy_9 rfl (lv_at hl 0 rfl) ?_
        refine lv_aload_n hx hb dX6_turnedBy_10 rfl (lv_at hl 1 rfl) ?_
        refine rm_cV (ls := ls) (As := []) (rest := [.int (nI b)]) ⟨hx, hb, hml, hown, hts⟩ (metX6_cells l D cA a st im kp nx li isl mv so la cm ld us bl  ) (cwX6_cells_X6 hts ⟨Nat.le_of_ble_eq_true rfl, Nat.le_of_ble_eq_true rfl⟩) hP hK hN (va_recv hK hP xc5 (q0 := 0) rfl) rfl hl.1 rfl (Nat.le_of_ble_eq_true rfl) dX6_turnedBy_11 ⟨Nat.zero_le _, Nat.zero_le _⟩ ?_
        refine rm_cge (tgt := 81) hx hb dX6_turnedBy_14 (by decide) (by omega) (by omega) (fun q14 => ?_) (fun q14 => ?_)
        · skip
          refine lv_aload_n hx hb dX6_turnedBy_81 rfl (lv_at hl 1 rfl) ?_
          refine rm_cV (ls := ls) (As := []) (rest := []) ⟨hx, hb, hml, hown, hts⟩ (metX6_cells l D cA a st im kp nx li isl mv so la cm ld us bl  ) (cwX6_cells_X6 hts ⟨Nat.le_of_ble_eq_true rfl, Nat.le_of_ble_eq_true rfl⟩) hP hK hN (va_recv hK hP xc5 (q0 := 0) rfl) rfl hl.1 rfl (Nat.le_of_ble_eq_true rfl) dX6_turnedBy_82 ⟨Nat.zero_le _, Nat.zero_le _⟩ ?_
          exact hret _ 85 ls (by unfold tbV; rw [if_neg (by omega), ← i9_2, show st 0 - b = 0 by omega]; rfl) dX6_turnedBy_85
        · skip
          refine lv_iconst (v := (bI true)) hx hb dX6_turnedBy_17 (by decide) ?_
          refine lv_istore_n (lv' := [(3, .int (bI true)), (2, .int (nI b)), (0, .ref (a 0)), (1, .int (nI S))]) hx hb dX6_turnedBy_18 rfl hl (by decide) rfl (fun ls hl => ?_)
          refine lv_iconst (v := (nI 0)) hx hb dX6_turnedBy_19 (by decide) ?_
          refine lv_istore (lv' := [(4, .int (nI 0)), (3, .int (bI true)), (2, .int (nI b)), (0, .ref (a 0)), (1, .int (nI S))]) hx hb dX6_turnedBy_20 hl (by decide) rfl (fun ls hl => ?_)
          have loop22 : ∀ (N : Nat) (c : Nat), st 0 - c < N → (c ≤ st 0) → ∀ (ls : Array Slot), lv_has ls 5 [(4, .int (nI c)), (3, .int (bI (allP (tbG (st 0) S b) c))), (2, .int (nI b)), (0, .ref (a 0)), (1, .int (nI S))] → W p l e rmX6_turnedBy s m ([.ref (a 0), .int (nI S)] : List Value).toArray below meth cd s.heap [] 0 0 Q (F0 m 22 ls []) := by
            intro N
            induction N with
            | zero => intro c hm; exact absurd hm (Nat.not_lt_zero _)
            | succ N ih22 =>
              intro c hm22 i22_0 ls hl
              refine lv_iload hx hb dX6_turnedBy_22 (lv_at hl 0 rfl) ?_
              refine lv_aload_n hx hb dX6_turnedBy_24 rfl (lv_at hl 3 rfl) ?_
              refine rm_cV (ls := ls) (As := []) (rest := [.int (nI c)]) ⟨hx, hb, hml, hown, hts⟩ (metX6_cells l D cA a st im kp nx li isl mv so la cm ld us bl  ) (cwX6_cells_X6 hts ⟨Nat.le_of_ble_eq_true rfl, Nat.le_of_ble_eq_true rfl⟩) hP hK hN (va_recv hK hP xc5 (q0 := 0) rfl) rfl hl.1 rfl (Nat.le_of_ble_eq_true rfl) dX6_turnedBy_25 ⟨Nat.zero_le _, Nat.zero_le _⟩ ?_
              refine rm_cge (tgt := 69) hx hb dX6_turnedBy_28 (by decide) (by omega) (by omega) (fun q28 => ?_) (fun q28 => ?_)
              · skip
                have e : c = st 0 := by omega
                rw [e] at hl
                refine lv_iload_n hx hb dX6_turnedBy_69 rfl (lv_at hl 1 rfl) ?_
                refine rm_beq (tgt := 75) hx hb dX6_turnedBy_70 (by decide) (fun q70 => ?_) (fun q70 => ?_)
                · skip
                  refine lv_iinc (v := (nI (b + 1))) (lv' := [(2, .int (nI (b + 1))), (4, .int (nI (st 0))), (3, .int (bI (allP (tbG (st 0) S b) (st 0)))), (0, .ref (a 0)), (1, .int (nI S))]) hx hb dX6_turnedBy_75 hl (k := 2) rfl (rm_inc b 1) (by decide) rfl (fun ls hl => ?_)
                  refine lv_goto (tgt := 9) hx hb dX6_turnedBy_78 (by decide) ?_
                  rw [show st 0 - b = (st 0 - (b + 1)) + 1 by omega] at i9_2
                  rw [fst_succ, if_neg (by rw [show tbF (st 0) S b = false from q70]; decide)] at i9_2
                  exact ih9 (b + 1) (by omega) (by omega) (by omega) i9_2 ls (lv_sub hl [0, 3, 4] rfl)
                · skip
                  refine lv_iload_n hx hb dX6_turnedBy_73 rfl (lv_at hl 2 rfl) ?_
                  exact hret _ 74 ls (by unfold tbV; rw [if_neg (by omega), ← i9_2, show st 0 - b = (st 0 - (b + 1)) + 1 by omega, fst_succ, if_pos (show tbF (st 0) S b = true from q70)]; rfl) dX6_turnedBy_74
              · skip
                have join62 : ∀ (ls : Array Slot), lv_has ls 5 [(4, .int (nI c)), (3, .int (bI (allP (tbG (st 0) S b) c))), (2, .int (nI b)), (0, .ref (a 0)), (1, .int (nI S))] → W p l e rmX6_turnedBy s m ([.ref (a 0), .int (nI S)] : List Value).toArray below meth cd s.heap [] 0 0 Q (F0 m 62 ls [.int (bI (tbG (st 0) S b c && allP (tbG (st 0) S b) c))]) := by
                  intro   ls hl
                  refine lv_istore_n (lv' := [(3, .int (bI (tbG (st 0) S b c && allP (tbG (st 0) S b) c))), (4, .int (nI c)), (2, .int (nI b)), (0, .ref (a 0)), (1, .int (nI S))]) hx hb dX6_turnedBy_62 rfl hl (by decide) rfl (fun ls hl => ?_)
                  refine lv_iinc (v := (nI (c + 1))) (lv' := [(4, .int (nI (c + 1))), (3, .int (bI (tbG (st 0) S b c && allP (tbG (st 0) S b) c))), (2, .int (nI b)), (0, .ref (a 0)), (1, .int (nI S))]) hx hb dX6_turnedBy_63 hl (k := 1) rfl (rm_inc c 1) (by decide) rfl (fun ls hl => ?_)
                  refine lv_goto (tgt := 22) hx hb dX6_turnedBy_66 (by decide) ?_
                  exact ih22 (c + 1) (by omega) (by omega) ls hl
                refine lv_iload_n hx hb dX6_turnedBy_31 rfl (lv_at hl 1 rfl) ?_
                refine rm_beq (tgt := 61) hx hb dX6_turnedBy_32 (by decide) (fun q32 => ?_) (fun q32 => ?_)
                · skip
                  refine lv_iconst (v := (nI 0)) hx hb dX6_turnedBy_61 (by decide) ?_
                  refine rm_top (y := (bI (tbG (st 0) S b c && allP (tbG (st 0) S b) c))) (by rw [q32, Bool.and_false]; rfl) ?_
                  exact join62   ls hl
                · skip
                  refine lv_iload_n hx hb dX6_turnedBy_35 rfl (lv_at hl 4 rfl) ?_
                  refine lv_iload hx hb dX6_turnedBy_36 (lv_at hl 0 rfl) ?_
                  refine rm_cS (ls := ls) (As := [.int (nI S), .int (nI c)]) (rest := []) ⟨hx, hb, hml, hown, hts⟩ (metX6_has l S c (by first | assumption | omega) (by first | assumption | omega)) (cwX6_has_X6 hts ⟨Nat.le_of_ble_eq_true rfl, Nat.le_of_ble_eq_true rfl⟩) noB rfl hl.1 rfl (Nat.le_of_ble_eq_true rfl) dX6_turnedBy_38 ⟨Nat.zero_le _, Nat.zero_le _⟩ ?_
                  refine lv_iload_n hx hb dX6_turnedBy_41 rfl (lv_at hl 4 rfl) ?_
                  refine lv_iload hx hb dX6_turnedBy_42 (lv_at hl 0 rfl) ?_
                  refine lv_iload_n hx hb dX6_turnedBy_44 rfl (lv_at hl 2 rfl) ?_
                  refine rm_iadd hx hb dX6_turnedBy_45 ?_
                  refine lv_aload_n hx hb dX6_turnedBy_46 rfl (lv_at hl 3 rfl) ?_
                  refine rm_cV (ls := ls) (As := []) (rest := [.int (nI (c + b)), .int (nI S), .int (bI (Nat.testBit S c))]) ⟨hx, hb, hml, hown, hts⟩ (metX6_cells l D cA a st im kp nx li isl mv so la cm ld us bl  ) (cwX6_cells_X6 hts ⟨Nat.le_of_ble_eq_true rfl, Nat.le_of_ble_eq_true rfl⟩) hP hK hN (va_recv hK hP xc5 (q0 := 0) rfl) rfl hl.1 rfl (Nat.le_of_ble_eq_true rfl) dX6_turnedBy_47 ⟨Nat.zero_le _, Nat.zero_le _⟩ ?_
                  refine rm_irem hx hb dX6_turnedBy_50 (by omega) (by omega) (by omega) ?_
                  refine rm_cS (ls := ls) (As := [.int (nI S), .int (nI ((c + b) % (st 0)))]) (rest := [.int (bI (Nat.testBit S c))]) ⟨hx, hb, hml, hown, hts⟩ (metX6_has l S ((c + b) % (st 0)) (by first | assumption | omega) (Nat.lt_of_lt_of_le (Nat.mod_lt _ (by omega)) hn10)) (cwX6_has_X6 hts ⟨Nat.le_of_ble_eq_true rfl, Nat.le_of_ble_eq_true rfl⟩) noB rfl hl.1 rfl (Nat.le_of_ble_eq_true rfl) dX6_turnedBy_51 ⟨Nat.zero_le _, Nat.zero_le _⟩ ?_
                  refine lv_icmp_ne (tgt := 61) hx hb dX6_turnedBy_54 (by decide) (fun q54 => ?_) (fun q54 => ?_)
                  · skip
                    refine lv_iconst (v := (nI 0)) hx hb dX6_turnedBy_61 (by decide) ?_
                    refine rm_top (y := (bI (tbG (st 0) S b c && allP (tbG (st 0) S b) c))) (by rw [show tbG (st 0) S b c = false from beq_eq_false_iff_ne.mpr (fun h => q54 (by rw [h]))]; rfl) ?_
                    exact join62   ls hl
                  · skip
                    refine lv_iconst (v := (nI 1)) hx hb dX6_turnedBy_57 (by decide) ?_
                    refine lv_goto (tgt := 62) hx hb dX6_turnedBy_58 (by decide) ?_
                    refine rm_top (y := (bI (tbG (st 0) S b c && allP (tbG (st 0) S b) c))) (by rw [show tbG (st 0) S b c = true from beq_iff_eq.mpr (bI_inj q54), q32]; rfl) ?_
                    exact join62   ls hl
          exact loop22 _ 0 (Nat.lt_succ_self _) (by omega) ls hl
    exact loop9 _ 1 (Nat.lt_succ_self _) (by omega) (by omega) rfl ls hl
  · skip
    refine lv_bipush (v := (-6)) hx hb dX6_turnedBy_4 (by decide) ?_
    exact hret _ 6 ls (by unfold tbV; rw [if_pos q1]) dX6_turnedBy_6
theorem cwX6_turnedBy_X6 {R : Room} {s : State} {args : Array Value} (hts : ∀ w ∈ lw_all, w.before args s = true) (hR : (rmX6_turnedBy).frames + 1 ≤ R.frames ∧ 8 + (5 + 11) + (rmX6_turnedBy).locals ≤ R.locals) : CallW R s args RX6 RX6 108 yX6_turnedBy cX6_turnedBy 5 (some .int) (ws_ yX6_turnedBy cX6_turnedBy 5 (some .int)) rmX6_turnedBy 0 0 1 := cwV 1 hts (lw_V q768 q770 qs37 q63 q771) rfl rfl rfl (by decide +kernel) hR
abbrev rmX6_shape : Room := { frames := 7, cells := 0, slots := 0, locals := 168 }
set_option maxHeartbeats 4000000 in
theorem metX6_shape (l : Launch) (D : va_G) (cA : Nat → ClassId) (a : Nat → Nat) (st im : Nat → Nat) (kp : Nat → Bool) (nx li : Nat → Nat) (isl : Nat → Bool) (mv : Nat → Nat) (so la : Nat → Option Nat) (cm : Nat → Nat) (ld us : Nat) (bl : Bool) (what : Int32) (hn3 : 3 ≤ st 0) (hn10 : st 0 ≤ 10) (hst : ∀ j, st j < 2 ^ 31) : RO l yX6_shape cX6_shape 3 (some .int) rmX6_shape [.ref (a 0), .int what] (wB D cA (mW a cA st im kp nx li isl mv so la cm ld us bl)) ((shR (st 0) (SS (st 0) (fun c => st (1 + c))) what)) := by
  refine ro_int rfl (Nat.le_of_ble_eq_true rfl) ?_
  intro p e s m below meth cd Q ls hx hb hml hown hts hB hl hret
  obtain ⟨hP, hK, hN⟩ := hB
  have hown : s.vm.findClass RX6 = some m.cls := hown
  have hl : lv_has ls 3 [(0, .ref (a 0)), (1, .int what)] := hl
  have hS : SS (st 0) (fun c => st (1 + c)) < 1024 := SS_lt _ hn10
  refine lv_aload_n hx hb dX6_shape_0 rfl (lv_at hl 0 rfl) ?_
  refine lv_aload_n hx hb dX6_shape_1 rfl (lv_at hl 0 rfl) ?_
  refine rm_cV (ls := ls) (As := []) (rest := [.ref (a 0)]) ⟨hx, hb, hml, hown, hts⟩ (metX6_now l D cA a st im kp nx li isl mv so la cm ld us bl  (by first | assumption | omega) (by first | assumption | omega) (by first | assumption | omega)) (cwX6_now_X6 hts ⟨Nat.le_of_ble_eq_true rfl, Nat.le_of_ble_eq_true rfl⟩) hP hK hN (va_recv hK hP xc5 (q0 := 0) rfl) rfl hl.1 rfl (Nat.le_of_ble_eq_true rfl) dX6_shape_2 ⟨Nat.zero_le _, Nat.zero_le _⟩ ?_
  refine rm_cV (ls := ls) (As := [.int (nI (cdw (fun c => st (1 + c)) (st 0)))]) (rest := []) ⟨hx, hb, hml, hown, hts⟩ (metX6_standsOf l D cA a st im kp nx li isl mv so la cm ld us bl (cdw (fun c => st (1 + c)) (st 0)) (by first | assumption | omega) (by first | assumption | omega) (Nat.lt_of_lt_of_le (cdw_lt _ _) (Nat.le_trans (p3_le hn10) (by decide)))) (cwX6_standsOf_X6 hts ⟨Nat.le_of_ble_eq_true rfl, Nat.le_of_ble_eq_true rfl⟩) hP hK hN (va_recv hK hP xc5 (q0 := 0) rfl) rfl hl.1 rfl (Nat.le_of_ble_eq_true rfl) dX6_shape_5 ⟨Nat.zero_le _, Nat.zero_le _⟩ ?_
  refine rm_top (y := (nI (SS (st 0) (fun c => st (1 + c))))) (by rw [stS_cdw]) ?_
  refine lv_istore_n (lv' := [(2, .int (nI (SS (st 0) (fun c => st (1 + c))))), (0, .ref (a 0)), (1, .int what)]) hx hb dX6_shape_8 rfl hl (by decide) rfl (fun ls hl => ?_)
  refine lv_iload_n hx hb dX6_shape_9 rfl (lv_at hl 2 rfl) ?_
  by_cases hsw10 : inI 0 5 what = true
  · obtain ⟨ksw, hk0, hkh, esw⟩ := (inI_iff (by decide) (by decide)).mp hsw10
    have hk : ksw = 0 ∨ ksw = 1 ∨ ksw = 2 ∨ ksw = 3 ∨ ksw = 4 ∨ ksw = 5 := by omega
    rcases hk with rfl | rfl | rfl | rfl | rfl | rfl
    · skip
      subst esw
      refine lv_tableIn (off := 38) (tgt := 48) hx hb dX6_shape_10 (by decide) (by decide) (by decide) (by decide) ?_
      refine lv_aload_n hx hb dX6_shape_48 rfl (lv_at hl 1 rfl) ?_
      refine lv_iload_n hx hb dX6_shape_49 rfl (lv_at hl 0 rfl) ?_
      refine rm_cV (ls := ls) (As := [.int (nI (SS (st 0) (fun c => st (1 + c))))]) (rest := []) ⟨hx, hb, hml, hown, hts⟩ (metX6_isTurned l D cA a st im kp nx li isl mv so la cm ld us bl (SS (st 0) (fun c => st (1 + c))) (by first | assumption | omega) (by first | assumption | omega) (by first | assumption | omega)) (cwX6_isTurned_X6 hts ⟨Nat.le_of_ble_eq_true rfl, Nat.le_of_ble_eq_true rfl⟩) hP hK hN (va_recv hK hP xc5 (q0 := 0) rfl) rfl hl.1 rfl (Nat.le_of_ble_eq_true rfl) dX6_shape_50 ⟨Nat.zero_le _, Nat.zero_le _⟩ ?_
      refine rm_beq (tgt := 60) hx hb dX6_shape_53 (by decide) (fun q53 => ?_) (fun q53 => ?_)
      · skip
        refine lv_iconst (v := (nI 0)) hx hb dX6_shape_60 (by decide) ?_
        exact hret _ 61 ls (by unfold shR; refine sw_ret hsw10 (by decide) ?_; show _ = bI (tuV _ _); rw [q53]; rfl) dX6_shape_61
      · skip
        refine lv_iconst (v := (nI 1)) hx hb dX6_shape_56 (by decide) ?_
        refine lv_goto (tgt := 61) hx hb dX6_shape_57 (by decide) ?_
        exact hret _ 61 ls (by unfold shR; refine sw_ret hsw10 (by decide) ?_; show _ = bI (tuV _ _); rw [q53]; rfl) dX6_shape_61
    · skip
      subst esw
      refine lv_tableIn (off := 52) (tgt := 62) hx hb dX6_shape_10 (by decide) (by decide) (by decide) (by decide) ?_
      refine lv_aload_n hx hb dX6_shape_62 rfl (lv_at hl 1 rfl) ?_
      refine lv_iload_n hx hb dX6_shape_63 rfl (lv_at hl 0 rfl) ?_
      refine rm_cV (ls := ls) (As := [.int (nI (SS (st 0) (fun c => st (1 + c))))]) (rest := []) ⟨hx, hb, hml, hown, hts⟩ (metX6_isMirrored l D cA a st im kp nx li isl mv so la cm ld us bl (SS (st 0) (fun c => st (1 + c))) (by first | assumption | omega) (by first | assumption | omega) (by first | assumption | omega)) (cwX6_isMirrored_X6 hts ⟨Nat.le_of_ble_eq_true rfl, Nat.le_of_ble_eq_true rfl⟩) hP hK hN (va_recv hK hP xc5 (q0 := 0) rfl) rfl hl.1 rfl (Nat.le_of_ble_eq_true rfl) dX6_shape_64 ⟨Nat.zero_le _, Nat.zero_le _⟩ ?_
      refine rm_beq (tgt := 74) hx hb dX6_shape_67 (by decide) (fun q67 => ?_) (fun q67 => ?_)
      · skip
        refine lv_iconst (v := (nI 0)) hx hb dX6_shape_74 (by decide) ?_
        exact hret _ 75 ls (by unfold shR; refine sw_ret hsw10 (by decide) ?_; show _ = bI (miV _ _); rw [q67]; rfl) dX6_shape_75
      · skip
        refine lv_iconst (v := (nI 1)) hx hb dX6_shape_70 (by decide) ?_
        refine lv_goto (tgt := 75) hx hb dX6_shape_71 (by decide) ?_
        exact hret _ 75 ls (by unfold shR; refine sw_ret hsw10 (by decide) ?_; show _ = bI (miV _ _); rw [q67]; rfl) dX6_shape_75
    · skip
      subst esw
      refine lv_tableIn (off := 66) (tgt := 76) hx hb dX6_shape_10 (by decide) (by decide) (by decide) (by decide) ?_
      refine lv_iload_n hx hb dX6_shape_76 rfl (lv_at hl 0 rfl) ?_
      refine rm_ieq (tgt := 100) hx hb dX6_shape_77 (by decide) (by omega) (fun q77 => ?_) (fun q77 => ?_)
      · skip
        refine lv_iconst (v := (nI 0)) hx hb dX6_shape_100 (by decide) ?_
        exact hret _ 101 ls (by unfold shR; refine sw_ret hsw10 (by decide) ?_; show _ = bI (_ && _ && _); rw [decide_eq_false (by omega)]; rfl) dX6_shape_101
      · skip
        refine lv_aload_n hx hb dX6_shape_80 rfl (lv_at hl 1 rfl) ?_
        refine lv_iload_n hx hb dX6_shape_81 rfl (lv_at hl 0 rfl) ?_
        refine rm_cV (ls := ls) (As := [.int (nI (SS (st 0) (fun c => st (1 + c))))]) (rest := []) ⟨hx, hb, hml, hown, hts⟩ (metX6_isTurned l D cA a st im kp nx li isl mv so la cm ld us bl (SS (st 0) (fun c => st (1 + c))) (by first | assumption | omega) (by first | assumption | omega) (by first | assumption | omega)) (cwX6_isTurned_X6 hts ⟨Nat.le_of_ble_eq_true rfl, Nat.le_of_ble_eq_true rfl⟩) hP hK hN (va_recv hK hP xc5 (q0 := 0) rfl) rfl hl.1 rfl (Nat.le_of_ble_eq_true rfl) dX6_shape_82 ⟨Nat.zero_le _, Nat.zero_le _⟩ ?_
        refine rm_bne (tgt := 100) hx hb dX6_shape_85 (by decide) (fun q85 => ?_) (fun q85 => ?_)
        · skip
          refine lv_iconst (v := (nI 0)) hx hb dX6_shape_100 (by decide) ?_
          exact hret _ 101 ls (by unfold shR; refine sw_ret hsw10 (by decide) ?_; show _ = bI (_ && _ && _); rw [q85, Bool.not_true, Bool.and_false]; rfl) dX6_shape_101
        · skip
          refine lv_aload_n hx hb dX6_shape_88 rfl (lv_at hl 1 rfl) ?_
          refine lv_iload_n hx hb dX6_shape_89 rfl (lv_at hl 0 rfl) ?_
          refine rm_cV (ls := ls) (As := [.int (nI (SS (st 0) (fun c => st (1 + c))))]) (rest := []) ⟨hx, hb, hml, hown, hts⟩ (metX6_isMirrored l D cA a st im kp nx li isl mv so la cm ld us bl (SS (st 0) (fun c => st (1 + c))) (by first | assumption | omega) (by first | assumption | omega) (by first | assumption | omega)) (cwX6_isMirrored_X6 hts ⟨Nat.le_of_ble_eq_true rfl, Nat.le_of_ble_eq_true rfl⟩) hP hK hN (va_recv hK hP xc5 (q0 := 0) rfl) rfl hl.1 rfl (Nat.le_of_ble_eq_true rfl) dX6_shape_90 ⟨Nat.zero_le _, Nat.zero_le _⟩ ?_
          refine rm_bne (tgt := 100) hx hb dX6_shape_93 (by decide) (fun q93 => ?_) (fun q93 => ?_)
          · skip
            refine lv_iconst (v := (nI 0)) hx hb dX6_shape_100 (by decide) ?_
            exact hret _ 101 ls (by unfold shR; refine sw_ret hsw10 (by decide) ?_; show _ = bI (_ && _ && _); rw [q93, Bool.not_true, Bool.and_false]; rfl) dX6_shape_101
          · skip
            refine lv_iconst (v := (nI 1)) hx hb dX6_shape_96 (by decide) ?_
            refine lv_goto (tgt := 101) hx hb dX6_shape_97 (by decide) ?_
            exact hret _ 101 ls (by unfold shR; refine sw_ret hsw10 (by decide) ?_; show _ = bI (_ && _ && _); rw [decide_eq_true q77, q85, q93]; rfl) dX6_shape_101
    · skip
      subst esw
      refine lv_tableIn (off := 92) (tgt := 102) hx hb dX6_shape_10 (by decide) (by decide) (by decide) (by decide) ?_
      refine lv_aload_n hx hb dX6_shape_102 rfl (lv_at hl 1 rfl) ?_
      refine lv_iload_n hx hb dX6_shape_103 rfl (lv_at hl 0 rfl) ?_
      refine rm_cV (ls := ls) (As := [.int (nI (SS (st 0) (fun c => st (1 + c))))]) (rest := []) ⟨hx, hb, hml, hown, hts⟩ (metX6_even l D cA a st im kp nx li isl mv so la cm ld us bl (SS (st 0) (fun c => st (1 + c))) (by first | assumption | omega) (by first | assumption | omega) (by first | assumption | omega)) (cwX6_even_X6 hts ⟨Nat.le_of_ble_eq_true rfl, Nat.le_of_ble_eq_true rfl⟩) hP hK hN (va_recv hK hP xc5 (q0 := 0) rfl) rfl hl.1 rfl (Nat.le_of_ble_eq_true rfl) dX6_shape_104 ⟨Nat.zero_le _, Nat.zero_le _⟩ ?_
      exact hret _ 107 ls (by unfold shR; exact sw_ret hsw10 (by decide) rfl) dX6_shape_107
    · skip
      subst esw
      refine lv_tableIn (off := 98) (tgt := 108) hx hb dX6_shape_10 (by decide) (by decide) (by decide) (by decide) ?_
      refine lv_aload_n hx hb dX6_shape_108 rfl (lv_at hl 1 rfl) ?_
      refine lv_iload_n hx hb dX6_shape_109 rfl (lv_at hl 0 rfl) ?_
      refine rm_cV (ls := ls) (As := [.int (nI (SS (st 0) (fun c => st (1 + c))))]) (rest := []) ⟨hx, hb, hml, hown, hts⟩ (metX6_views l D cA a st im kp nx li isl mv so la cm ld us bl (SS (st 0) (fun c => st (1 + c))) (by first | assumption | omega) (by first | assumption | omega) (by first | assumption | omega)) (cwX6_views_X6 hts ⟨Nat.le_of_ble_eq_true rfl, Nat.le_of_ble_eq_true rfl⟩) hP hK hN (va_recv hK hP xc5 (q0 := 0) rfl) rfl hl.1 rfl (Nat.le_of_ble_eq_true rfl) dX6_shape_110 ⟨Nat.zero_le _, Nat.zero_le _⟩ ?_
      exact hret _ 113 ls (by unfold shR; exact sw_ret hsw10 (by decide) rfl) dX6_shape_113
    · skip
      subst esw
      refine lv_tableIn (off := 104) (tgt := 114) hx hb dX6_shape_10 (by decide) (by decide) (by decide) (by decide) ?_
      refine lv_aload_n hx hb dX6_shape_114 rfl (lv_at hl 1 rfl) ?_
      refine lv_iload_n hx hb dX6_shape_115 rfl (lv_at hl 0 rfl) ?_
      refine rm_cV (ls := ls) (As := [.int (nI (SS (st 0) (fun c => st (1 + c))))]) (rest := []) ⟨hx, hb, hml, hown, hts⟩ (metX6_turnedBy l D cA a st im kp nx li isl mv so la cm ld us bl (SS (st 0) (fun c => st (1 + c))) (by first | assumption | omega) (by first | assumption | omega) (by first | assumption | omega)) (cwX6_turnedBy_X6 hts ⟨Nat.le_of_ble_eq_true rfl, Nat.le_of_ble_eq_true rfl⟩) hP hK hN (va_recv hK hP xc5 (q0 := 0) rfl) rfl hl.1 rfl (Nat.le_of_ble_eq_true rfl) dX6_shape_116 ⟨Nat.zero_le _, Nat.zero_le _⟩ ?_
      exact hret _ 119 ls (by unfold shR; exact sw_ret hsw10 (by decide) rfl) dX6_shape_119
  · skip
    refine lv_tableOut (tgt := 120) hx hb dX6_shape_10 (sw_out (by decide) (by decide) hsw10) (by decide) ?_
    refine lv_bipush (v := (-2)) hx hb dX6_shape_120 (by decide) ?_
    exact hret _ 122 ls (by unfold shR; rw [if_neg hsw10]) dX6_shape_122
theorem cwX6_shape_L {R : Room} {s : State} {args : Array Value} (hts : ∀ w ∈ lw_all, w.before args s = true) (hR : (rmX6_shape).frames + 1 ≤ R.frames ∧ 8 + (3 + 11) + (rmX6_shape).locals ≤ R.locals) : CallW R s args "RingMeetsLaw" RX6 31 yX6_shape cX6_shape 3 (some .int) (ws_ yX6_shape cX6_shape 3 (some .int)) rmX6_shape 0 0 1 := cwV 1 hts (lw_V q745 q746 q747 q63 q748) rfl rfl rfl (by decide +kernel) hR
