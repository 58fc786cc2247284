set_option maxRecDepth 100000

abbrev rmX6_ring : Room := { frames := 1, cells := 0, slots := 0, locals := 22 }
set_option maxHeartbeats 4000000 in
theorem metX6_ring (l : Launch) (D : va_G) (cA : Nat → ClassId) (a : Nat → Nat) (st im : Nat → Nat) (kp : Nat → Bool) (nx li : Nat → Nat) (isl : Nat → Bool) (mv : Nat → Nat) (so la : Nat → Option Nat) (cm : Nat → Nat) (ld us : Nat) (bl : Bool) (v : Int32) (hn3 : 3 ≤ st 0) (hn10 : st 0 ≤ 10) (hst : ∀ j, st j < 2 ^ 31) : MUi l yX6_ring cX6_ring 4 (some .int) rmX6_ring [.ref (a 0), .int v] D cA (mW a cA st im kp nx li isl mv so la cm ld us bl) (fun (res_ : Int32) (uu_ : (Nat → Nat)) => res_ = (ringR (st 0) v) ∧ (∀ j, uu_ j = ringS st v j)) (fun (uu_ : (Nat → Nat)) => mW a cA uu_ im kp nx li isl mv so la cm ld us bl) 0 0 := by
  refine mu_int rfl (Nat.le_of_ble_eq_true rfl) ?_
  intro p e s m below meth cd Q ls A hx hb hml hown hts hP hK hN hD hA hl hret
  have hown : s.vm.findClass RX6 = some m.cls := hown
  have hS : va_S A s.heap s.heap [] := va_S.rf
  have hl : lv_has ls 4 [(0, .ref (a 0)), (1, .int v)] := hl
  refine lv_iload_n hx hb dX6_ring_0 rfl (lv_at hl 1 rfl) ?_
  refine lv_iconst (v := (nI 3)) hx hb dX6_ring_1 (by decide) ?_
  refine lv_bipush (v := (nI 10)) hx hb dX6_ring_2 (by decide) ?_
  refine rm_cS (ls := ls) (As := [.int v, .int (nI 3), .int (nI 10)]) (rest := []) ⟨hx, hb, hml, hown, hts⟩ (metX6_in l v (nI 3) (nI 10) ) (cwX6_in_X6 hts ⟨Nat.le_of_ble_eq_true rfl, Nat.le_of_ble_eq_true rfl⟩) noB rfl hl.1 rfl (Nat.le_of_ble_eq_true rfl) dX6_ring_4 ⟨Nat.zero_le _, Nat.zero_le _⟩ ?_
  refine rm_bne (tgt := 13) hx hb dX6_ring_7 (by decide) (fun q7 => ?_) (fun q7 => ?_)
  · skip
    have hV : inI 3 10 v = true := q7
    obtain ⟨t, ht0, ht2, rfl⟩ := (inI_iff (lo := 3) (hi := 10) (by decide) (by decide)).mp q7
    refine lv_aload_n hx hb dX6_ring_13 rfl (lv_at hl 0 rfl) ?_
    refine rm_cV (ls := ls) (As := []) (rest := []) ⟨hx, hb, hml, hown, hts⟩ (metX6_cells l D cA a st im kp nx li isl mv so la cm ld us bl  ) (cwX6_cells_X6 hts ⟨Nat.le_of_ble_eq_true rfl, Nat.le_of_ble_eq_true rfl⟩) hP hK hN (va_recv hK hP xc5 (q0 := 0) rfl) rfl hl.1 rfl (Nat.le_of_ble_eq_true rfl) dX6_ring_14 ⟨Nat.zero_le _, Nat.zero_le _⟩ ?_
    refine lv_istore_n (lv' := [(2, .int (nI (st 0))), (0, .ref (a 0)), (1, .int (nI t))]) hx hb dX6_ring_17 rfl hl (by decide) rfl (fun ls hl => ?_)
    refine lv_aload_n hx hb dX6_ring_18 rfl (lv_at hl 1 rfl) ?_
    refine va_get (D := D) (ci := 5) (v := .ref (a 1)) (C := RX6) (T := TX6) (N := 14) hx hb hts in_X6 hown hK hP 0 rfl xc5 0 (by decide) (hts _ q640) (fun _ h9 => h9) rfl dX6_ring_19 ?_
    refine lv_iconst (v := (nI 0)) hx hb dX6_ring_22 (by decide) ?_
    refine lv_iload_n hx hb dX6_ring_23 rfl (lv_at hl 2 rfl) ?_
    refine rm_nst hx hb hK hP hD hS 1 rfl (by omega) (by decide) (ws' := mW a cA (va_up st 0 t) im kp nx li isl mv so la cm ld us bl) rfl dX6_ring_24 (fun H locs hP hD hS => ?_)
    refine lv_iconst (v := (nI 0)) hx hb dX6_ring_25 (by decide) ?_
    refine lv_istore_n (lv' := [(3, .int (nI 0)), (2, .int (nI (st 0))), (0, .ref (a 0)), (1, .int (nI t))]) hx hb dX6_ring_26 rfl hl (by decide) rfl (fun ls hl => ?_)
    have loop27 : ∀ (N : Nat) (c : Nat) (s1 : Nat → Nat), 10 - c < N → (c ≤ 10) → (∀ j, s1 j = if j = 0 then t else if 1 ≤ j ∧ j ≤ c then 0 else st j) → ∀ (H : Heap) (locs : List Loc), va_P D xCl (mW a cA s1 im kp nx li isl mv so la cm ld us bl) H → va_D A (mW a cA s1 im kp nx li isl mv so la cm ld us bl) → va_S A s.heap H locs → ∀ (ls : Array Slot), lv_has ls 4 [(3, .int (nI c)), (2, .int (nI (st 0))), (0, .ref (a 0)), (1, .int (nI t))] → W p l e rmX6_ring s m ([.ref (a 0), .int (nI t)] : List Value).toArray below meth cd H locs 0 0 Q (F0 m 27 ls []) := by
      intro N
      induction N with
      | zero => intro c s1 hm; exact absurd hm (Nat.not_lt_zero _)
      | succ N ih27 =>
        intro c s1 hm27 i27_0 i27_1 H locs hP hD hS ls hl
        refine lv_iload_n hx hb dX6_ring_27 rfl (lv_at hl 0 rfl) ?_
        refine lv_bipush (v := (nI 10)) hx hb dX6_ring_28 (by decide) ?_
        refine rm_cge (tgt := 48) hx hb dX6_ring_30 (by decide) (by first | omega | exact hst _) (by decide) (fun q30 => ?_) (fun q30 => ?_)
        · skip
          refine lv_iload_n hx hb dX6_ring_48 rfl (lv_at hl 1 rfl) ?_
          exact hret _ (s1) _ _ 49 ls ⟨by unfold ringR; rw [if_pos hV], fun j => by have q := i27_1 j; unfold ringS; rw [if_pos hV, nI_clamp (by omega)]; grind⟩ hP hD hS dX6_ring_49
        · skip
          refine lv_aload_n hx hb dX6_ring_33 rfl (lv_at hl 2 rfl) ?_
          refine va_get (D := D) (ci := 5) (v := .ref (a 1)) (C := RX6) (T := TX6) (N := 14) hx hb hts in_X6 hown hK hP 0 rfl xc5 0 (by decide) (hts _ q640) (fun _ h9 => h9) rfl dX6_ring_34 ?_
          refine lv_iconst (v := (nI 1)) hx hb dX6_ring_37 (by decide) ?_
          refine lv_iload_n hx hb dX6_ring_38 rfl (lv_at hl 0 rfl) ?_
          refine rm_iadd hx hb dX6_ring_39 ?_
          refine lv_iconst (v := (nI 0)) hx hb dX6_ring_40 (by decide) ?_
          refine rm_nst hx hb hK hP hD hS 1 rfl (by omega) (by decide) (ws' := mW a cA (va_up s1 (1 + c) 0) im kp nx li isl mv so la cm ld us bl) rfl dX6_ring_41 (fun H locs hP hD hS => ?_)
          refine lv_iinc (v := (nI (c + 1))) (lv' := [(3, .int (nI (c + 1))), (2, .int (nI (st 0))), (0, .ref (a 0)), (1, .int (nI t))]) hx hb dX6_ring_42 hl (k := 0) rfl (rm_inc c 1) (by decide) rfl (fun ls hl => ?_)
          refine lv_goto (tgt := 27) hx hb dX6_ring_45 (by decide) ?_
          exact ih27 (c + 1) _ (by omega) (by omega) (fun j => by have q := i27_1 j; unfold va_up; grind) _ _ hP hD hS ls hl
    exact loop27 _ 0 _ (Nat.lt_succ_self _) (by omega) (fun j => by unfold va_up; grind) _ _ hP hD hS ls hl
  · skip
    refine lv_bipush (v := (-2)) hx hb dX6_ring_10 (by decide) ?_
    exact hret _ (st) _ _ 12 ls ⟨by unfold ringR; rw [if_neg (by rw [show inI 3 10 v = false from q7]; decide)], fun j => by unfold ringS; rw [if_neg (by rw [show inI 3 10 v = false from q7]; decide)]⟩ hP hD hS dX6_ring_12
theorem cwX6_ring_L {R : Room} {s : State} {args : Array Value} (hts : ∀ w ∈ lw_all, w.before args s = true) (hR : (rmX6_ring).frames + 1 ≤ R.frames ∧ 8 + (4 + 11) + (rmX6_ring).locals ≤ R.locals) : CallW R s args "RingMeetsLaw" RX6 17 yX6_ring cX6_ring 4 (some .int) (ws_ yX6_ring cX6_ring 4 (some .int)) rmX6_ring 0 0 1 := cwV 1 hts (lw_V q683 q684 q685 q63 q686) rfl rfl rfl (by decide +kernel) hR
abbrev rmX6_stand : Room := { frames := 2, cells := 0, slots := 0, locals := 43 }
set_option maxHeartbeats 4000000 in
theorem metX6_stand (l : Launch) (D : va_G) (cA : Nat → ClassId) (a : Nat → Nat) (st im : Nat → Nat) (kp : Nat → Bool) (nx li : Nat → Nat) (isl : Nat → Bool) (mv : Nat → Nat) (so la : Nat → Option Nat) (cm : Nat → Nat) (ld us : Nat) (bl : Bool) (v k : Int32) (hn3 : 3 ≤ st 0) (hn10 : st 0 ≤ 10) (hst : ∀ j, st j < 2 ^ 31) (hsm : sm (fun c => st (1 + c)) 10 ≤ 5) : MUi l yX6_stand cX6_stand 4 (some .int) rmX6_stand [.ref (a 0), .int v, .int k] D cA (mW a cA st im kp nx li isl mv so la cm ld us bl) (fun (res_ : Int32) (uu_ : (Nat → Nat)) => res_ = (standR (st 0) (fun c => st (1 + c)) v k) ∧ (∀ j, uu_ j = standS st v k j)) (fun (uu_ : (Nat → Nat)) => mW a cA uu_ im kp nx li isl mv so la cm ld us bl) 0 0 := by
  refine mu_int rfl (Nat.le_of_ble_eq_true rfl) ?_
  intro p e s m below meth cd Q ls A hx hb hml hown hts hP hK hN hD hA hl hret
  have hown : s.vm.findClass RX6 = some m.cls := hown
  have hS : va_S A s.heap s.heap [] := va_S.rf
  have hl : lv_has ls 4 [(0, .ref (a 0)), (1, .int v), (2, .int k)] := hl
  refine lv_aload_n hx hb dX6_stand_0 rfl (lv_at hl 0 rfl) ?_
  refine lv_iload_n hx hb dX6_stand_1 rfl (lv_at hl 1 rfl) ?_
  refine rm_cV (ls := ls) (As := [.int v]) (rest := []) ⟨hx, hb, hml, hown, hts⟩ (metX6_isCell l D cA a st im kp nx li isl mv so la cm ld us bl v (by first | assumption | omega) (by first | assumption | omega)) (cwX6_isCell_X6 hts ⟨Nat.le_of_ble_eq_true rfl, Nat.le_of_ble_eq_true rfl⟩) hP hK hN (va_recv hK hP xc5 (q0 := 0) rfl) rfl hl.1 rfl (Nat.le_of_ble_eq_true rfl) dX6_stand_2 ⟨Nat.zero_le _, Nat.zero_le _⟩ ?_
  refine rm_bne (tgt := 10) hx hb dX6_stand_5 (by decide) (fun q5 => ?_) (fun q5 => ?_)
  · skip
    have hV : inL (st 0) v = true := q5
    refine lv_iload_n hx hb dX6_stand_10 rfl (lv_at hl 2 rfl) ?_
    refine lv_iconst (v := (nI 0)) hx hb dX6_stand_11 (by decide) ?_
    refine lv_iconst (v := (nI 5)) hx hb dX6_stand_12 (by decide) ?_
    refine rm_cS (ls := ls) (As := [.int k, .int (nI 0), .int (nI 5)]) (rest := []) ⟨hx, hb, hml, hown, hts⟩ (metX6_in l k (nI 0) (nI 5) ) (cwX6_in_X6 hts ⟨Nat.le_of_ble_eq_true rfl, Nat.le_of_ble_eq_true rfl⟩) noB rfl hl.1 rfl (Nat.le_of_ble_eq_true rfl) dX6_stand_13 ⟨Nat.zero_le _, Nat.zero_le _⟩ ?_
    refine rm_bne (tgt := 22) hx hb dX6_stand_16 (by decide) (fun q16 => ?_) (fun q16 => ?_)
    · skip
      have hK1 : inI 0 5 k = true := q16
      obtain ⟨x, hx1, rfl⟩ := (inL_iff (by omega)).mp q5
      obtain ⟨t, ht0, ht2, rfl⟩ := (inI_iff (lo := 0) (hi := 5) (by decide) (by decide)).mp q16
      have hge : st (1 + x) ≤ sm (fun c => st (1 + c)) 10 := sm_ge (fun c => st (1 + c)) (show x < 10 by omega)
      refine lv_aload_n hx hb dX6_stand_22 rfl (lv_at hl 0 rfl) ?_
      refine va_get (D := D) (ci := 5) (v := .ref (a 1)) (C := RX6) (T := TX6) (N := 14) hx hb hts in_X6 hown hK hP 0 rfl xc5 0 (by decide) (hts _ q640) (fun _ h9 => h9) rfl dX6_stand_23 ?_
      refine lv_iconst (v := (nI 1)) hx hb dX6_stand_26 (by decide) ?_
      refine lv_iload_n hx hb dX6_stand_27 rfl (lv_at hl 1 rfl) ?_
      refine rm_iadd hx hb dX6_stand_28 ?_
      refine rm_nld hx hb hK hP 1 rfl (by omega) (by decide) dX6_stand_29 ?_
      refine lv_istore_n (lv' := [(3, .int (nI (st (1 + x)))), (0, .ref (a 0)), (1, .int (nI x)), (2, .int (nI t))]) hx hb dX6_stand_30 rfl hl (by decide) rfl (fun ls hl => ?_)
      refine lv_aload_n hx hb dX6_stand_31 rfl (lv_at hl 1 rfl) ?_
      refine rm_cV (ls := ls) (As := []) (rest := []) ⟨hx, hb, hml, hown, hts⟩ (metX6_walkers l D cA a st im kp nx li isl mv so la cm ld us bl  (by first | assumption | omega)) (cwX6_walkers_X6 hts ⟨Nat.le_of_ble_eq_true rfl, Nat.le_of_ble_eq_true rfl⟩) hP hK hN (va_recv hK hP xc5 (q0 := 0) rfl) rfl hl.1 rfl (Nat.le_of_ble_eq_true rfl) dX6_stand_32 ⟨Nat.zero_le _, Nat.zero_le _⟩ ?_
      refine lv_iload_n hx hb dX6_stand_35 rfl (lv_at hl 0 rfl) ?_
      refine rm_isub hx hb dX6_stand_36 (by omega) ?_
      refine lv_iload_n hx hb dX6_stand_37 rfl (lv_at hl 3 rfl) ?_
      refine rm_iadd hx hb dX6_stand_38 ?_
      refine lv_iconst (v := (nI 5)) hx hb dX6_stand_39 (by decide) ?_
      refine rm_cle (tgt := 46) hx hb dX6_stand_40 (by decide) (by first | omega | exact hst _) (by decide) (fun q40 => ?_) (fun q40 => ?_)
      · skip
        refine lv_aload_n hx hb dX6_stand_46 rfl (lv_at hl 1 rfl) ?_
        refine va_get (D := D) (ci := 5) (v := .ref (a 1)) (C := RX6) (T := TX6) (N := 14) hx hb hts in_X6 hown hK hP 0 rfl xc5 0 (by decide) (hts _ q640) (fun _ h9 => h9) rfl dX6_stand_47 ?_
        refine lv_iconst (v := (nI 1)) hx hb dX6_stand_50 (by decide) ?_
        refine lv_iload_n hx hb dX6_stand_51 rfl (lv_at hl 2 rfl) ?_
        refine rm_iadd hx hb dX6_stand_52 ?_
        refine lv_iload_n hx hb dX6_stand_53 rfl (lv_at hl 3 rfl) ?_
        refine rm_nst hx hb hK hP hD hS 1 rfl (by omega) (by decide) (ws' := mW a cA (va_up st (1 + x) t) im kp nx li isl mv so la cm ld us bl) rfl dX6_stand_54 (fun H locs hP hD hS => ?_)
        refine lv_iload_n hx hb dX6_stand_55 rfl (lv_at hl 0 rfl) ?_
        exact hret _ (va_up st (1 + x) t) _ _ 56 ls ⟨by unfold standR; rw [if_pos hV, if_pos hK1, nI_clamp (by omega), nI_clamp (by omega), if_pos (show sm (fun c => st (1 + c)) 10 - st (1 + x) + t ≤ 5 by omega)], fun j => by unfold standS standB; rw [hV, hK1, nI_clamp (show x < 2 ^ 31 by omega), nI_clamp (show t < 2 ^ 31 by omega), decide_eq_true (show sm (fun c => st (1 + c)) 10 - st (1 + x) + t ≤ 5 by omega)]; unfold va_up; simp⟩ hP hD hS dX6_stand_56
      · skip
        refine lv_bipush (v := (-4)) hx hb dX6_stand_43 (by decide) ?_
        exact hret _ (st) _ _ 45 ls ⟨by unfold standR; rw [if_pos hV, if_pos hK1, nI_clamp (by omega), nI_clamp (by omega), if_neg (show ¬ sm (fun c => st (1 + c)) 10 - st (1 + x) + t ≤ 5 by omega)], fun j => by unfold standS standB; rw [nI_clamp (show x < 2 ^ 31 by omega), nI_clamp (show t < 2 ^ 31 by omega), decide_eq_false (show ¬ sm (fun c => st (1 + c)) 10 - st (1 + x) + t ≤ 5 by omega)]; simp⟩ hP hD hS dX6_stand_45
    · skip
      refine lv_bipush (v := (-2)) hx hb dX6_stand_19 (by decide) ?_
      exact hret _ (st) _ _ 21 ls ⟨by unfold standR; rw [if_pos hV, if_neg (by rw [show inI 0 5 k = false from q16]; decide)], fun j => by unfold standS standB; rw [show inI 0 5 k = false from q16]; simp⟩ hP hD hS dX6_stand_21
  · skip
    refine lv_iconst (v := (-1)) hx hb dX6_stand_8 (by decide) ?_
    exact hret _ (st) _ _ 9 ls ⟨by unfold standR; rw [if_neg (by rw [q5]; decide)], fun j => by unfold standS standB; rw [q5]; simp⟩ hP hD hS dX6_stand_9
theorem cwX6_stand_L {R : Room} {s : State} {args : Array Value} (hts : ∀ w ∈ lw_all, w.before args s = true) (hR : (rmX6_stand).frames + 1 ≤ R.frames ∧ 8 + (4 + 11) + (rmX6_stand).locals ≤ R.locals) : CallW R s args "RingMeetsLaw" RX6 22 yX6_stand cX6_stand 4 (some .int) (ws_ yX6_stand cX6_stand 4 (some .int)) rmX6_stand 0 0 2 := cwV 2 hts (lw_V q694 q695 q696 q63 q697) rfl rfl rfl (by decide +kernel) hR
abbrev rmX6_rule : Room := { frames := 1, cells := 0, slots := 0, locals := 22 }
set_option maxHeartbeats 4000000 in
theorem metX6_rule (l : Launch) (D : va_G) (cA : Nat → ClassId) (a : Nat → Nat) (st im : Nat → Nat) (kp : Nat → Bool) (nx li : Nat → Nat) (isl : Nat → Bool) (mv : Nat → Nat) (so la : Nat → Option Nat) (cm : Nat → Nat) (ld us : Nat) (bl : Bool) (ra rb rc rd re : Int32) (hst : ∀ j, st j < 2 ^ 31) (hm : st 11 ≤ 10) : MUi l yX6_rule cX6_rule 7 (some .int) rmX6_rule [.ref (a 0), .int ra, .int rb, .int rc, .int rd, .int re] D cA (mW a cA st im kp nx li isl mv so la cm ld us bl) (fun (res_ : Int32) (uu_ : (Nat → Nat)) => res_ = (ruleR (st 11) ra rb rc rd re) ∧ (∀ j, j < 72 → uu_ j = ruleS st ra rb rc rd re j)) (fun (uu_ : (Nat → Nat)) => mW a cA uu_ im kp nx li isl mv so la cm ld us bl) 0 0 := by
  refine mu_int rfl (Nat.le_of_ble_eq_true rfl) ?_
  intro p e s m below meth cd Q ls A hx hb hml hown hts hP hK hN hD hA hl hret
  have hown : s.vm.findClass RX6 = some m.cls := hown
  have hS : va_S A s.heap s.heap [] := va_S.rf
  have hl : lv_has ls 7 [(0, .ref (a 0)), (1, .int ra), (2, .int rb), (3, .int rc), (4, .int rd), (5, .int re)] := hl
  refine lv_iload_n hx hb dX6_rule_0 rfl (lv_at hl 1 rfl) ?_
  refine lv_iconst (v := (nI 0)) hx hb dX6_rule_1 (by decide) ?_
  refine lv_iconst (v := (nI 5)) hx hb dX6_rule_2 (by decide) ?_
  refine rm_cS (ls := ls) (As := [.int ra, .int (nI 0), .int (nI 5)]) (rest := []) ⟨hx, hb, hml, hown, hts⟩ (metX6_in l ra (nI 0) (nI 5) ) (cwX6_in_X6 hts ⟨Nat.le_of_ble_eq_true rfl, Nat.le_of_ble_eq_true rfl⟩) noB rfl hl.1 rfl (Nat.le_of_ble_eq_true rfl) dX6_rule_3 ⟨Nat.zero_le _, Nat.zero_le _⟩ ?_
  refine rm_beq (tgt := 48) hx hb dX6_rule_6 (by decide) (fun q6 => ?_) (fun q6 => ?_)
  · skip
    refine lv_bipush (v := (-2)) hx hb dX6_rule_48 (by decide) ?_
    exact hret _ (st) _ _ 50 ls ⟨by unfold ruleR; rw [if_neg (by unfold ruleB; rw [show inI 0 5 ra = false from q6]; simp)], fun j _ => by unfold ruleS; rw [if_neg (by unfold ruleB; rw [show inI 0 5 ra = false from q6]; simp)]⟩ hP hD hS dX6_rule_50
  · skip
    refine lv_iload_n hx hb dX6_rule_9 rfl (lv_at hl 2 rfl) ?_
    refine lv_iconst (v := (nI 0)) hx hb dX6_rule_10 (by decide) ?_
    refine lv_iconst (v := (nI 4)) hx hb dX6_rule_11 (by decide) ?_
    refine rm_cS (ls := ls) (As := [.int rb, .int (nI 0), .int (nI 4)]) (rest := []) ⟨hx, hb, hml, hown, hts⟩ (metX6_in l rb (nI 0) (nI 4) ) (cwX6_in_X6 hts ⟨Nat.le_of_ble_eq_true rfl, Nat.le_of_ble_eq_true rfl⟩) noB rfl hl.1 rfl (Nat.le_of_ble_eq_true rfl) dX6_rule_12 ⟨Nat.zero_le _, Nat.zero_le _⟩ ?_
    refine rm_beq (tgt := 48) hx hb dX6_rule_15 (by decide) (fun q15 => ?_) (fun q15 => ?_)
    · skip
      refine lv_bipush (v := (-2)) hx hb dX6_rule_48 (by decide) ?_
      exact hret _ (st) _ _ 50 ls ⟨by unfold ruleR; rw [if_neg (by unfold ruleB; rw [show inI 0 4 rb = false from q15]; simp)], fun j _ => by unfold ruleS; rw [if_neg (by unfold ruleB; rw [show inI 0 4 rb = false from q15]; simp)]⟩ hP hD hS dX6_rule_50
    · skip
      refine lv_iload_n hx hb dX6_rule_18 rfl (lv_at hl 3 rfl) ?_
      refine lv_iconst (v := (nI 0)) hx hb dX6_rule_19 (by decide) ?_
      refine lv_iconst (v := (nI 2)) hx hb dX6_rule_20 (by decide) ?_
      refine rm_cS (ls := ls) (As := [.int rc, .int (nI 0), .int (nI 2)]) (rest := []) ⟨hx, hb, hml, hown, hts⟩ (metX6_in l rc (nI 0) (nI 2) ) (cwX6_in_X6 hts ⟨Nat.le_of_ble_eq_true rfl, Nat.le_of_ble_eq_true rfl⟩) noB rfl hl.1 rfl (Nat.le_of_ble_eq_true rfl) dX6_rule_21 ⟨Nat.zero_le _, Nat.zero_le _⟩ ?_
      refine rm_beq (tgt := 48) hx hb dX6_rule_24 (by decide) (fun q24 => ?_) (fun q24 => ?_)
      · skip
        refine lv_bipush (v := (-2)) hx hb dX6_rule_48 (by decide) ?_
        exact hret _ (st) _ _ 50 ls ⟨by unfold ruleR; rw [if_neg (by unfold ruleB; rw [show inI 0 2 rc = false from q24]; simp)], fun j _ => by unfold ruleS; rw [if_neg (by unfold ruleB; rw [show inI 0 2 rc = false from q24]; simp)]⟩ hP hD hS dX6_rule_50
      · skip
        refine lv_iload hx hb dX6_rule_27 (lv_at hl 4 rfl) ?_
        refine lv_iconst (v := (nI 1)) hx hb dX6_rule_29 (by decide) ?_
        refine lv_bipush (v := (nI 10)) hx hb dX6_rule_30 (by decide) ?_
        refine rm_cS (ls := ls) (As := [.int rd, .int (nI 1), .int (nI 10)]) (rest := []) ⟨hx, hb, hml, hown, hts⟩ (metX6_in l rd (nI 1) (nI 10) ) (cwX6_in_X6 hts ⟨Nat.le_of_ble_eq_true rfl, Nat.le_of_ble_eq_true rfl⟩) noB rfl hl.1 rfl (Nat.le_of_ble_eq_true rfl) dX6_rule_32 ⟨Nat.zero_le _, Nat.zero_le _⟩ ?_
        refine rm_beq (tgt := 48) hx hb dX6_rule_35 (by decide) (fun q35 => ?_) (fun q35 => ?_)
        · skip
          refine lv_bipush (v := (-2)) hx hb dX6_rule_48 (by decide) ?_
          exact hret _ (st) _ _ 50 ls ⟨by unfold ruleR; rw [if_neg (by unfold ruleB; rw [show inI 1 10 rd = false from q35]; simp)], fun j _ => by unfold ruleS; rw [if_neg (by unfold ruleB; rw [show inI 1 10 rd = false from q35]; simp)]⟩ hP hD hS dX6_rule_50
        · skip
          refine lv_iload hx hb dX6_rule_38 (lv_at hl 5 rfl) ?_
          refine lv_iconst (v := (nI 0)) hx hb dX6_rule_40 (by decide) ?_
          refine lv_iconst (v := (nI 2)) hx hb dX6_rule_41 (by decide) ?_
          refine rm_cS (ls := ls) (As := [.int re, .int (nI 0), .int (nI 2)]) (rest := []) ⟨hx, hb, hml, hown, hts⟩ (metX6_in l re (nI 0) (nI 2) ) (cwX6_in_X6 hts ⟨Nat.le_of_ble_eq_true rfl, Nat.le_of_ble_eq_true rfl⟩) noB rfl hl.1 rfl (Nat.le_of_ble_eq_true rfl) dX6_rule_42 ⟨Nat.zero_le _, Nat.zero_le _⟩ ?_
          refine rm_bne (tgt := 51) hx hb dX6_rule_45 (by decide) (fun q45 => ?_) (fun q45 => ?_)
          · skip
            have hB : ruleB ra rb rc rd re = true := by unfold ruleB; rw [show inI 0 5 ra = true from q6, show inI 0 4 rb = true from q15, show inI 0 2 rc = true from q24, show inI 1 10 rd = true from q35, show inI 0 2 re = true from q45]; rfl
            obtain ⟨x1, _, h1, rfl⟩ := (inI_iff (lo := 0) (hi := 5) (by decide) (by decide)).mp q6
            obtain ⟨x2, _, h2, rfl⟩ := (inI_iff (lo := 0) (hi := 4) (by decide) (by decide)).mp q15
            obtain ⟨x3, _, h3, rfl⟩ := (inI_iff (lo := 0) (hi := 2) (by decide) (by decide)).mp q24
            obtain ⟨x4, h40, h4, rfl⟩ := (inI_iff (lo := 1) (hi := 10) (by decide) (by decide)).mp q35
            obtain ⟨x5, _, h5, rfl⟩ := (inI_iff (lo := 0) (hi := 2) (by decide) (by decide)).mp q45
            have hrv : ∀ k, rv (nI x1) (nI x2) (nI x3) (nI x4) (nI x5) k = if k = 0 then x1 else if k = 1 then x2 else if k = 2 then x3 else if k = 3 then x4 else if k = 4 then x5 else 2 := fun k => by unfold rv; rw [nI_clamp (show x1 < 2 ^ 31 by omega), nI_clamp (show x2 < 2 ^ 31 by omega), nI_clamp (show x3 < 2 ^ 31 by omega), nI_clamp (show x4 < 2 ^ 31 by omega), nI_clamp (show x5 < 2 ^ 31 by omega)]; split <;> grind
            refine lv_aload_n hx hb dX6_rule_51 rfl (lv_at hl 0 rfl) ?_
            refine va_get (D := D) (ci := 5) (v := .ref (a 1)) (C := RX6) (T := TX6) (N := 14) hx hb hts in_X6 hown hK hP 0 rfl xc5 0 (by decide) (hts _ q640) (fun _ h9 => h9) rfl dX6_rule_52 ?_
            refine lv_bipush (v := (nI 11)) hx hb dX6_rule_55 (by decide) ?_
            refine rm_nld hx hb hK hP 1 rfl (by omega) (by decide) dX6_rule_57 ?_
            refine lv_bipush (v := (nI 10)) hx hb dX6_rule_58 (by decide) ?_
            refine rm_cne (tgt := 66) hx hb dX6_rule_60 (by decide) (by first | omega | exact hst _) (by decide) (fun q60 => ?_) (fun q60 => ?_)
            · skip
              refine lv_bipush (v := (nI 12)) hx hb dX6_rule_66 (by decide) ?_
              refine lv_bipush (v := (nI 6)) hx hb dX6_rule_68 (by decide) ?_
              refine lv_aload_n hx hb dX6_rule_70 rfl (lv_at hl 0 rfl) ?_
              refine va_get (D := D) (ci := 5) (v := .ref (a 1)) (C := RX6) (T := TX6) (N := 14) hx hb hts in_X6 hown hK hP 0 rfl xc5 0 (by decide) (hts _ q640) (fun _ h9 => h9) rfl dX6_rule_71 ?_
              refine lv_bipush (v := (nI 11)) hx hb dX6_rule_74 (by decide) ?_
              refine rm_nld hx hb hK hP 1 rfl (by omega) (by decide) dX6_rule_76 ?_
              refine rm_imul hx hb dX6_rule_77 ?_
              refine rm_iadd hx hb dX6_rule_78 ?_
              refine lv_istore (lv' := [(6, .int (nI (12 + (6 * (st 11))))), (0, .ref (a 0)), (1, .int (nI x1)), (2, .int (nI x2)), (3, .int (nI x3)), (4, .int (nI x4)), (5, .int (nI x5))]) hx hb dX6_rule_79 hl (by decide) rfl (fun ls hl => ?_)
              have hne : st 11 < 10 := by omega
              generalize hmm : st 11 = mm at *
              refine lv_aload_n hx hb dX6_rule_81 rfl (lv_at hl 1 rfl) ?_
              refine va_get (D := D) (ci := 5) (v := .ref (a 1)) (C := RX6) (T := TX6) (N := 14) hx hb hts in_X6 hown hK hP 0 rfl xc5 0 (by decide) (hts _ q640) (fun _ h9 => h9) rfl dX6_rule_82 ?_
              refine lv_iload hx hb dX6_rule_85 (lv_at hl 0 rfl) ?_
              refine lv_iload_n hx hb dX6_rule_87 rfl (lv_at hl 2 rfl) ?_
              refine rm_nst hx hb hK hP hD hS 1 rfl (by omega) (by decide) (ws' := mW a cA (va_up st (12 + (6 * mm)) x1) im kp nx li isl mv so la cm ld us bl) rfl dX6_rule_88 (fun H locs hP hD hS => ?_)
              refine lv_aload_n hx hb dX6_rule_89 rfl (lv_at hl 1 rfl) ?_
              refine va_get (D := D) (ci := 5) (v := .ref (a 1)) (C := RX6) (T := TX6) (N := 14) hx hb hts in_X6 hown hK hP 0 rfl xc5 0 (by decide) (hts _ q640) (fun _ h9 => h9) rfl dX6_rule_90 ?_
              refine lv_iload hx hb dX6_rule_93 (lv_at hl 0 rfl) ?_
              refine lv_iconst (v := (nI 1)) hx hb dX6_rule_95 (by decide) ?_
              refine rm_iadd hx hb dX6_rule_96 ?_
              refine lv_iload_n hx hb dX6_rule_97 rfl (lv_at hl 3 rfl) ?_
              refine rm_nst hx hb hK hP hD hS 1 rfl (by omega) (by decide) (ws' := mW a cA (va_up (va_up st (12 + (6 * mm)) x1) ((12 + (6 * mm)) + 1) x2) im kp nx li isl mv so la cm ld us bl) rfl dX6_rule_98 (fun H locs hP hD hS => ?_)
              refine lv_aload_n hx hb dX6_rule_99 rfl (lv_at hl 1 rfl) ?_
              refine va_get (D := D) (ci := 5) (v := .ref (a 1)) (C := RX6) (T := TX6) (N := 14) hx hb hts in_X6 hown hK hP 0 rfl xc5 0 (by decide) (hts _ q640) (fun _ h9 => h9) rfl dX6_rule_100 ?_
              refine lv_iload hx hb dX6_rule_103 (lv_at hl 0 rfl) ?_
              refine lv_iconst (v := (nI 2)) hx hb dX6_rule_105 (by decide) ?_
              refine rm_iadd hx hb dX6_rule_106 ?_
              refine lv_iload_n hx hb dX6_rule_107 rfl (lv_at hl 4 rfl) ?_
              refine rm_nst hx hb hK hP hD hS 1 rfl (by omega) (by decide) (ws' := mW a cA (va_up (va_up (va_up st (12 + (6 * mm)) x1) ((12 + (6 * mm)) + 1) x2) ((12 + (6 * mm)) + 2) x3) im kp nx li isl mv so la cm ld us bl) rfl dX6_rule_108 (fun H locs hP hD hS => ?_)
              refine lv_aload_n hx hb dX6_rule_109 rfl (lv_at hl 1 rfl) ?_
              refine va_get (D := D) (ci := 5) (v := .ref (a 1)) (C := RX6) (T := TX6) (N := 14) hx hb hts in_X6 hown hK hP 0 rfl xc5 0 (by decide) (hts _ q640) (fun _ h9 => h9) rfl dX6_rule_110 ?_
              refine lv_iload hx hb dX6_rule_113 (lv_at hl 0 rfl) ?_
              refine lv_iconst (v := (nI 3)) hx hb dX6_rule_115 (by decide) ?_
              refine rm_iadd hx hb dX6_rule_116 ?_
              refine lv_iload hx hb dX6_rule_117 (lv_at hl 5 rfl) ?_
              refine rm_nst hx hb hK hP hD hS 1 rfl (by omega) (by decide) (ws' := mW a cA (va_up (va_up (va_up (va_up st (12 + (6 * mm)) x1) ((12 + (6 * mm)) + 1) x2) ((12 + (6 * mm)) + 2) x3) ((12 + (6 * mm)) + 3) x4) im kp nx li isl mv so la cm ld us bl) rfl dX6_rule_119 (fun H locs hP hD hS => ?_)
              refine lv_aload_n hx hb dX6_rule_120 rfl (lv_at hl 1 rfl) ?_
              refine va_get (D := D) (ci := 5) (v := .ref (a 1)) (C := RX6) (T := TX6) (N := 14) hx hb hts in_X6 hown hK hP 0 rfl xc5 0 (by decide) (hts _ q640) (fun _ h9 => h9) rfl dX6_rule_121 ?_
              refine lv_iload hx hb dX6_rule_124 (lv_at hl 0 rfl) ?_
              refine lv_iconst (v := (nI 4)) hx hb dX6_rule_126 (by decide) ?_
              refine rm_iadd hx hb dX6_rule_127 ?_
              refine lv_iload hx hb dX6_rule_128 (lv_at hl 6 rfl) ?_
              refine rm_nst hx hb hK hP hD hS 1 rfl (by omega) (by decide) (ws' := mW a cA (va_up (va_up (va_up (va_up (va_up st (12 + (6 * mm)) x1) ((12 + (6 * mm)) + 1) x2) ((12 + (6 * mm)) + 2) x3) ((12 + (6 * mm)) + 3) x4) ((12 + (6 * mm)) + 4) x5) im kp nx li isl mv so la cm ld us bl) rfl dX6_rule_130 (fun H locs hP hD hS => ?_)
              refine lv_aload_n hx hb dX6_rule_131 rfl (lv_at hl 1 rfl) ?_
              refine va_get (D := D) (ci := 5) (v := .ref (a 1)) (C := RX6) (T := TX6) (N := 14) hx hb hts in_X6 hown hK hP 0 rfl xc5 0 (by decide) (hts _ q640) (fun _ h9 => h9) rfl dX6_rule_132 ?_
              refine lv_iload hx hb dX6_rule_135 (lv_at hl 0 rfl) ?_
              refine lv_iconst (v := (nI 5)) hx hb dX6_rule_137 (by decide) ?_
              refine rm_iadd hx hb dX6_rule_138 ?_
              refine lv_iconst (v := (nI 2)) hx hb dX6_rule_139 (by decide) ?_
              refine rm_nst hx hb hK hP hD hS 1 rfl (by omega) (by decide) (ws' := mW a cA (va_up (va_up (va_up (va_up (va_up (va_up st (12 + (6 * mm)) x1) ((12 + (6 * mm)) + 1) x2) ((12 + (6 * mm)) + 2) x3) ((12 + (6 * mm)) + 3) x4) ((12 + (6 * mm)) + 4) x5) ((12 + (6 * mm)) + 5) 2) im kp nx li isl mv so la cm ld us bl) rfl dX6_rule_140 (fun H locs hP hD hS => ?_)
              obtain ⟨s6, hs6⟩ : ∃ z, z = va_up (va_up (va_up (va_up (va_up (va_up st (12 + (6 * mm)) x1) ((12 + (6 * mm)) + 1) x2) ((12 + (6 * mm)) + 2) x3) ((12 + (6 * mm)) + 3) x4) ((12 + (6 * mm)) + 4) x5) ((12 + (6 * mm)) + 5) 2 := ⟨_, rfl⟩
              rw [← hs6] at hP hD
              have h6 : ∀ j, s6 j = if 12 + 6 * mm ≤ j ∧ j < 12 + 6 * mm + 6 then rv (nI x1) (nI x2) (nI x3) (nI x4) (nI x5) (j - (12 + 6 * mm)) else st j := fun j => by rw [hs6, hrv]; unfold va_up; grind
              have h11 : s6 11 = mm := by rw [h6, if_neg (by omega), hmm]
              refine lv_aload_n hx hb dX6_rule_141 rfl (lv_at hl 1 rfl) ?_
              refine va_get (D := D) (ci := 5) (v := .ref (a 1)) (C := RX6) (T := TX6) (N := 14) hx hb hts in_X6 hown hK hP 0 rfl xc5 0 (by decide) (hts _ q640) (fun _ h9 => h9) rfl dX6_rule_142 ?_
              refine lv_bipush (v := (nI 11)) hx hb dX6_rule_145 (by decide) ?_
              refine lv_dup2_11 hx hb dX6_rule_147 rfl rfl ?_
              refine rm_nld hx hb hK hP 1 rfl (by omega) (by decide) dX6_rule_148 ?_
              refine rm_top (y := (nI mm)) (by rw [h11]) ?_
              refine lv_iconst (v := (nI 1)) hx hb dX6_rule_149 (by decide) ?_
              refine rm_iadd hx hb dX6_rule_150 ?_
              refine rm_nst hx hb hK hP hD hS 1 rfl (by omega) (by decide) (ws' := mW a cA (va_up s6 11 (mm + 1)) im kp nx li isl mv so la cm ld us bl) rfl dX6_rule_151 (fun H locs hP hD hS => ?_)
              refine lv_aload_n hx hb dX6_rule_152 rfl (lv_at hl 1 rfl) ?_
              refine va_get (D := D) (ci := 5) (v := .ref (a 1)) (C := RX6) (T := TX6) (N := 14) hx hb hts in_X6 hown hK hP 0 rfl xc5 0 (by decide) (hts _ q640) (fun _ h9 => h9) rfl dX6_rule_153 ?_
              refine lv_bipush (v := (nI 11)) hx hb dX6_rule_156 (by decide) ?_
              refine rm_nld hx hb hK hP 1 rfl (by omega) (by decide) dX6_rule_158 ?_
              refine rm_top (y := (nI (mm + 1))) (by rw [va_up_self]) ?_
              refine lv_iconst (v := (nI 1)) hx hb dX6_rule_159 (by decide) ?_
              refine rm_isub hx hb dX6_rule_160 (by omega) ?_
              exact hret _ (va_up s6 11 (mm + 1)) _ _ 161 ls ⟨by unfold ruleR; rw [if_pos hB, if_neg (by omega)]; rfl, fun j _ => by have q := h6 j; unfold ruleS; rw [if_pos ⟨hB, by omega⟩, hmm]; unfold va_up; grind⟩ hP hD hS dX6_rule_161
            · skip
              refine lv_bipush (v := (-4)) hx hb dX6_rule_63 (by decide) ?_
              exact hret _ (st) _ _ 65 ls ⟨by unfold ruleR; rw [if_pos hB, if_pos q60], fun j _ => by unfold ruleS; rw [if_neg (fun h => h.2 q60)]⟩ hP hD hS dX6_rule_65
          · skip
            refine lv_bipush (v := (-2)) hx hb dX6_rule_48 (by decide) ?_
            exact hret _ (st) _ _ 50 ls ⟨by unfold ruleR; rw [if_neg (by unfold ruleB; rw [show inI 0 2 re = false from q45]; simp)], fun j _ => by unfold ruleS; rw [if_neg (by unfold ruleB; rw [show inI 0 2 re = false from q45]; simp)]⟩ hP hD hS dX6_rule_50
theorem cwX6_rule_L {R : Room} {s : State} {args : Array Value} (hts : ∀ w ∈ lw_all, w.before args s = true) (hR : (rmX6_rule).frames + 1 ≤ R.frames ∧ 8 + (7 + 11) + (rmX6_rule).locals ≤ R.locals) : CallW R s args "RingMeetsLaw" RX6 36 yX6_rule cX6_rule 7 (some .int) (ws_ yX6_rule cX6_rule 7 (some .int)) rmX6_rule 0 0 5 := cwV 5 hts (lw_V q772 q773 q774 q63 q775) rfl rfl rfl (by decide +kernel) hR
abbrev rmX6_whom : Room := { frames := 2, cells := 0, slots := 0, locals := 43 }
set_option maxHeartbeats 4000000 in
theorem metX6_whom (l : Launch) (D : va_G) (cA : Nat → ClassId) (a : Nat → Nat) (st im : Nat → Nat) (kp : Nat → Bool) (nx li : Nat → Nat) (isl : Nat → Bool) (mv : Nat → Nat) (so la : Nat → Option Nat) (cm : Nat → Nat) (ld us : Nat) (bl : Bool) (v k : Int32) (hst : ∀ j, st j < 2 ^ 31) (hm : st 11 ≤ 10) : MUi l yX6_whom cX6_whom 4 (some .int) rmX6_whom [.ref (a 0), .int v, .int k] D cA (mW a cA st im kp nx li isl mv so la cm ld us bl) (fun (res_ : Int32) (uu_ : (Nat → Nat)) => res_ = (whomR (st 11) (rS st) v k) ∧ (∀ j, uu_ j = whomS st v k j)) (fun (uu_ : (Nat → Nat)) => mW a cA uu_ im kp nx li isl mv so la cm ld us bl) 0 0 := by
  refine mu_int rfl (Nat.le_of_ble_eq_true rfl) ?_
  intro p e s m below meth cd Q ls A hx hb hml hown hts hP hK hN hD hA hl hret
  have hown : s.vm.findClass RX6 = some m.cls := hown
  have hS : va_S A s.heap s.heap [] := va_S.rf
  have hl : lv_has ls 4 [(0, .ref (a 0)), (1, .int v), (2, .int k)] := hl
  refine lv_aload_n hx hb dX6_whom_0 rfl (lv_at hl 0 rfl) ?_
  refine lv_iload_n hx hb dX6_whom_1 rfl (lv_at hl 1 rfl) ?_
  refine rm_cV (ls := ls) (As := [.int v]) (rest := []) ⟨hx, hb, hml, hown, hts⟩ (metX6_isRule l D cA a st im kp nx li isl mv so la cm ld us bl v (by first | assumption | omega)) (cwX6_isRule_X6 hts ⟨Nat.le_of_ble_eq_true rfl, Nat.le_of_ble_eq_true rfl⟩) hP hK hN (va_recv hK hP xc5 (q0 := 0) rfl) rfl hl.1 rfl (Nat.le_of_ble_eq_true rfl) dX6_whom_2 ⟨Nat.zero_le _, Nat.zero_le _⟩ ?_
  refine rm_bne (tgt := 10) hx hb dX6_whom_5 (by decide) (fun q5 => ?_) (fun q5 => ?_)
  · skip
    have hV : inL (st 11) v = true := q5
    refine lv_iload_n hx hb dX6_whom_10 rfl (lv_at hl 2 rfl) ?_
    refine lv_iconst (v := (nI 0)) hx hb dX6_whom_11 (by decide) ?_
    refine lv_iconst (v := (nI 2)) hx hb dX6_whom_12 (by decide) ?_
    refine rm_cS (ls := ls) (As := [.int k, .int (nI 0), .int (nI 2)]) (rest := []) ⟨hx, hb, hml, hown, hts⟩ (metX6_in l k (nI 0) (nI 2) ) (cwX6_in_X6 hts ⟨Nat.le_of_ble_eq_true rfl, Nat.le_of_ble_eq_true rfl⟩) noB rfl hl.1 rfl (Nat.le_of_ble_eq_true rfl) dX6_whom_13 ⟨Nat.zero_le _, Nat.zero_le _⟩ ?_
    refine rm_bne (tgt := 22) hx hb dX6_whom_16 (by decide) (fun q16 => ?_) (fun q16 => ?_)
    · skip
      have hK1 : inI 0 2 k = true := q16
      obtain ⟨x, hx1, rfl⟩ := (inL_iff (by omega)).mp q5
      obtain ⟨t, ht0, ht2, rfl⟩ := (inI_iff (lo := 0) (hi := 2) (by decide) (by decide)).mp q16
      refine lv_aload_n hx hb dX6_whom_22 rfl (lv_at hl 0 rfl) ?_
      refine va_get (D := D) (ci := 5) (v := .ref (a 1)) (C := RX6) (T := TX6) (N := 14) hx hb hts in_X6 hown hK hP 0 rfl xc5 0 (by decide) (hts _ q640) (fun _ h9 => h9) rfl dX6_whom_23 ?_
      refine lv_bipush (v := (nI 12)) hx hb dX6_whom_26 (by decide) ?_
      refine lv_bipush (v := (nI 6)) hx hb dX6_whom_28 (by decide) ?_
      refine lv_iload_n hx hb dX6_whom_30 rfl (lv_at hl 1 rfl) ?_
      refine rm_imul hx hb dX6_whom_31 ?_
      refine rm_iadd hx hb dX6_whom_32 ?_
      refine lv_iconst (v := (nI 5)) hx hb dX6_whom_33 (by decide) ?_
      refine rm_iadd hx hb dX6_whom_34 ?_
      refine rm_nld hx hb hK hP 1 rfl (by omega) (by decide) dX6_whom_35 ?_
      refine lv_istore_n (lv' := [(3, .int (nI (st ((12 + (6 * x)) + 5)))), (0, .ref (a 0)), (1, .int (nI x)), (2, .int (nI t))]) hx hb dX6_whom_36 rfl hl (by decide) rfl (fun ls hl => ?_)
      refine lv_aload_n hx hb dX6_whom_37 rfl (lv_at hl 1 rfl) ?_
      refine va_get (D := D) (ci := 5) (v := .ref (a 1)) (C := RX6) (T := TX6) (N := 14) hx hb hts in_X6 hown hK hP 0 rfl xc5 0 (by decide) (hts _ q640) (fun _ h9 => h9) rfl dX6_whom_38 ?_
      refine lv_bipush (v := (nI 12)) hx hb dX6_whom_41 (by decide) ?_
      refine lv_bipush (v := (nI 6)) hx hb dX6_whom_43 (by decide) ?_
      refine lv_iload_n hx hb dX6_whom_45 rfl (lv_at hl 2 rfl) ?_
      refine rm_imul hx hb dX6_whom_46 ?_
      refine rm_iadd hx hb dX6_whom_47 ?_
      refine lv_iconst (v := (nI 5)) hx hb dX6_whom_48 (by decide) ?_
      refine rm_iadd hx hb dX6_whom_49 ?_
      refine lv_iload_n hx hb dX6_whom_50 rfl (lv_at hl 3 rfl) ?_
      refine rm_nst hx hb hK hP hD hS 1 rfl (by omega) (by decide) (ws' := mW a cA (va_up st ((12 + (6 * x)) + 5) t) im kp nx li isl mv so la cm ld us bl) rfl dX6_whom_51 (fun H locs hP hD hS => ?_)
      refine lv_iload_n hx hb dX6_whom_52 rfl (lv_at hl 0 rfl) ?_
      exact hret _ (va_up st ((12 + (6 * x)) + 5) t) _ _ 53 ls ⟨by unfold whomR; rw [if_pos hV, if_pos hK1, nI_clamp (by omega)]; rfl, fun j => by unfold whomS; rw [hV, hK1, nI_clamp (show x < 2 ^ 31 by omega), nI_clamp (show t < 2 ^ 31 by omega)]; unfold va_up; simp⟩ hP hD hS dX6_whom_53
    · skip
      refine lv_bipush (v := (-2)) hx hb dX6_whom_19 (by decide) ?_
      exact hret _ (st) _ _ 21 ls ⟨by unfold whomR; rw [if_pos hV, if_neg (by rw [show inI 0 2 k = false from q16]; decide)], fun j => by unfold whomS; rw [show inI 0 2 k = false from q16]; simp⟩ hP hD hS dX6_whom_21
  · skip
    refine lv_iconst (v := (-1)) hx hb dX6_whom_8 (by decide) ?_
    exact hret _ (st) _ _ 9 ls ⟨by unfold whomR; rw [if_neg (by rw [q5]; decide)], fun j => by unfold whomS; rw [q5]; simp⟩ hP hD hS dX6_whom_9
theorem cwX6_whom_L {R : Room} {s : State} {args : Array Value} (hts : ∀ w ∈ lw_all, w.before args s = true) (hR : (rmX6_whom).frames + 1 ≤ R.frames ∧ 8 + (4 + 11) + (rmX6_whom).locals ≤ R.locals) : CallW R s args "RingMeetsLaw" RX6 40 yX6_whom cX6_whom 4 (some .int) (ws_ yX6_whom cX6_whom 4 (some .int)) rmX6_whom 0 0 2 := cwV 2 hts (lw_V q776 q777 q778 q63 q779) rfl rfl rfl (by decide +kernel) hR
abbrev rmX6_drop : Room := { frames := 2, cells := 0, slots := 0, locals := 43 }
set_option maxHeartbeats 4000000 in
theorem metX6_drop (l : Launch) (D : va_G) (cA : Nat → ClassId) (a : Nat → Nat) (st im : Nat → Nat) (kp : Nat → Bool) (nx li : Nat → Nat) (isl : Nat → Bool) (mv : Nat → Nat) (so la : Nat → Option Nat) (cm : Nat → Nat) (ld us : Nat) (bl : Bool) (v : Int32) (hst : ∀ j, st j < 2 ^ 31) (hm : st 11 ≤ 10) : MUi l yX6_drop cX6_drop 3 (some .int) rmX6_drop [.ref (a 0), .int v] D cA (mW a cA st im kp nx li isl mv so la cm ld us bl) (fun (res_ : Int32) (uu_ : (Nat → Nat)) => res_ = (dropR (st 11) v) ∧ (∀ j, uu_ j = dropS st v j)) (fun (uu_ : (Nat → Nat)) => mW a cA uu_ im kp nx li isl mv so la cm ld us bl) 0 0 := by
  refine mu_int rfl (Nat.le_of_ble_eq_true rfl) ?_
  intro p e s m below meth cd Q ls A hx hb hml hown hts hP hK hN hD hA hl hret
  have hown : s.vm.findClass RX6 = some m.cls := hown
  have hS : va_S A s.heap s.heap [] := va_S.rf
  have hl : lv_has ls 3 [(0, .ref (a 0)), (1, .int v)] := hl
  refine lv_aload_n hx hb dX6_drop_0 rfl (lv_at hl 0 rfl) ?_
  refine lv_iload_n hx hb dX6_drop_1 rfl (lv_at hl 1 rfl) ?_
  refine rm_cV (ls := ls) (As := [.int v]) (rest := []) ⟨hx, hb, hml, hown, hts⟩ (metX6_isRule l D cA a st im kp nx li isl mv so la cm ld us bl v (by first | assumption | omega)) (cwX6_isRule_X6 hts ⟨Nat.le_of_ble_eq_true rfl, Nat.le_of_ble_eq_true rfl⟩) hP hK hN (va_recv hK hP xc5 (q0 := 0) rfl) rfl hl.1 rfl (Nat.le_of_ble_eq_true rfl) dX6_drop_2 ⟨Nat.zero_le _, Nat.zero_le _⟩ ?_
  refine rm_bne (tgt := 10) hx hb dX6_drop_5 (by decide) (fun q5 => ?_) (fun q5 => ?_)
  · skip
    have hV : inL (st 11) v = true := q5
    obtain ⟨x, hx1, rfl⟩ := (inL_iff (by omega)).mp q5
    refine lv_bipush (v := (nI 12)) hx hb dX6_drop_10 (by decide) ?_
    refine lv_bipush (v := (nI 6)) hx hb dX6_drop_12 (by decide) ?_
    refine lv_iload_n hx hb dX6_drop_14 rfl (lv_at hl 1 rfl) ?_
    refine rm_imul hx hb dX6_drop_15 ?_
    refine rm_iadd hx hb dX6_drop_16 ?_
    refine lv_istore_n (lv' := [(2, .int (nI (12 + (6 * x)))), (0, .ref (a 0)), (1, .int (nI x))]) hx hb dX6_drop_17 rfl hl (by decide) rfl (fun ls hl => ?_)
    have loop18 : ∀ (N : Nat) (k : Nat) (s1 : Nat → Nat), 66 - k < N → (12 + 6 * x ≤ k) → (k ≤ 66) → (∀ j, s1 j = if 12 + 6 * x ≤ j ∧ j < k then st (j + 6) else st j) → ∀ (H : Heap) (locs : List Loc), va_P D xCl (mW a cA s1 im kp nx li isl mv so la cm ld us bl) H → va_D A (mW a cA s1 im kp nx li isl mv so la cm ld us bl) → va_S A s.heap H locs → ∀ (ls : Array Slot), lv_has ls 3 [(2, .int (nI k)), (0, .ref (a 0)), (1, .int (nI x))] → W p l e rmX6_drop s m ([.ref (a 0), .int (nI x)] : List Value).toArray below meth cd H locs 0 0 Q (F0 m 18 ls []) := by
      intro N
      induction N with
      | zero => intro k s1 hm; exact absurd hm (Nat.not_lt_zero _)
      | succ N ih18 =>
        intro k s1 hm18 i18_0 i18_1 i18_2 H locs hP hD hS ls hl
        refine lv_iload_n hx hb dX6_drop_18 rfl (lv_at hl 0 rfl) ?_
        refine lv_bipush (v := (nI 6)) hx hb dX6_drop_19 (by decide) ?_
        refine rm_iadd hx hb dX6_drop_21 ?_
        refine lv_bipush (v := (nI 72)) hx hb dX6_drop_22 (by decide) ?_
        refine rm_cge (tgt := 48) hx hb dX6_drop_24 (by decide) (by first | omega | exact hst _ | (rw [i18_2 11]; first | omega | exact hst _)) (by decide) (fun q24 => ?_) (fun q24 => ?_)
        · skip
          have h11 : s1 11 = st 11 := by rw [i18_2 11, if_neg (by omega)]
          refine lv_aload_n hx hb dX6_drop_48 rfl (lv_at hl 1 rfl) ?_
          refine va_get (D := D) (ci := 5) (v := .ref (a 1)) (C := RX6) (T := TX6) (N := 14) hx hb hts in_X6 hown hK hP 0 rfl xc5 0 (by decide) (hts _ q640) (fun _ h9 => h9) rfl dX6_drop_49 ?_
          refine lv_bipush (v := (nI 11)) hx hb dX6_drop_52 (by decide) ?_
          refine lv_dup2_11 hx hb dX6_drop_54 rfl rfl ?_
          refine rm_nld hx hb hK hP 1 rfl (by omega) (by decide) dX6_drop_55 ?_
          refine lv_iconst (v := (nI 1)) hx hb dX6_drop_56 (by decide) ?_
          refine rm_isub hx hb dX6_drop_57 (by omega) ?_
          refine rm_nst hx hb hK hP hD hS 1 rfl (by omega) (by decide) (ws' := mW a cA (va_up s1 11 ((s1 11) - 1)) im kp nx li isl mv so la cm ld us bl) rfl dX6_drop_58 (fun H locs hP hD hS => ?_)
          refine lv_aload_n hx hb dX6_drop_59 rfl (lv_at hl 1 rfl) ?_
          refine va_get (D := D) (ci := 5) (v := .ref (a 1)) (C := RX6) (T := TX6) (N := 14) hx hb hts in_X6 hown hK hP 0 rfl xc5 0 (by decide) (hts _ q640) (fun _ h9 => h9) rfl dX6_drop_60 ?_
          refine lv_bipush (v := (nI 11)) hx hb dX6_drop_63 (by decide) ?_
          refine rm_nld hx hb hK hP 1 rfl (by omega) (by decide) dX6_drop_65 ?_
          exact hret _ (va_up s1 11 ((s1 11) - 1)) _ _ 66 ls ⟨by unfold dropR va_up; rw [if_pos hV, if_pos rfl, h11], fun j => by have q := i18_2 j; unfold dropS; rw [if_pos hV, nI_clamp (by omega)]; unfold va_up; grind⟩ hP hD hS dX6_drop_66
        · skip
          refine lv_aload_n hx hb dX6_drop_27 rfl (lv_at hl 1 rfl) ?_
          refine va_get (D := D) (ci := 5) (v := .ref (a 1)) (C := RX6) (T := TX6) (N := 14) hx hb hts in_X6 hown hK hP 0 rfl xc5 0 (by decide) (hts _ q640) (fun _ h9 => h9) rfl dX6_drop_28 ?_
          refine lv_iload_n hx hb dX6_drop_31 rfl (lv_at hl 0 rfl) ?_
          refine lv_aload_n hx hb dX6_drop_32 rfl (lv_at hl 1 rfl) ?_
          refine va_get (D := D) (ci := 5) (v := .ref (a 1)) (C := RX6) (T := TX6) (N := 14) hx hb hts in_X6 hown hK hP 0 rfl xc5 0 (by decide) (hts _ q640) (fun _ h9 => h9) rfl dX6_drop_33 ?_
          refine lv_iload_n hx hb dX6_drop_36 rfl (lv_at hl 0 rfl) ?_
          refine lv_bipush (v := (nI 6)) hx hb dX6_drop_37 (by decide) ?_
          refine rm_iadd hx hb dX6_drop_39 ?_
          refine rm_nld hx hb hK hP 1 rfl (by omega) (by decide) dX6_drop_40 ?_
          refine rm_nst hx hb hK hP hD hS 1 rfl (by omega) (by decide) (ws' := mW a cA (va_up s1 k (s1 (k + 6))) im kp nx li isl mv so la cm ld us bl) rfl dX6_drop_41 (fun H locs hP hD hS => ?_)
          refine lv_iinc (v := (nI (k + 1))) (lv' := [(2, .int (nI (k + 1))), (0, .ref (a 0)), (1, .int (nI x))]) hx hb dX6_drop_42 hl (k := 0) rfl (rm_inc k 1) (by decide) rfl (fun ls hl => ?_)
          refine lv_goto (tgt := 18) hx hb dX6_drop_45 (by decide) ?_
          exact ih18 (k + 1) _ (by omega) (by omega) (by omega) (fun j => by have q := i18_2 j; have q2 := i18_2 (k + 6); unfold va_up; grind) _ _ hP hD hS ls hl
    exact loop18 _ (12 + 6 * x) _ (Nat.lt_succ_self _) (Nat.le_refl _) (by omega) (fun j => by rw [if_neg (by omega)]) _ _ hP hD hS ls hl
  · skip
    refine lv_iconst (v := (-1)) hx hb dX6_drop_8 (by decide) ?_
    exact hret _ (st) _ _ 9 ls ⟨by unfold dropR; rw [if_neg (by rw [q5]; decide)], fun j => by unfold dropS; rw [if_neg (by rw [q5]; decide)]⟩ hP hD hS dX6_drop_9
theorem cwX6_drop_L {R : Room} {s : State} {args : Array Value} (hts : ∀ w ∈ lw_all, w.before args s = true) (hR : (rmX6_drop).frames + 1 ≤ R.frames ∧ 8 + (3 + 11) + (rmX6_drop).locals ≤ R.locals) : CallW R s args "RingMeetsLaw" RX6 44 yX6_drop cX6_drop 3 (some .int) (ws_ yX6_drop cX6_drop 3 (some .int)) rmX6_drop 0 0 1 := cwV 1 hts (lw_V q784 q785 q786 q63 q787) rfl rfl rfl (by decide +kernel) hR
abbrev rmX6_image : Room := { frames := 1, cells := 0, slots := 0, locals := 22 }
set_option maxHeartbeats 4000000 in
theorem metX6_image (l : Launch) (D : va_G) (cA : Nat → ClassId) (a : Nat → Nat) (st im : Nat → Nat) (kp : Nat → Bool) (nx li : Nat → Nat) (isl : Nat → Bool) (mv : Nat → Nat) (so la : Nat → Option Nat) (cm : Nat → Nat) (ld us : Nat) (bl : Bool) (v : Int32) (hst : ∀ j, st j < 2 ^ 31) : MUi l yX6_image cX6_image 3 (some .int) rmX6_image [.ref (a 0), .int v] D cA (mW a cA st im kp nx li isl mv so la cm ld us bl) (fun (res_ : Int32) (uu_ : (Nat → Nat) × (Nat → Bool)) => res_ = (imgR v) ∧ (∀ i j, i < 2 → j < 72 → uu_.1 (72 * i + j) = if inI 0 1 v = true ∧ i = v.toNatClampNeg then st j else im (72 * i + j)) ∧ (∀ i, uu_.2 i = if inI 0 1 v = true ∧ i = v.toNatClampNeg then true else kp i)) (fun (uu_ : (Nat → Nat) × (Nat → Bool)) => mW a cA st uu_.1 uu_.2 nx li isl mv so la cm ld us bl) 0 0 := by
  refine mu_int rfl (Nat.le_of_ble_eq_true rfl) ?_
  intro p e s m below meth cd Q ls A hx hb hml hown hts hP hK hN hD hA hl hret
  have hown : s.vm.findClass RX6 = some m.cls := hown
  have hS : va_S A s.heap s.heap [] := va_S.rf
  have hl : lv_has ls 3 [(0, .ref (a 0)), (1, .int v)] := hl
  refine lv_iload_n hx hb dX6_image_0 rfl (lv_at hl 1 rfl) ?_
  refine lv_iconst (v := (nI 0)) hx hb dX6_image_1 (by decide) ?_
  refine lv_iconst (v := (nI 1)) hx hb dX6_image_2 (by decide) ?_
  refine rm_cS (ls := ls) (As := [.int v, .int (nI 0), .int (nI 1)]) (rest := []) ⟨hx, hb, hml, hown, hts⟩ (metX6_in l v (nI 0) (nI 1) ) (cwX6_in_X6 hts ⟨Nat.le_of_ble_eq_true rfl, Nat.le_of_ble_eq_true rfl⟩) noB rfl hl.1 rfl (Nat.le_of_ble_eq_true rfl) dX6_image_3 ⟨Nat.zero_le _, Nat.zero_le _⟩ ?_
  refine rm_bne (tgt := 12) hx hb dX6_image_6 (by decide) (fun q6 => ?_) (fun q6 => ?_)
  · skip
    have hV : inI 0 1 v = true := q6
    obtain ⟨t, ht0, ht2, rfl⟩ := (inI_iff (lo := 0) (hi := 1) (by decide) (by decide)).mp q6
    refine lv_iconst (v := (nI 0)) hx hb dX6_image_12 (by decide) ?_
    refine lv_istore_n (lv' := [(2, .int (nI 0)), (0, .ref (a 0)), (1, .int (nI t))]) hx hb dX6_image_13 rfl hl (by decide) rfl (fun ls hl => ?_)
    have loop14 : ∀ (N : Nat) (k : Nat) (i1 : Nat → Nat), 72 - k < N → (k ≤ 72) → (∀ i j, i < 2 → j < 72 → i1 (72 * i + j) = if i = t ∧ j < k then st j else im (72 * i + j)) → ∀ (H : Heap) (locs : List Loc), va_P D xCl (mW a cA st i1 kp nx li isl mv so la cm ld us bl) H → va_D A (mW a cA st i1 kp nx li isl mv so la cm ld us bl) → va_S A s.heap H locs → ∀ (ls : Array Slot), lv_has ls 3 [(2, .int (nI k)), (0, .ref (a 0)), (1, .int (nI t))] → W p l e rmX6_image s m ([.ref (a 0), .int (nI t)] : List Value).toArray below meth cd H locs 0 0 Q (F0 m 14 ls []) := by
      intro N
      induction N with
      | zero => intro k i1 hm; exact absurd hm (Nat.not_lt_zero _)
      | succ N ih14 =>
        intro k i1 hm14 i14_0 i14_1 H locs hP hD hS ls hl
        refine lv_iload_n hx hb dX6_image_14 rfl (lv_at hl 0 rfl) ?_
        refine lv_bipush (v := (nI 72)) hx hb dX6_image_15 (by decide) ?_
        refine rm_cge (tgt := 43) hx hb dX6_image_17 (by decide) (by first | omega | exact hst _) (by decide) (fun q17 => ?_) (fun q17 => ?_)
        · skip
          refine lv_aload_n hx hb dX6_image_43 rfl (lv_at hl 1 rfl) ?_
          refine va_get (D := D) (ci := 5) (v := .ref (a 3)) (C := RX6) (T := TX6) (N := 14) hx hb hts in_X6 hown hK hP 0 rfl xc5 2 (by decide) (hts _ q642) (fun _ h9 => h9) rfl dX6_image_44 ?_
          refine lv_iload_n hx hb dX6_image_47 rfl (lv_at hl 2 rfl) ?_
          refine lv_iconst (v := (bI true)) hx hb dX6_image_48 (by decide) ?_
          refine rm_zst hx hb hK hP hD hS 3 rfl (by omega) (by decide) (ws' := mW a cA st i1 (va_up kp t true) nx li isl mv so la cm ld us bl) rfl dX6_image_49 (fun H locs hP hD hS => ?_)
          refine lv_iconst (v := (nI 1)) hx hb dX6_image_50 (by decide) ?_
          exact hret _ (i1, va_up kp t true) _ _ 51 ls ⟨by unfold imgR; rw [if_pos hV]; rfl, fun i j h1 h2 => by have q := i14_1 i j h1 h2; rw [nI_clamp (by omega)]; grind, fun i => by rw [nI_clamp (by omega)]; unfold va_up; grind⟩ hP hD hS dX6_image_51
        · skip
          refine lv_aload_n hx hb dX6_image_20 rfl (lv_at hl 1 rfl) ?_
          refine va_get (D := D) (ci := 5) (v := .ref (a 2)) (C := RX6) (T := TX6) (N := 14) hx hb hts in_X6 hown hK hP 0 rfl xc5 1 (by decide) (hts _ q641) (fun _ h9 => h9) rfl dX6_image_21 ?_
          refine lv_bipush (v := (nI 72)) hx hb dX6_image_24 (by decide) ?_
          refine lv_iload_n hx hb dX6_image_26 rfl (lv_at hl 2 rfl) ?_
          refine rm_imul hx hb dX6_image_27 ?_
          refine lv_iload_n hx hb dX6_image_28 rfl (lv_at hl 0 rfl) ?_
          refine rm_iadd hx hb dX6_image_29 ?_
          refine lv_aload_n hx hb dX6_image_30 rfl (lv_at hl 1 rfl) ?_
          refine va_get (D := D) (ci := 5) (v := .ref (a 1)) (C := RX6) (T := TX6) (N := 14) hx hb hts in_X6 hown hK hP 0 rfl xc5 0 (by decide) (hts _ q640) (fun _ h9 => h9) rfl dX6_image_31 ?_
          refine lv_iload_n hx hb dX6_image_34 rfl (lv_at hl 0 rfl) ?_
          refine rm_nld hx hb hK hP 1 rfl (by omega) (by decide) dX6_image_35 ?_
          refine rm_nst hx hb hK hP hD hS 2 rfl (by omega) (by decide) (ws' := mW a cA st (va_up i1 ((72 * t) + k) (st k)) kp nx li isl mv so la cm ld us bl) rfl dX6_image_36 (fun H locs hP hD hS => ?_)
          refine lv_iinc (v := (nI (k + 1))) (lv' := [(2, .int (nI (k + 1))), (0, .ref (a 0)), (1, .int (nI t))]) hx hb dX6_image_37 hl (k := 0) rfl (rm_inc k 1) (by decide) rfl (fun ls hl => ?_)
          refine lv_goto (tgt := 14) hx hb dX6_image_40 (by decide) ?_
          exact ih14 (k + 1) _ (by omega) (by omega) (fun i j h1 h2 => by have q := i14_1 i j h1 h2; unfold va_up; grind) _ _ hP hD hS ls hl
    exact loop14 _ 0 _ (Nat.lt_succ_self _) (by omega) (fun i j _ _ => by rw [if_neg (by omega)]) _ _ hP hD hS ls hl
  · skip
    refine lv_bipush (v := (-2)) hx hb dX6_image_9 (by decide) ?_
    exact hret _ (im, kp) _ _ 11 ls ⟨by unfold imgR; rw [if_neg (by rw [show inI 0 1 v = false from q6]; decide)], fun i j _ _ => by rw [if_neg (by rw [show inI 0 1 v = false from q6]; simp)], fun i => by rw [if_neg (by rw [show inI 0 1 v = false from q6]; simp)]⟩ hP hD hS dX6_image_11
theorem cwX6_image_L {R : Room} {s : State} {args : Array Value} (hts : ∀ w ∈ lw_all, w.before args s = true) (hR : (rmX6_image).frames + 1 ≤ R.frames ∧ 8 + (3 + 11) + (rmX6_image).locals ≤ R.locals) : CallW R s args "RingMeetsLaw" RX6 80 yX6_image cX6_image 3 (some .int) (ws_ yX6_image cX6_image 3 (some .int)) rmX6_image 0 0 1 := cwV 1 hts (lw_V q890 q891 q892 q63 q893) rfl rfl rfl (by decide +kernel) hR
abbrev rmX6_restore : Room := { frames := 1, cells := 0, slots := 0, locals := 22 }
set_option maxHeartbeats 4000000 in
theorem metX6_restore (l : Launch) (D : va_G) (cA : Nat → ClassId) (a : Nat → Nat) (st im : Nat → Nat) (kp : Nat → Bool) (nx li : Nat → Nat) (isl : Nat → Bool) (mv : Nat → Nat) (so la : Nat → Option Nat) (cm : Nat → Nat) (ld us : Nat) (bl : Bool) (v : Int32) (hst : ∀ j, st j < 2 ^ 31) : MUi l yX6_restore cX6_restore 3 (some .int) rmX6_restore [.ref (a 0), .int v] D cA (mW a cA st im kp nx li isl mv so la cm ld us bl) (fun (res_ : Int32) (uu_ : (Nat → Nat)) => res_ = (resR kp v) ∧ (∀ j, j < 72 → uu_ j = if inI 0 1 v = true ∧ kp v.toNatClampNeg = true then im (72 * v.toNatClampNeg + j) else st j)) (fun (uu_ : (Nat → Nat)) => mW a cA uu_ im kp nx li isl mv so la cm ld us bl) 0 0 := by
  refine mu_int rfl (Nat.le_of_ble_eq_true rfl) ?_
  intro p e s m below meth cd Q ls A hx hb hml hown hts hP hK hN hD hA hl hret
  have hown : s.vm.findClass RX6 = some m.cls := hown
  have hS : va_S A s.heap s.heap [] := va_S.rf
  have hl : lv_has ls 3 [(0, .ref (a 0)), (1, .int v)] := hl
  refine lv_iload_n hx hb dX6_restore_0 rfl (lv_at hl 1 rfl) ?_
  refine lv_iconst (v := (nI 0)) hx hb dX6_restore_1 (by decide) ?_
  refine lv_iconst (v := (nI 1)) hx hb dX6_restore_2 (by decide) ?_
  refine rm_cS (ls := ls) (As := [.int v, .int (nI 0), .int (nI 1)]) (rest := []) ⟨hx, hb, hml, hown, hts⟩ (metX6_in l v (nI 0) (nI 1) ) (cwX6_in_X6 hts ⟨Nat.le_of_ble_eq_true rfl, Nat.le_of_ble_eq_true rfl⟩) noB rfl hl.1 rfl (Nat.le_of_ble_eq_true rfl) dX6_restore_3 ⟨Nat.zero_le _, Nat.zero_le _⟩ ?_
  refine rm_bne (tgt := 12) hx hb dX6_restore_6 (by decide) (fun q6 => ?_) (fun q6 => ?_)
  · skip
    have hV : inI 0 1 v = true := q6
    obtain ⟨t, ht0, ht2, rfl⟩ := (inI_iff (lo := 0) (hi := 1) (by decide) (by decide)).mp q6
    refine lv_aload_n hx hb dX6_restore_12 rfl (lv_at hl 0 rfl) ?_
    refine va_get (D := D) (ci := 5) (v := .ref (a 3)) (C := RX6) (T := TX6) (N := 14) hx hb hts in_X6 hown hK hP 0 rfl xc5 2 (by decide) (hts _ q642) (fun _ h9 => h9) rfl dX6_restore_13 ?_
    refine lv_iload_n hx hb dX6_restore_16 rfl (lv_at hl 1 rfl) ?_
    refine rm_zld hx hb hK hP 3 rfl (by omega) (by decide) dX6_restore_17 ?_
    refine rm_bne (tgt := 24) hx hb dX6_restore_18 (by decide) (fun q18 => ?_) (fun q18 => ?_)
    · skip
      refine lv_iconst (v := (nI 0)) hx hb dX6_restore_24 (by decide) ?_
      refine lv_istore_n (lv' := [(2, .int (nI 0)), (0, .ref (a 0)), (1, .int (nI t))]) hx hb dX6_restore_25 rfl hl (by decide) rfl (fun ls hl => ?_)
      have loop26 : ∀ (N : Nat) (k : Nat) (s1 : Nat → Nat), 72 - k < N → (k ≤ 72) → (∀ j, s1 j = if j < k then im (72 * t + j) else st j) → ∀ (H : Heap) (locs : List Loc), va_P D xCl (mW a cA s1 im kp nx li isl mv so la cm ld us bl) H → va_D A (mW a cA s1 im kp nx li isl mv so la cm ld us bl) → va_S A s.heap H locs → ∀ (ls : Array Slot), lv_has ls 3 [(2, .int (nI k)), (0, .ref (a 0)), (1, .int (nI t))] → W p l e rmX6_restore s m ([.ref (a 0), .int (nI t)] : List Value).toArray below meth cd H locs 0 0 Q (F0 m 26 ls []) := by
        intro N
        induction N with
        | zero => intro k s1 hm; exact absurd hm (Nat.not_lt_zero _)
        | succ N ih26 =>
          intro k s1 hm26 i26_0 i26_1 H locs hP hD hS ls hl
          refine lv_iload_n hx hb dX6_restore_26 rfl (lv_at hl 0 rfl) ?_
          refine lv_bipush (v := (nI 72)) hx hb dX6_restore_27 (by decide) ?_
          refine rm_cge (tgt := 55) hx hb dX6_restore_29 (by decide) (by first | omega | exact hst _) (by decide) (fun q29 => ?_) (fun q29 => ?_)
          · skip
            refine lv_iconst (v := (nI 1)) hx hb dX6_restore_55 (by decide) ?_
            exact hret _ (s1) _ _ 56 ls ⟨by unfold resR; rw [if_pos hV, nI_clamp (by omega), if_pos q18]; rfl, fun j hj => by have q := i26_1 j; rw [nI_clamp (by omega), if_pos ⟨hV, q18⟩]; grind⟩ hP hD hS dX6_restore_56
          · skip
            refine lv_aload_n hx hb dX6_restore_32 rfl (lv_at hl 1 rfl) ?_
            refine va_get (D := D) (ci := 5) (v := .ref (a 1)) (C := RX6) (T := TX6) (N := 14) hx hb hts in_X6 hown hK hP 0 rfl xc5 0 (by decide) (hts _ q640) (fun _ h9 => h9) rfl dX6_restore_33 ?_
            refine lv_iload_n hx hb dX6_restore_36 rfl (lv_at hl 0 rfl) ?_
            refine lv_aload_n hx hb dX6_restore_37 rfl (lv_at hl 1 rfl) ?_
            refine va_get (D := D) (ci := 5) (v := .ref (a 2)) (C := RX6) (T := TX6) (N := 14) hx hb hts in_X6 hown hK hP 0 rfl xc5 1 (by decide) (hts _ q641) (fun _ h9 => h9) rfl dX6_restore_38 ?_
            refine lv_bipush (v := (nI 72)) hx hb dX6_restore_41 (by decide) ?_
            refine lv_iload_n hx hb dX6_restore_43 rfl (lv_at hl 2 rfl) ?_
            refine rm_imul hx hb dX6_restore_44 ?_
            refine lv_iload_n hx hb dX6_restore_45 rfl (lv_at hl 0 rfl) ?_
            refine rm_iadd hx hb dX6_restore_46 ?_
            refine rm_nld hx hb hK hP 2 rfl (by omega) (by decide) dX6_restore_47 ?_
            refine rm_nst hx hb hK hP hD hS 1 rfl (by omega) (by decide) (ws' := mW a cA (va_up s1 k (im ((72 * t) + k))) im kp nx li isl mv so la cm ld us bl) rfl dX6_restore_48 (fun H locs hP hD hS => ?_)
            refine lv_iinc (v := (nI (k + 1))) (lv' := [(2, .int (nI (k + 1))), (0, .ref (a 0)), (1, .int (nI t))]) hx hb dX6_restore_49 hl (k := 0) rfl (rm_inc k 1) (by decide) rfl (fun ls hl => ?_)
            refine lv_goto (tgt := 26) hx hb dX6_restore_52 (by decide) ?_
            exact ih26 (k + 1) _ (by omega) (by omega) (fun j => by have q := i26_1 j; unfold va_up; grind) _ _ hP hD hS ls hl
      exact loop26 _ 0 _ (Nat.lt_succ_self _) (by omega) (fun j => by rw [if_neg (by omega)]) _ _ hP hD hS ls hl
    · skip
      refine lv_bipush (v := (-3)) hx hb dX6_restore_21 (by decide) ?_
      exact hret _ (st) _ _ 23 ls ⟨by unfold resR; rw [if_pos hV, nI_clamp (by omega), if_neg (by rw [q18]; decide)], fun j _ => by rw [nI_clamp (by omega), if_neg (by rw [q18]; simp)]⟩ hP hD hS dX6_restore_23
  · skip
    refine lv_bipush (v := (-2)) hx hb dX6_restore_9 (by decide) ?_
    exact hret _ (st) _ _ 11 ls ⟨by unfold resR; rw [if_neg (by rw [show inI 0 1 v = false from q6]; decide)], fun j _ => by rw [if_neg (by rw [show inI 0 1 v = false from q6]; simp)]⟩ hP hD hS dX6_restore_11
theorem cwX6_restore_L {R : Room} {s : State} {args : Array Value} (hts : ∀ w ∈ lw_all, w.before args s = true) (hR : (rmX6_restore).frames + 1 ≤ R.frames ∧ 8 + (3 + 11) + (rmX6_restore).locals ≤ R.locals) : CallW R s args "RingMeetsLaw" RX6 84 yX6_restore cX6_restore 3 (some .int) (ws_ yX6_restore cX6_restore 3 (some .int)) rmX6_restore 0 0 1 := cwV 1 hts (lw_V q894 q895 q896 q63 q897) rfl rfl rfl (by decide +kernel) hR
