set_option maxRecDepth 100000

abbrev rmX0_ring : Room := { frames := 1, cells := 0, slots := 0, locals := 25 }
set_option maxHeartbeats 4000000 in
theorem metX0_ring (l : Launch) (D : va_G) (cA : Nat → ClassId) (b ra : Nat → Nat) (cN : Nat → Nat) (cV : Nat → Nat → Nat) (cM : Nat → Nat) (cR : Nat → Nat → Nat) (kp : Nat → Bool) (nu : Nat → Option Nat) (sO tO fS sP : Nat → Nat) (sN lA : Nat → Option Nat) (tG : Nat → Nat) (v : Int32) (hn3 : 3 ≤ cN 0) (hn10 : cN 0 ≤ 10) : MUi l yX0_ring cX0_ring 4 (some .int) rmX0_ring [.ref (b 0), .int v] D cA (cW b ra cA cN cV cM cR kp nu sO tO fS sP sN lA tG) (fun (res_ : Int32) (uu_ : (Nat → Nat) × (Nat → Nat → Nat)) => res_ = (ringR (cN 0) v) ∧ (∀ d, uu_.1 d = if inI 3 10 v = true ∧ d = 0 then v.toNatClampNeg else cN d) ∧ (∀ d c, c < 10 → uu_.2 d c = if inI 3 10 v = true ∧ d = 0 then 0 else cV d c)) (fun (uu_ : (Nat → Nat) × (Nat → Nat → Nat)) => cW b ra cA uu_.1 uu_.2 cM cR kp nu sO tO fS sP sN lA tG) 0 0 := by
  refine mu_int rfl (Nat.le_of_ble_eq_true rfl) ?_
  intro p e s m below meth cd Q ls A hx hb hml hown hts hP hK hN hD hA hl hret
  have hown : s.vm.findClass RX0 = some m.cls := hown
  have hS : va_S A s.heap s.heap [] := va_S.rf
  have hl : lv_has ls 4 [(0, .ref (b 0)), (1, .int v)] := hl
  refine lv_iload_n hx hb dX0_ring_0 rfl (lv_at hl 1 rfl) ?_
  refine lv_i2l (v := v.toInt64) hx hb dX0_ring_1 rfl ?_
  refine lv_ldc2 (v := 3) hx hb hown (hts _ q222) dX0_ring_2 ?_
  refine lv_ldc2 (v := 10) hx hb hown (hts _ q223) dX0_ring_5 ?_
  refine rm_cS (ls := ls) (As := [.long v.toInt64, .long 3, .long 10]) (rest := []) ⟨hx, hb, hml, hown, hts⟩ (metX0_isIn l v.toInt64 3 10 ) (cwX0_isIn_X0 hts ⟨Nat.le_of_ble_eq_true rfl, Nat.le_of_ble_eq_true rfl⟩) noB rfl hl.1 rfl (Nat.le_of_ble_eq_true rfl) dX0_ring_8 ⟨Nat.zero_le _, Nat.zero_le _⟩ ?_
  refine rm_bne (tgt := 17) hx hb dX0_ring_11 (by decide) (fun q11 => ?_) (fun q11 => ?_)
  · skip
    have q11 : inI 3 10 v = true := (isIn_I 3 10 3 10 (by decide) (by decide)).symm.trans q11
    have hV := q11
    obtain ⟨t, ht0, ht2, rfl⟩ := (inI_iff (lo := 3) (hi := 10) (by decide) (by decide)).mp q11
    refine lv_aload_n hx hb dX0_ring_17 rfl (lv_at hl 0 rfl) ?_
    refine va_get (D := D) (ci := 0) (v := .ref (b 1)) (C := RX0) (T := TX0) (N := 13) hx hb hts in_X0 hown hK hP 0 rfl xc0 0 (by decide) (hts _ q170) (fun _ h9 => h9) rfl dX0_ring_18 ?_
    refine va_getN (D := D) (ci := 1) (v := .int (nI (cN 0))) (C := RX1) (T := TX1) (N := 4) hx hb hts in_X1 hown hK hP 1 rfl xc1 0 (by decide) (va_Nw.use rfl (hN.1 _ q122 rfl)) (fun _ h9 => h9) rfl dX0_ring_21 ?_
    refine lv_istore_n (lv' := [(2, .int (nI (cN 0))), (0, .ref (b 0)), (1, .int (nI t))]) hx hb dX0_ring_24 rfl hl (by decide) rfl (fun ls hl => ?_)
    refine lv_aload_n hx hb dX0_ring_25 rfl (lv_at hl 1 rfl) ?_
    refine va_get (D := D) (ci := 0) (v := .ref (b 1)) (C := RX0) (T := TX0) (N := 13) hx hb hts in_X0 hown hK hP 0 rfl xc0 0 (by decide) (hts _ q170) (fun _ h9 => h9) rfl dX0_ring_26 ?_
    refine lv_iload_n hx hb dX0_ring_29 rfl (lv_at hl 2 rfl) ?_
    refine va_putN (D := D) (ci := 1) (v := .int (nI t)) (ty := .int) (C := RX1) (T := TX1) (N := 4) hx hb hts in_X1 tyX1 tyX1_ok nmX1 hown hK hP hD hS 1 rfl xc1 0 (by decide) (va_Nw.use rfl (hN.1 _ q122 rfl)) (fun _ h9 => h9) rfl (by decide +kernel) rfl rfl (Nat.le_of_ble_eq_true rfl) dX0_ring_30 (fun H locs hP hD hS => ?_)
    have hP : va_P D xCl (cW b ra cA (va_up cN 0 t) cV cM cR kp nu sO tO fS sP sN lA tG) H := hP
    have hD : va_D A (cW b ra cA (va_up cN 0 t) cV cM cR kp nu sO tO fS sP sN lA tG) := hD
    refine lv_iconst (v := (nI 0)) hx hb dX0_ring_33 (by decide) ?_
    refine lv_istore_n (lv' := [(3, .int (nI 0)), (2, .int (nI (cN 0))), (0, .ref (b 0)), (1, .int (nI t))]) hx hb dX0_ring_34 rfl hl (by decide) rfl (fun ls hl => ?_)
    have loop35 : ∀ (N : Nat) (c : Nat) (x : Nat → Nat → Nat), 10 - c < N → (c ≤ 10) → (∀ d, 0 < d → x d = cV d) → (∀ j, j < c → x 0 j = 0) → ∀ (H : Heap) (locs : List Loc), va_P D xCl (cW b ra cA (va_up cN 0 t) x cM cR kp nu sO tO fS sP sN lA tG) H → va_D A (cW b ra cA (va_up cN 0 t) x cM cR kp nu sO tO fS sP sN lA tG) → va_S A s.heap H locs → ∀ (ls : Array Slot), lv_has ls 4 [(3, .int (nI c)), (2, .int (nI (cN 0))), (0, .ref (b 0)), (1, .int (nI t))] → W p l e rmX0_ring s m ([.ref (b 0), .int (nI t)] : List Value).toArray below meth cd H locs 0 0 Q (F0 m 35 ls []) := by
      intro N
      induction N with
      | zero => intro c x hm; exact absurd hm (Nat.not_lt_zero _)
      | succ N ih35 =>
        intro c x hm35 i35_0 i35_1 i35_2 H locs hP hD hS ls hl
        refine lv_iload_n hx hb dX0_ring_35 rfl (lv_at hl 0 rfl) ?_
        refine lv_bipush (v := (nI 10)) hx hb dX0_ring_36 (by decide) ?_
        refine rm_cge (tgt := 57) hx hb dX0_ring_38 (by decide) (by omega) (by decide) (fun q38 => ?_) (fun q38 => ?_)
        · skip
          refine lv_iload_n hx hb dX0_ring_57 rfl (lv_at hl 1 rfl) ?_
          exact hret _ (va_up cN 0 t, x) _ _ 58 ls ⟨by unfold ringR; rw [if_pos hV], fun d => by rw [nI_clamp (by omega), hV]; unfold va_up; simp, fun d c hc => by show x d c = _; rw [hV]; by_cases hd : d = 0; (rw [hd, i35_2 c (by omega), if_pos ⟨rfl, rfl⟩]); (rw [i35_1 d (by omega), if_neg (fun h => hd h.2)])⟩ hP hD hS dX0_ring_58
        · skip
          refine lv_aload_n hx hb dX0_ring_41 rfl (lv_at hl 2 rfl) ?_
          refine va_get (D := D) (ci := 0) (v := .ref (b 1)) (C := RX0) (T := TX0) (N := 13) hx hb hts in_X0 hown hK hP 0 rfl xc0 0 (by decide) (hts _ q170) (fun _ h9 => h9) rfl dX0_ring_42 ?_
          refine va_getN (D := D) (ci := 1) (v := .ref (b 2)) (C := RX1) (T := TX1) (N := 4) hx hb hts in_X1 hown hK hP 1 rfl xc1 1 (by decide) (va_Nw.use rfl (hN.1 _ q124 rfl)) (fun _ h9 => h9) rfl dX0_ring_45 ?_
          refine lv_iload_n hx hb dX0_ring_48 rfl (lv_at hl 0 rfl) ?_
          refine lv_iconst (v := (nI 0)) hx hb dX0_ring_49 (by decide) ?_
          refine rm_nst hx hb hK hP hD hS 2 rfl (by omega) (by decide) (ws' := cW b ra cA (va_up cN 0 t) (va_up x 0 (va_up (x 0) c 0)) cM cR kp nu sO tO fS sP sN lA tG) rfl dX0_ring_50 (fun H locs hP hD hS => ?_)
          refine lv_iinc (v := (nI (c + 1))) (lv' := [(3, .int (nI (c + 1))), (2, .int (nI (cN 0))), (0, .ref (b 0)), (1, .int (nI t))]) hx hb dX0_ring_51 hl (k := 0) rfl (rm_inc c 1) (by decide) rfl (fun ls hl => ?_)
          refine lv_goto (tgt := 35) hx hb dX0_ring_54 (by decide) ?_
          exact ih35 (c + 1) _ (by omega) (by omega) (fun d h => by unfold va_up; rw [if_neg (by omega)]; exact i35_1 d h) (fun j h => by have q := i35_2 j; unfold va_up; rw [if_pos rfl]; grind) _ _ hP hD hS ls hl
    exact loop35 _ 0 _ (Nat.lt_succ_self _) (by omega) (fun d _ => rfl) (fun j h => absurd h (by omega)) _ _ hP hD hS ls hl
  · skip
    refine lv_bipush (v := (-2)) hx hb dX0_ring_14 (by decide) ?_
    exact hret _ (cN, cV) _ _ 16 ls ⟨by unfold ringR; rw [if_neg (by rw [(isIn_I 3 10 3 10 (by decide) (by decide)).symm.trans q11]; decide)], fun d => by rw [if_neg (by rw [(isIn_I 3 10 3 10 (by decide) (by decide)).symm.trans q11]; simp)], fun d c _ => by rw [if_neg (by rw [(isIn_I 3 10 3 10 (by decide) (by decide)).symm.trans q11]; simp)]⟩ hP hD hS dX0_ring_16
theorem cwX0_ring_L {R : Room} {s : State} {args : Array Value} (hts : ∀ w ∈ lw_all, w.before args s = true) (hR : (rmX0_ring).frames + 1 ≤ R.frames ∧ 8 + (4 + 11) + (rmX0_ring).locals ≤ R.locals) : CallW R s args "RingMeetsLaw" RX0 13 yX0_ring cX0_ring 4 (some .int) (ws_ yX0_ring cX0_ring 4 (some .int)) rmX0_ring 0 0 1 := cwV 1 hts (lw_V q218 q219 q220 q57 q221) rfl rfl rfl (by decide +kernel) hR
abbrev rmX0_stand : Room := { frames := 2, cells := 0, slots := 0, locals := 46 }
set_option maxHeartbeats 4000000 in
theorem metX0_stand (l : Launch) (D : va_G) (cA : Nat → ClassId) (b ra : Nat → Nat) (cN : Nat → Nat) (cV : Nat → Nat → Nat) (cM : Nat → Nat) (cR : Nat → Nat → Nat) (kp : Nat → Bool) (nu : Nat → Option Nat) (sO tO fS sP : Nat → Nat) (sN lA : Nat → Option Nat) (tG : Nat → Nat) (v k : Int32) (hn3 : 3 ≤ cN 0) (hn10 : cN 0 ≤ 10) (hcv : ∀ c, cV 0 c < 2 ^ 31) (hsm : sm (cV 0) 10 ≤ 5) : MUi l yX0_stand cX0_stand 4 (some .int) rmX0_stand [.ref (b 0), .int v, .int k] D cA (cW b ra cA cN cV cM cR kp nu sO tO fS sP sN lA tG) (fun (res_ : Int32) (uu_ : (Nat → Nat → Nat)) => res_ = (standR (cN 0) (cV 0) v k) ∧ (∀ d c, uu_ d c = if standB (cN 0) (cV 0) v k = true ∧ d = 0 ∧ c = v.toNatClampNeg then k.toNatClampNeg else cV d c)) (fun (uu_ : (Nat → Nat → Nat)) => cW b ra cA cN uu_ cM cR kp nu sO tO fS sP sN lA tG) 0 0 := by
  refine mu_int rfl (Nat.le_of_ble_eq_true rfl) ?_
  intro p e s m below meth cd Q ls A hx hb hml hown hts hP hK hN hD hA hl hret
  have hown : s.vm.findClass RX0 = some m.cls := hown
  have hS : va_S A s.heap s.heap [] := va_S.rf
  have hl : lv_has ls 4 [(0, .ref (b 0)), (1, .int v), (2, .int k)] := hl
  refine lv_aload_n hx hb dX0_stand_0 rfl (lv_at hl 0 rfl) ?_
  refine lv_iload_n hx hb dX0_stand_1 rfl (lv_at hl 1 rfl) ?_
  refine rm_cV (ls := ls) (As := [.int v]) (rest := []) ⟨hx, hb, hml, hown, hts⟩ (metX0_isCell l D cA b ra cN cV cM cR kp nu sO tO fS sP sN lA tG v (by first | assumption | omega) (by first | assumption | omega)) (cwX0_isCell_X0 hts ⟨Nat.le_of_ble_eq_true rfl, Nat.le_of_ble_eq_true rfl⟩) hP hK hN (va_recv hK hP xc0 (q0 := 0) rfl) rfl hl.1 rfl (Nat.le_of_ble_eq_true rfl) dX0_stand_2 ⟨Nat.zero_le _, Nat.zero_le _⟩ ?_
  refine rm_bne (tgt := 10) hx hb dX0_stand_5 (by decide) (fun q5 => ?_) (fun q5 => ?_)
  · skip
    have hV : inL (cN 0) v = true := q5
    refine lv_iload_n hx hb dX0_stand_10 rfl (lv_at hl 2 rfl) ?_
    refine lv_i2l (v := k.toInt64) hx hb dX0_stand_11 rfl ?_
    refine lv_lconst (v := 0) hx hb dX0_stand_12 (by decide) ?_
    refine lv_ldc2 (v := 5) hx hb hown (hts _ q235) dX0_stand_13 ?_
    refine rm_cS (ls := ls) (As := [.long k.toInt64, .long 0, .long 5]) (rest := []) ⟨hx, hb, hml, hown, hts⟩ (metX0_isIn l k.toInt64 0 5 ) (cwX0_isIn_X0 hts ⟨Nat.le_of_ble_eq_true rfl, Nat.le_of_ble_eq_true rfl⟩) noB rfl hl.1 rfl (Nat.le_of_ble_eq_true rfl) dX0_stand_16 ⟨Nat.zero_le _, Nat.zero_le _⟩ ?_
    refine rm_bne (tgt := 25) hx hb dX0_stand_19 (by decide) (fun q19 => ?_) (fun q19 => ?_)
    · skip
      have q19 : inI 0 5 k = true := (isIn_I 0 5 0 5 (by decide) (by decide)).symm.trans q19
      have hK1 := q19
      obtain ⟨x, hx1, rfl⟩ := (inL_iff (by omega)).mp q5
      obtain ⟨t, ht0, ht2, rfl⟩ := (inI_iff (lo := 0) (hi := 5) (by decide) (by decide)).mp q19
      have hge : cV 0 x ≤ sm (cV 0) 10 := sm_ge (cV 0) (show x < 10 by omega)
      refine lv_aload_n hx hb dX0_stand_25 rfl (lv_at hl 0 rfl) ?_
      refine va_get (D := D) (ci := 0) (v := .ref (b 1)) (C := RX0) (T := TX0) (N := 13) hx hb hts in_X0 hown hK hP 0 rfl xc0 0 (by decide) (hts _ q170) (fun _ h9 => h9) rfl dX0_stand_26 ?_
      refine va_getN (D := D) (ci := 1) (v := .ref (b 2)) (C := RX1) (T := TX1) (N := 4) hx hb hts in_X1 hown hK hP 1 rfl xc1 1 (by decide) (va_Nw.use rfl (hN.1 _ q124 rfl)) (fun _ h9 => h9) rfl dX0_stand_29 ?_
      refine lv_iload_n hx hb dX0_stand_32 rfl (lv_at hl 1 rfl) ?_
      refine rm_nld hx hb hK hP 2 rfl (by omega) (by decide) dX0_stand_33 ?_
      refine lv_istore_n (lv' := [(3, .int (nI ((cV 0) x))), (0, .ref (b 0)), (1, .int (nI x)), (2, .int (nI t))]) hx hb dX0_stand_34 rfl hl (by decide) rfl (fun ls hl => ?_)
      refine lv_aload_n hx hb dX0_stand_35 rfl (lv_at hl 1 rfl) ?_
      refine va_get (D := D) (ci := 0) (v := .ref (b 1)) (C := RX0) (T := TX0) (N := 13) hx hb hts in_X0 hown hK hP 0 rfl xc0 0 (by decide) (hts _ q170) (fun _ h9 => h9) rfl dX0_stand_36 ?_
      refine rm_cV (ls := ls) (As := []) (rest := []) ⟨hx, hb, hml, hown, hts⟩ (metX1_all l D cA (b 1) (b 2) (b 3) (cN 0) (cV 0) (cM 0)  ) (cwX1_all_X0 hts ⟨Nat.le_of_ble_eq_true rfl, Nat.le_of_ble_eq_true rfl⟩) (hP.sub (ws' := dkW (b 1) (b 2) (b 3) cA (cN 0) (cV 0) (cM 0)) [1, 2] rfl) hK hN (va_recv hK hP xc1 (q0 := 1) rfl) rfl hl.1 rfl (Nat.le_of_ble_eq_true rfl) dX0_stand_39 ⟨Nat.zero_le _, Nat.zero_le _⟩ ?_
      refine lv_iload_n hx hb dX0_stand_42 rfl (lv_at hl 0 rfl) ?_
      refine rm_isub hx hb dX0_stand_43 (by omega) ?_
      refine lv_iload_n hx hb dX0_stand_44 rfl (lv_at hl 3 rfl) ?_
      refine rm_iadd hx hb dX0_stand_45 ?_
      refine lv_iconst (v := (nI 5)) hx hb dX0_stand_46 (by decide) ?_
      refine rm_cle (tgt := 53) hx hb dX0_stand_47 (by decide) (by first | omega | exact hcv _) (by decide) (fun q47 => ?_) (fun q47 => ?_)
      · skip
        refine lv_aload_n hx hb dX0_stand_53 rfl (lv_at hl 1 rfl) ?_
        refine va_get (D := D) (ci := 0) (v := .ref (b 1)) (C := RX0) (T := TX0) (N := 13) hx hb hts in_X0 hown hK hP 0 rfl xc0 0 (by decide) (hts _ q170) (fun _ h9 => h9) rfl dX0_stand_54 ?_
        refine va_getN (D := D) (ci := 1) (v := .ref (b 2)) (C := RX1) (T := TX1) (N := 4) hx hb hts in_X1 hown hK hP 1 rfl xc1 1 (by decide) (va_Nw.use rfl (hN.1 _ q124 rfl)) (fun _ h9 => h9) rfl dX0_stand_57 ?_
        refine lv_iload_n hx hb dX0_stand_60 rfl (lv_at hl 2 rfl) ?_
        refine lv_iload_n hx hb dX0_stand_61 rfl (lv_at hl 3 rfl) ?_
        refine rm_nst hx hb hK hP hD hS 2 rfl (by omega) (by decide) (ws' := cW b ra cA cN (va_up cV 0 (va_up (cV 0) x t)) cM cR kp nu sO tO fS sP sN lA tG) rfl dX0_stand_62 (fun H locs hP hD hS => ?_)
        refine lv_iload_n hx hb dX0_stand_63 rfl (lv_at hl 0 rfl) ?_
        exact hret _ (va_up cV 0 (va_up (cV 0) x t)) _ _ 64 ls ⟨by unfold standR; rw [if_pos hV, if_pos hK1, nI_clamp (by omega), nI_clamp (by omega), if_pos (show sm (cV 0) 10 - cV 0 x + t ≤ 5 by omega)], fun d c => by unfold standB; rw [hV, hK1, nI_clamp (show x < 2 ^ 31 by omega), nI_clamp (show t < 2 ^ 31 by omega), decide_eq_true (show sm (cV 0) 10 - cV 0 x + t ≤ 5 by omega)]; unfold va_up; by_cases hd : d = 0; (subst hd; simp; try rfl); (simp [hd])⟩ hP hD hS dX0_stand_64
      · skip
        refine lv_bipush (v := (-4)) hx hb dX0_stand_50 (by decide) ?_
        exact hret _ (cV) _ _ 52 ls ⟨by unfold standR; rw [if_pos hV, if_pos hK1, nI_clamp (by omega), nI_clamp (by omega), if_neg (show ¬ sm (cV 0) 10 - cV 0 x + t ≤ 5 by omega)], fun d c => by unfold standB; rw [nI_clamp (show x < 2 ^ 31 by omega), nI_clamp (show t < 2 ^ 31 by omega), decide_eq_false (show ¬ sm (cV 0) 10 - cV 0 x + t ≤ 5 by omega)]; simp⟩ hP hD hS dX0_stand_52
    · skip
      refine lv_bipush (v := (-2)) hx hb dX0_stand_22 (by decide) ?_
      exact hret _ (cV) _ _ 24 ls ⟨by unfold standR; rw [if_pos hV, if_neg (by rw [(isIn_I 0 5 0 5 (by decide) (by decide)).symm.trans q19]; decide)], fun d c => by unfold standB; rw [(isIn_I 0 5 0 5 (by decide) (by decide)).symm.trans q19]; simp⟩ hP hD hS dX0_stand_24
  · skip
    refine lv_iconst (v := (-1)) hx hb dX0_stand_8 (by decide) ?_
    exact hret _ (cV) _ _ 9 ls ⟨by unfold standR; rw [if_neg (by rw [q5]; decide)], fun d c => by unfold standB; rw [q5]; simp⟩ hP hD hS dX0_stand_9
theorem cwX0_stand_L {R : Room} {s : State} {args : Array Value} (hts : ∀ w ∈ lw_all, w.before args s = true) (hR : (rmX0_stand).frames + 1 ≤ R.frames ∧ 8 + (4 + 11) + (rmX0_stand).locals ≤ R.locals) : CallW R s args "RingMeetsLaw" RX0 18 yX0_stand cX0_stand 4 (some .int) (ws_ yX0_stand cX0_stand 4 (some .int)) rmX0_stand 0 0 2 := cwV 2 hts (lw_V q227 q228 q229 q57 q230) rfl rfl rfl (by decide +kernel) hR
abbrev rmX0_whom : Room := { frames := 2, cells := 0, slots := 0, locals := 46 }
set_option maxHeartbeats 4000000 in
theorem metX0_whom (l : Launch) (D : va_G) (cA : Nat → ClassId) (b ra : Nat → Nat) (cN : Nat → Nat) (cV : Nat → Nat → Nat) (cM : Nat → Nat) (cR : Nat → Nat → Nat) (kp : Nat → Bool) (nu : Nat → Option Nat) (sO tO fS sP : Nat → Nat) (sN lA : Nat → Option Nat) (tG : Nat → Nat) (v k : Int32) (hm : cM 0 ≤ 10) : MUi l yX0_whom cX0_whom 4 (some .int) rmX0_whom [.ref (b 0), .int v, .int k] D cA (cW b ra cA cN cV cM cR kp nu sO tO fS sP sN lA tG) (fun (res_ : Int32) (uu_ : (Nat → Nat → Nat)) => res_ = (whomR (cM 0) cR v k) ∧ (∀ i j, uu_ i j = if (inL (cM 0) v && inI 0 2 k) = true ∧ i = v.toNatClampNeg ∧ j = 5 then k.toNatClampNeg else cR i j)) (fun (uu_ : (Nat → Nat → Nat)) => cW b ra cA cN cV cM uu_ kp nu sO tO fS sP sN lA tG) 0 0 := by
  refine mu_int rfl (Nat.le_of_ble_eq_true rfl) ?_
  intro p e s m below meth cd Q ls A hx hb hml hown hts hP hK hN hD hA hl hret
  have hown : s.vm.findClass RX0 = some m.cls := hown
  have hS : va_S A s.heap s.heap [] := va_S.rf
  have hl : lv_has ls 4 [(0, .ref (b 0)), (1, .int v), (2, .int k)] := hl
  refine lv_aload_n hx hb dX0_whom_0 rfl (lv_at hl 0 rfl) ?_
  refine lv_iload_n hx hb dX0_whom_1 rfl (lv_at hl 1 rfl) ?_
  refine rm_cV (ls := ls) (As := [.int v]) (rest := []) ⟨hx, hb, hml, hown, hts⟩ (metX0_isRule l D cA b ra cN cV cM cR kp nu sO tO fS sP sN lA tG v (by first | assumption | omega)) (cwX0_isRule_X0 hts ⟨Nat.le_of_ble_eq_true rfl, Nat.le_of_ble_eq_true rfl⟩) hP hK hN (va_recv hK hP xc0 (q0 := 0) rfl) rfl hl.1 rfl (Nat.le_of_ble_eq_true rfl) dX0_whom_2 ⟨Nat.zero_le _, Nat.zero_le _⟩ ?_
  refine rm_bne (tgt := 10) hx hb dX0_whom_5 (by decide) (fun q5 => ?_) (fun q5 => ?_)
  · skip
    have hV : inL (cM 0) v = true := q5
    refine lv_iload_n hx hb dX0_whom_10 rfl (lv_at hl 2 rfl) ?_
    refine lv_i2l (v := k.toInt64) hx hb dX0_whom_11 rfl ?_
    refine lv_lconst (v := 0) hx hb dX0_whom_12 (by decide) ?_
    refine lv_ldc2 (v := 2) hx hb hown (hts _ q248) dX0_whom_13 ?_
    refine rm_cS (ls := ls) (As := [.long k.toInt64, .long 0, .long 2]) (rest := []) ⟨hx, hb, hml, hown, hts⟩ (metX0_isIn l k.toInt64 0 2 ) (cwX0_isIn_X0 hts ⟨Nat.le_of_ble_eq_true rfl, Nat.le_of_ble_eq_true rfl⟩) noB rfl hl.1 rfl (Nat.le_of_ble_eq_true rfl) dX0_whom_16 ⟨Nat.zero_le _, Nat.zero_le _⟩ ?_
    refine rm_bne (tgt := 25) hx hb dX0_whom_19 (by decide) (fun q19 => ?_) (fun q19 => ?_)
    · skip
      have q19 : inI 0 2 k = true := (isIn_I 0 2 0 2 (by decide) (by decide)).symm.trans q19
      have hK1 := q19
      obtain ⟨x, hx1, rfl⟩ := (inL_iff (by omega)).mp q5
      obtain ⟨t, ht0, ht2, rfl⟩ := (inI_iff (lo := 0) (hi := 2) (by decide) (by decide)).mp q19
      refine lv_aload_n hx hb dX0_whom_25 rfl (lv_at hl 0 rfl) ?_
      refine va_get (D := D) (ci := 0) (v := .ref (b 1)) (C := RX0) (T := TX0) (N := 13) hx hb hts in_X0 hown hK hP 0 rfl xc0 0 (by decide) (hts _ q170) (fun _ h9 => h9) rfl dX0_whom_26 ?_
      refine va_getN (D := D) (ci := 1) (v := .ref (b 3)) (C := RX1) (T := TX1) (N := 4) hx hb hts in_X1 hown hK hP 1 rfl xc1 2 (by decide) (va_Nw.use rfl (hN.1 _ q126 rfl)) (fun _ h9 => h9) rfl dX0_whom_29 ?_
      refine lv_iload_n hx hb dX0_whom_32 rfl (lv_at hl 1 rfl) ?_
      refine rm_ald (x := ra x) hx hb hK hP 3 2 rfl (xt2 cA) (by omega) (by decide) rfl dX0_whom_33 ?_
      refine va_getN (D := D) (ci := 2) (v := .int (nI (cR x 5))) (C := RX2) (T := TX2) (N := 6) hx hb hts in_X2 hown hK hP (22 + x) (cW_rul (by omega)) xc2 5 (by decide) (va_Nw.use rfl (hN.1 _ q105 rfl)) (fun _ h9 => h9) rfl dX0_whom_34 ?_
      refine lv_istore_n (lv' := [(3, .int (nI (cR x 5))), (0, .ref (b 0)), (1, .int (nI x)), (2, .int (nI t))]) hx hb dX0_whom_37 rfl hl (by decide) rfl (fun ls hl => ?_)
      refine lv_aload_n hx hb dX0_whom_38 rfl (lv_at hl 1 rfl) ?_
      refine va_get (D := D) (ci := 0) (v := .ref (b 1)) (C := RX0) (T := TX0) (N := 13) hx hb hts in_X0 hown hK hP 0 rfl xc0 0 (by decide) (hts _ q170) (fun _ h9 => h9) rfl dX0_whom_39 ?_
      refine va_getN (D := D) (ci := 1) (v := .ref (b 3)) (C := RX1) (T := TX1) (N := 4) hx hb hts in_X1 hown hK hP 1 rfl xc1 2 (by decide) (va_Nw.use rfl (hN.1 _ q126 rfl)) (fun _ h9 => h9) rfl dX0_whom_42 ?_
      refine lv_iload_n hx hb dX0_whom_45 rfl (lv_at hl 2 rfl) ?_
      refine rm_ald (x := ra x) hx hb hK hP 3 2 rfl (xt2 cA) (by omega) (by decide) rfl dX0_whom_46 ?_
      refine lv_iload_n hx hb dX0_whom_47 rfl (lv_at hl 3 rfl) ?_
      refine va_putN (D := D) (ci := 2) (v := .int (nI t)) (ty := .int) (C := RX2) (T := TX2) (N := 6) hx hb hts in_X2 tyX2 tyX2_ok nmX2 hown hK hP hD hS (22 + x) (cW_rul (by omega)) xc2 5 (by decide) (va_Nw.use rfl (hN.1 _ q105 rfl)) (fun _ h9 => h9) rfl (by decide +kernel) rfl rfl (Nat.le_of_ble_eq_true rfl) dX0_whom_48 (fun H locs hP hD hS => ?_)
      rw [cW_setR (by decide)] at hP hD
      refine lv_iload_n hx hb dX0_whom_51 rfl (lv_at hl 0 rfl) ?_
      exact hret _ (va_up cR x (va_up (cR x) 5 t)) _ _ 52 ls ⟨by unfold whomR; rw [if_pos hV, if_pos hK1, nI_clamp (by omega)], fun i j => by rw [hV, hK1, nI_clamp (show x < 2 ^ 31 by omega), nI_clamp (show t < 2 ^ 31 by omega)]; unfold va_up; by_cases hi : i = x; (subst hi; simp); (simp [hi])⟩ hP hD hS dX0_whom_52
    · skip
      refine lv_bipush (v := (-2)) hx hb dX0_whom_22 (by decide) ?_
      exact hret _ (cR) _ _ 24 ls ⟨by unfold whomR; rw [if_pos hV, if_neg (by rw [(isIn_I 0 2 0 2 (by decide) (by decide)).symm.trans q19]; decide)], fun i j => by rw [(isIn_I 0 2 0 2 (by decide) (by decide)).symm.trans q19]; simp⟩ hP hD hS dX0_whom_24
  · skip
    refine lv_iconst (v := (-1)) hx hb dX0_whom_8 (by decide) ?_
    exact hret _ (cR) _ _ 9 ls ⟨by unfold whomR; rw [if_neg (by rw [q5]; decide)], fun i j => by rw [q5]; simp⟩ hP hD hS dX0_whom_9
theorem cwX0_whom_L {R : Room} {s : State} {args : Array Value} (hts : ∀ w ∈ lw_all, w.before args s = true) (hR : (rmX0_whom).frames + 1 ≤ R.frames ∧ 8 + (4 + 11) + (rmX0_whom).locals ≤ R.locals) : CallW R s args "RingMeetsLaw" RX0 37 yX0_whom cX0_whom 4 (some .int) (ws_ yX0_whom cX0_whom 4 (some .int)) rmX0_whom 0 0 2 := cwV 2 hts (lw_V q441 q442 q443 q57 q444) rfl rfl rfl (by decide +kernel) hR
abbrev rmX0_rule : Room := { frames := 1, cells := 0, slots := 0, locals := 25 }
set_option maxHeartbeats 4000000 in
theorem metX0_rule (l : Launch) (D : va_G) (cA : Nat → ClassId) (b ra : Nat → Nat) (cN : Nat → Nat) (cV : Nat → Nat → Nat) (cM : Nat → Nat) (cR : Nat → Nat → Nat) (kp : Nat → Bool) (nu : Nat → Option Nat) (sO tO fS sP : Nat → Nat) (sN lA : Nat → Option Nat) (tG : Nat → Nat) (ra_ rb rc rd re : Int32) (hm : cM 0 ≤ 10) : MUi l yX0_rule cX0_rule 7 (some .int) rmX0_rule [.ref (b 0), .int ra_, .int rb, .int rc, .int rd, .int re] D cA (cW b ra cA cN cV cM cR kp nu sO tO fS sP sN lA tG) (fun (res_ : Int32) (uu_ : (Nat → Nat) × (Nat → Nat → Nat)) => res_ = (ruleR (cM 0) ra_ rb rc rd re) ∧ (∀ d, uu_.1 d = if ruleB ra_ rb rc rd re = true ∧ ¬ cM 0 = 10 ∧ d = 0 then cM 0 + 1 else cM d) ∧ (∀ i j, j < 6 → uu_.2 i j = if ruleB ra_ rb rc rd re = true ∧ ¬ cM 0 = 10 ∧ i = cM 0 then rv ra_ rb rc rd re j else cR i j)) (fun (uu_ : (Nat → Nat) × (Nat → Nat → Nat)) => cW b ra cA cN cV uu_.1 uu_.2 kp nu sO tO fS sP sN lA tG) 0 0 := by
  refine mu_int rfl (Nat.le_of_ble_eq_true rfl) ?_
  intro p e s m below meth cd Q ls A hx hb hml hown hts hP hK hN hD hA hl hret
  have hown : s.vm.findClass RX0 = some m.cls := hown
  have hS : va_S A s.heap s.heap [] := va_S.rf
  have hl : lv_has ls 7 [(0, .ref (b 0)), (1, .int ra_), (2, .int rb), (3, .int rc), (4, .int rd), (5, .int re)] := hl
  refine lv_iload_n hx hb dX0_rule_0 rfl (lv_at hl 1 rfl) ?_
  refine lv_i2l (v := ra_.toInt64) hx hb dX0_rule_1 rfl ?_
  refine lv_lconst (v := 0) hx hb dX0_rule_2 (by decide) ?_
  refine lv_ldc2 (v := 5) hx hb hown (hts _ q235) dX0_rule_3 ?_
  refine rm_cS (ls := ls) (As := [.long ra_.toInt64, .long 0, .long 5]) (rest := []) ⟨hx, hb, hml, hown, hts⟩ (metX0_isIn l ra_.toInt64 0 5 ) (cwX0_isIn_X0 hts ⟨Nat.le_of_ble_eq_true rfl, Nat.le_of_ble_eq_true rfl⟩) noB rfl hl.1 rfl (Nat.le_of_ble_eq_true rfl) dX0_rule_6 ⟨Nat.zero_le _, Nat.zero_le _⟩ ?_
  refine rm_beq (tgt := 62) hx hb dX0_rule_9 (by decide) (fun q9 => ?_) (fun q9 => ?_)
  · skip
    refine lv_bipush (v := (-2)) hx hb dX0_rule_62 (by decide) ?_
    exact hret _ (cM, cR) _ _ 64 ls ⟨by unfold ruleR; rw [if_neg (by unfold ruleB; rw [(isIn_I 0 5 0 5 (by decide) (by decide)).symm.trans q9]; simp)], fun d => by rw [if_neg (by unfold ruleB; rw [(isIn_I 0 5 0 5 (by decide) (by decide)).symm.trans q9]; simp)], fun i j _ => by rw [if_neg (by unfold ruleB; rw [(isIn_I 0 5 0 5 (by decide) (by decide)).symm.trans q9]; simp)]⟩ hP hD hS dX0_rule_64
  · skip
    refine lv_iload_n hx hb dX0_rule_12 rfl (lv_at hl 2 rfl) ?_
    refine lv_i2l (v := rb.toInt64) hx hb dX0_rule_13 rfl ?_
    refine lv_lconst (v := 0) hx hb dX0_rule_14 (by decide) ?_
    refine lv_ldc2 (v := 4) hx hb hown (hts _ q440) dX0_rule_15 ?_
    refine rm_cS (ls := ls) (As := [.long rb.toInt64, .long 0, .long 4]) (rest := []) ⟨hx, hb, hml, hown, hts⟩ (metX0_isIn l rb.toInt64 0 4 ) (cwX0_isIn_X0 hts ⟨Nat.le_of_ble_eq_true rfl, Nat.le_of_ble_eq_true rfl⟩) noB rfl hl.1 rfl (Nat.le_of_ble_eq_true rfl) dX0_rule_18 ⟨Nat.zero_le _, Nat.zero_le _⟩ ?_
    refine rm_beq (tgt := 62) hx hb dX0_rule_21 (by decide) (fun q21 => ?_) (fun q21 => ?_)
    · skip
      refine lv_bipush (v := (-2)) hx hb dX0_rule_62 (by decide) ?_
      exact hret _ (cM, cR) _ _ 64 ls ⟨by unfold ruleR; rw [if_neg (by unfold ruleB; rw [(isIn_I 0 4 0 4 (by decide) (by decide)).symm.trans q21]; simp)], fun d => by rw [if_neg (by unfold ruleB; rw [(isIn_I 0 4 0 4 (by decide) (by decide)).symm.trans q21]; simp)], fun i j _ => by rw [if_neg (by unfold ruleB; rw [(isIn_I 0 4 0 4 (by decide) (by decide)).symm.trans q21]; simp)]⟩ hP hD hS dX0_rule_64
    · skip
      refine lv_iload_n hx hb dX0_rule_24 rfl (lv_at hl 3 rfl) ?_
      refine lv_i2l (v := rc.toInt64) hx hb dX0_rule_25 rfl ?_
      refine lv_lconst (v := 0) hx hb dX0_rule_26 (by decide) ?_
      refine lv_ldc2 (v := 2) hx hb hown (hts _ q248) dX0_rule_27 ?_
      refine rm_cS (ls := ls) (As := [.long rc.toInt64, .long 0, .long 2]) (rest := []) ⟨hx, hb, hml, hown, hts⟩ (metX0_isIn l rc.toInt64 0 2 ) (cwX0_isIn_X0 hts ⟨Nat.le_of_ble_eq_true rfl, Nat.le_of_ble_eq_true rfl⟩) noB rfl hl.1 rfl (Nat.le_of_ble_eq_true rfl) dX0_rule_30 ⟨Nat.zero_le _, Nat.zero_le _⟩ ?_
      refine rm_beq (tgt := 62) hx hb dX0_rule_33 (by decide) (fun q33 => ?_) (fun q33 => ?_)
      · skip
        refine lv_bipush (v := (-2)) hx hb dX0_rule_62 (by decide) ?_
        exact hret _ (cM, cR) _ _ 64 ls ⟨by unfold ruleR; rw [if_neg (by unfold ruleB; rw [(isIn_I 0 2 0 2 (by decide) (by decide)).symm.trans q33]; simp)], fun d => by rw [if_neg (by unfold ruleB; rw [(isIn_I 0 2 0 2 (by decide) (by decide)).symm.trans q33]; simp)], fun i j _ => by rw [if_neg (by unfold ruleB; rw [(isIn_I 0 2 0 2 (by decide) (by decide)).symm.trans q33]; simp)]⟩ hP hD hS dX0_rule_64
      · skip
        refine lv_iload hx hb dX0_rule_36 (lv_at hl 4 rfl) ?_
        refine lv_i2l (v := rd.toInt64) hx hb dX0_rule_38 rfl ?_
        refine lv_lconst (v := 1) hx hb dX0_rule_39 (by decide) ?_
        refine lv_ldc2 (v := 10) hx hb hown (hts _ q223) dX0_rule_40 ?_
        refine rm_cS (ls := ls) (As := [.long rd.toInt64, .long 1, .long 10]) (rest := []) ⟨hx, hb, hml, hown, hts⟩ (metX0_isIn l rd.toInt64 1 10 ) (cwX0_isIn_X0 hts ⟨Nat.le_of_ble_eq_true rfl, Nat.le_of_ble_eq_true rfl⟩) noB rfl hl.1 rfl (Nat.le_of_ble_eq_true rfl) dX0_rule_43 ⟨Nat.zero_le _, Nat.zero_le _⟩ ?_
        refine rm_beq (tgt := 62) hx hb dX0_rule_46 (by decide) (fun q46 => ?_) (fun q46 => ?_)
        · skip
          refine lv_bipush (v := (-2)) hx hb dX0_rule_62 (by decide) ?_
          exact hret _ (cM, cR) _ _ 64 ls ⟨by unfold ruleR; rw [if_neg (by unfold ruleB; rw [(isIn_I 1 10 1 10 (by decide) (by decide)).symm.trans q46]; simp)], fun d => by rw [if_neg (by unfold ruleB; rw [(isIn_I 1 10 1 10 (by decide) (by decide)).symm.trans q46]; simp)], fun i j _ => by rw [if_neg (by unfold ruleB; rw [(isIn_I 1 10 1 10 (by decide) (by decide)).symm.trans q46]; simp)]⟩ hP hD hS dX0_rule_64
        · skip
          refine lv_iload hx hb dX0_rule_49 (lv_at hl 5 rfl) ?_
          refine lv_i2l (v := re.toInt64) hx hb dX0_rule_51 rfl ?_
          refine lv_lconst (v := 0) hx hb dX0_rule_52 (by decide) ?_
          refine lv_ldc2 (v := 2) hx hb hown (hts _ q248) dX0_rule_53 ?_
          refine rm_cS (ls := ls) (As := [.long re.toInt64, .long 0, .long 2]) (rest := []) ⟨hx, hb, hml, hown, hts⟩ (metX0_isIn l re.toInt64 0 2 ) (cwX0_isIn_X0 hts ⟨Nat.le_of_ble_eq_true rfl, Nat.le_of_ble_eq_true rfl⟩) noB rfl hl.1 rfl (Nat.le_of_ble_eq_true rfl) dX0_rule_56 ⟨Nat.zero_le _, Nat.zero_le _⟩ ?_
          refine rm_bne (tgt := 65) hx hb dX0_rule_59 (by decide) (fun q59 => ?_) (fun q59 => ?_)
          · skip
            have q9 : inI 0 5 ra_ = true := (isIn_I 0 5 0 5 (by decide) (by decide)).symm.trans q9
            have q21 : inI 0 4 rb = true := (isIn_I 0 4 0 4 (by decide) (by decide)).symm.trans q21
            have q33 : inI 0 2 rc = true := (isIn_I 0 2 0 2 (by decide) (by decide)).symm.trans q33
            have q46 : inI 1 10 rd = true := (isIn_I 1 10 1 10 (by decide) (by decide)).symm.trans q46
            have q59 : inI 0 2 re = true := (isIn_I 0 2 0 2 (by decide) (by decide)).symm.trans q59
            have hB : ruleB ra_ rb rc rd re = true := by unfold ruleB; rw [q9, q21, q33, q46, q59]; rfl
            obtain ⟨x1, _, h1, rfl⟩ := (inI_iff (lo := 0) (hi := 5) (by decide) (by decide)).mp q9
            obtain ⟨x2, _, h2, rfl⟩ := (inI_iff (lo := 0) (hi := 4) (by decide) (by decide)).mp q21
            obtain ⟨x3, _, h3, rfl⟩ := (inI_iff (lo := 0) (hi := 2) (by decide) (by decide)).mp q33
            obtain ⟨x4, h40, h4, rfl⟩ := (inI_iff (lo := 1) (hi := 10) (by decide) (by decide)).mp q46
            obtain ⟨x5, _, h5, rfl⟩ := (inI_iff (lo := 0) (hi := 2) (by decide) (by decide)).mp q59
            have hrv : ∀ k, rv (nI x1) (nI x2) (nI x3) (nI x4) (nI x5) k = if k = 0 then x1 else if k = 1 then x2 else if k = 2 then x3 else if k = 3 then x4 else if k = 4 then x5 else 2 := fun k => by unfold rv; rw [nI_clamp (show x1 < 2 ^ 31 by omega), nI_clamp (show x2 < 2 ^ 31 by omega), nI_clamp (show x3 < 2 ^ 31 by omega), nI_clamp (show x4 < 2 ^ 31 by omega), nI_clamp (show x5 < 2 ^ 31 by omega)]; split <;> grind
            refine lv_aload_n hx hb dX0_rule_65 rfl (lv_at hl 0 rfl) ?_
            refine va_get (D := D) (ci := 0) (v := .ref (b 1)) (C := RX0) (T := TX0) (N := 13) hx hb hts in_X0 hown hK hP 0 rfl xc0 0 (by decide) (hts _ q170) (fun _ h9 => h9) rfl dX0_rule_66 ?_
            refine va_getN (D := D) (ci := 1) (v := .int (nI (cM 0))) (C := RX1) (T := TX1) (N := 4) hx hb hts in_X1 hown hK hP 1 rfl xc1 3 (by decide) (va_Nw.use rfl (hN.1 _ q128 rfl)) (fun _ h9 => h9) rfl dX0_rule_69 ?_
            refine lv_bipush (v := (nI 10)) hx hb dX0_rule_72 (by decide) ?_
            refine rm_cne (tgt := 80) hx hb dX0_rule_74 (by decide) (by omega) (by decide) (fun q74 => ?_) (fun q74 => ?_)
            · skip
              have hlt : cM 0 < 10 := by omega
              refine lv_aload_n hx hb dX0_rule_80 rfl (lv_at hl 0 rfl) ?_
              refine va_get (D := D) (ci := 0) (v := .ref (b 1)) (C := RX0) (T := TX0) (N := 13) hx hb hts in_X0 hown hK hP 0 rfl xc0 0 (by decide) (hts _ q170) (fun _ h9 => h9) rfl dX0_rule_81 ?_
              refine va_getN (D := D) (ci := 1) (v := .ref (b 3)) (C := RX1) (T := TX1) (N := 4) hx hb hts in_X1 hown hK hP 1 rfl xc1 2 (by decide) (va_Nw.use rfl (hN.1 _ q126 rfl)) (fun _ h9 => h9) rfl dX0_rule_84 ?_
              refine lv_aload_n hx hb dX0_rule_87 rfl (lv_at hl 0 rfl) ?_
              refine va_get (D := D) (ci := 0) (v := .ref (b 1)) (C := RX0) (T := TX0) (N := 13) hx hb hts in_X0 hown hK hP 0 rfl xc0 0 (by decide) (hts _ q170) (fun _ h9 => h9) rfl dX0_rule_88 ?_
              refine va_getN (D := D) (ci := 1) (v := .int (nI (cM 0))) (C := RX1) (T := TX1) (N := 4) hx hb hts in_X1 hown hK hP 1 rfl xc1 3 (by decide) (va_Nw.use rfl (hN.1 _ q128 rfl)) (fun _ h9 => h9) rfl dX0_rule_91 ?_
              refine rm_ald (x := ra (cM 0)) hx hb hK hP 3 2 rfl (xt2 cA) (by omega) (by decide) rfl dX0_rule_94 ?_
              refine lv_astore (lv' := [(6, .ref (ra (cM 0))), (0, .ref (b 0)), (1, .int (nI x1)), (2, .int (nI x2)), (3, .int (nI x3)), (4, .int (nI x4)), (5, .int (nI x5))]) hx hb dX0_rule_95 hl (by decide) rfl (fun ls hl => ?_)
              refine lv_aload hx hb dX0_rule_97 (lv_at hl 0 rfl) ?_
              refine lv_iload_n hx hb dX0_rule_99 rfl (lv_at hl 2 rfl) ?_
              refine va_putN (D := D) (ci := 2) (v := .int (nI x1)) (ty := .int) (C := RX2) (T := TX2) (N := 6) hx hb hts in_X2 tyX2 tyX2_ok nmX2 hown hK hP hD hS (22 + (cM 0)) (cW_rul (by omega)) xc2 0 (by decide) (va_Nw.use rfl (hN.1 _ q95 rfl)) (fun _ h9 => h9) rfl (by decide +kernel) rfl rfl (Nat.le_of_ble_eq_true rfl) dX0_rule_100 (fun H locs hP hD hS => ?_)
              rw [cW_setR (by decide)] at hP hD
              refine lv_aload hx hb dX0_rule_103 (lv_at hl 0 rfl) ?_
              refine lv_iload_n hx hb dX0_rule_105 rfl (lv_at hl 3 rfl) ?_
              refine va_putN (D := D) (ci := 2) (v := .int (nI x2)) (ty := .int) (C := RX2) (T := TX2) (N := 6) hx hb hts in_X2 tyX2 tyX2_ok nmX2 hown hK hP hD hS (22 + (cM 0)) (cW_rul (by omega)) xc2 1 (by decide) (va_Nw.use rfl (hN.1 _ q97 rfl)) (fun _ h9 => h9) rfl (by decide +kernel) rfl rfl (Nat.le_of_ble_eq_true rfl) dX0_rule_106 (fun H locs hP hD hS => ?_)
              rw [cW_setR (by decide)] at hP hD
              refine lv_aload hx hb dX0_rule_109 (lv_at hl 0 rfl) ?_
              refine lv_iload_n hx hb dX0_rule_111 rfl (lv_at hl 4 rfl) ?_
              refine va_putN (D := D) (ci := 2) (v := .int (nI x3)) (ty := .int) (C := RX2) (T := TX2) (N := 6) hx hb hts in_X2 tyX2 tyX2_ok nmX2 hown hK hP hD hS (22 + (cM 0)) (cW_rul (by omega)) xc2 2 (by decide) (va_Nw.use rfl (hN.1 _ q99 rfl)) (fun _ h9 => h9) rfl (by decide +kernel) rfl rfl (Nat.le_of_ble_eq_true rfl) dX0_rule_112 (fun H locs hP hD hS => ?_)
              rw [cW_setR (by decide)] at hP hD
              refine lv_aload hx hb dX0_rule_115 (lv_at hl 0 rfl) ?_
              refine lv_iload hx hb dX0_rule_117 (lv_at hl 5 rfl) ?_
              refine va_putN (D := D) (ci := 2) (v := .int (nI x4)) (ty := .int) (C := RX2) (T := TX2) (N := 6) hx hb hts in_X2 tyX2 tyX2_ok nmX2 hown hK hP hD hS (22 + (cM 0)) (cW_rul (by omega)) xc2 3 (by decide) (va_Nw.use rfl (hN.1 _ q101 rfl)) (fun _ h9 => h9) rfl (by decide +kernel) rfl rfl (Nat.le_of_ble_eq_true rfl) dX0_rule_119 (fun H locs hP hD hS => ?_)
              rw [cW_setR (by decide)] at hP hD
              refine lv_aload hx hb dX0_rule_122 (lv_at hl 0 rfl) ?_
              refine lv_iload hx hb dX0_rule_124 (lv_at hl 6 rfl) ?_
              refine va_putN (D := D) (ci := 2) (v := .int (nI x5)) (ty := .int) (C := RX2) (T := TX2) (N := 6) hx hb hts in_X2 tyX2 tyX2_ok nmX2 hown hK hP hD hS (22 + (cM 0)) (cW_rul (by omega)) xc2 4 (by decide) (va_Nw.use rfl (hN.1 _ q103 rfl)) (fun _ h9 => h9) rfl (by decide +kernel) rfl rfl (Nat.le_of_ble_eq_true rfl) dX0_rule_126 (fun H locs hP hD hS => ?_)
              rw [cW_setR (by decide)] at hP hD
              refine lv_aload hx hb dX0_rule_129 (lv_at hl 0 rfl) ?_
              refine lv_iconst (v := (nI 2)) hx hb dX0_rule_131 (by decide) ?_
              refine va_putN (D := D) (ci := 2) (v := .int (nI 2)) (ty := .int) (C := RX2) (T := TX2) (N := 6) hx hb hts in_X2 tyX2 tyX2_ok nmX2 hown hK hP hD hS (22 + (cM 0)) (cW_rul (by omega)) xc2 5 (by decide) (va_Nw.use rfl (hN.1 _ q105 rfl)) (fun _ h9 => h9) rfl (by decide +kernel) rfl rfl (Nat.le_of_ble_eq_true rfl) dX0_rule_132 (fun H locs hP hD hS => ?_)
              rw [cW_setR (by decide)] at hP hD
              obtain ⟨c6, hc6⟩ : ∃ z, z = va_up (va_up (va_up (va_up (va_up (va_up cR (cM 0) (va_up (cR (cM 0)) 0 x1)) (cM 0) (va_up ((va_up cR (cM 0) (va_up (cR (cM 0)) 0 x1)) (cM 0)) 1 x2)) (cM 0) (va_up ((va_up (va_up cR (cM 0) (va_up (cR (cM 0)) 0 x1)) (cM 0) (va_up ((va_up cR (cM 0) (va_up (cR (cM 0)) 0 x1)) (cM 0)) 1 x2)) (cM 0)) 2 x3)) (cM 0) (va_up ((va_up (va_up (va_up cR (cM 0) (va_up (cR (cM 0)) 0 x1)) (cM 0) (va_up ((va_up cR (cM 0) (va_up (cR (cM 0)) 0 x1)) (cM 0)) 1 x2)) (cM 0) (va_up ((va_up (va_up cR (cM 0) (va_up (cR (cM 0)) 0 x1)) (cM 0) (va_up ((va_up cR (cM 0) (va_up (cR (cM 0)) 0 x1)) (cM 0)) 1 x2)) (cM 0)) 2 x3)) (cM 0)) 3 x4)) (cM 0) (va_up ((va_up (va_up (va_up (va_up cR (cM 0) (va_up (cR (cM 0)) 0 x1)) (cM 0) (va_up ((va_up cR (cM 0) (va_up (cR (cM 0)) 0 x1)) (cM 0)) 1 x2)) (cM 0) (va_up ((va_up (va_up cR (cM 0) (va_up (cR (cM 0)) 0 x1)) (cM 0) (va_up ((va_up cR (cM 0) (va_up (cR (cM 0)) 0 x1)) (cM 0)) 1 x2)) (cM 0)) 2 x3)) (cM 0) (va_up ((va_up (va_up (va_up cR (cM 0) (va_up (cR (cM 0)) 0 x1)) (cM 0) (va_up ((va_up cR (cM 0) (va_up (cR (cM 0)) 0 x1)) (cM 0)) 1 x2)) (cM 0) (va_up ((va_up (va_up cR (cM 0) (va_up (cR (cM 0)) 0 x1)) (cM 0) (va_up ((va_up cR (cM 0) (va_up (cR (cM 0)) 0 x1)) (cM 0)) 1 x2)) (cM 0)) 2 x3)) (cM 0)) 3 x4)) (cM 0)) 4 x5)) (cM 0) (va_up ((va_up (va_up (va_up (va_up (va_up cR (cM 0) (va_up (cR (cM 0)) 0 x1)) (cM 0) (va_up ((va_up cR (cM 0) (va_up (cR (cM 0)) 0 x1)) (cM 0)) 1 x2)) (cM 0) (va_up ((va_up (va_up cR (cM 0) (va_up (cR (cM 0)) 0 x1)) (cM 0) (va_up ((va_up cR (cM 0) (va_up (cR (cM 0)) 0 x1)) (cM 0)) 1 x2)) (cM 0)) 2 x3)) (cM 0) (va_up ((va_up (va_up (va_up cR (cM 0) (va_up (cR (cM 0)) 0 x1)) (cM 0) (va_up ((va_up cR (cM 0) (va_up (cR (cM 0)) 0 x1)) (cM 0)) 1 x2)) (cM 0) (va_up ((va_up (va_up cR (cM 0) (va_up (cR (cM 0)) 0 x1)) (cM 0) (va_up ((va_up cR (cM 0) (va_up (cR (cM 0)) 0 x1)) (cM 0)) 1 x2)) (cM 0)) 2 x3)) (cM 0)) 3 x4)) (cM 0) (va_up ((va_up (va_up (va_up (va_up cR (cM 0) (va_up (cR (cM 0)) 0 x1)) (cM 0) (va_up ((va_up cR (cM 0) (va_up (cR (cM 0)) 0 x1)) (cM 0)) 1 x2)) (cM 0) (va_up ((va_up (va_up cR (cM 0) (va_up (cR (cM 0)) 0 x1)) (cM 0) (va_up ((va_up cR (cM 0) (va_up (cR (cM 0)) 0 x1)) (cM 0)) 1 x2)) (cM 0)) 2 x3)) (cM 0) (va_up ((va_up (va_up (va_up cR (cM 0) (va_up (cR (cM 0)) 0 x1)) (cM 0) (va_up ((va_up cR (cM 0) (va_up (cR (cM 0)) 0 x1)) (cM 0)) 1 x2)) (cM 0) (va_up ((va_up (va_up cR (cM 0) (va_up (cR (cM 0)) 0 x1)) (cM 0) (va_up ((va_up cR (cM 0) (va_up (cR (cM 0)) 0 x1)) (cM 0)) 1 x2)) (cM 0)) 2 x3)) (cM 0)) 3 x4)) (cM 0)) 4 x5)) (cM 0)) 5 2) := ⟨_, rfl⟩
              rw [← hc6] at hP hD
              have h6 : ∀ i j, j < 6 → c6 i j = if i = cM 0 then rv (nI x1) (nI x2) (nI x3) (nI x4) (nI x5) j else cR i j := fun i j hj => by rw [hc6, hrv]; unfold va_up; by_cases e : i = cM 0; (subst e; simp; grind); (simp [e])
              refine lv_aload_n hx hb dX0_rule_135 rfl (lv_at hl 1 rfl) ?_
              refine va_get (D := D) (ci := 0) (v := .ref (b 1)) (C := RX0) (T := TX0) (N := 13) hx hb hts in_X0 hown hK hP 0 rfl xc0 0 (by decide) (hts _ q170) (fun _ h9 => h9) rfl dX0_rule_136 ?_
              refine lv_dup hx hb dX0_rule_139 rfl ?_
              refine va_getN (D := D) (ci := 1) (v := .int (nI (cM 0))) (C := RX1) (T := TX1) (N := 4) hx hb hts in_X1 hown hK hP 1 rfl xc1 3 (by decide) (va_Nw.use rfl (hN.1 _ q128 rfl)) (fun _ h9 => h9) rfl dX0_rule_140 ?_
              refine lv_iconst (v := (nI 1)) hx hb dX0_rule_143 (by decide) ?_
              refine rm_iadd hx hb dX0_rule_144 ?_
              refine va_putN (D := D) (ci := 1) (v := .int (nI ((cM 0) + 1))) (ty := .int) (C := RX1) (T := TX1) (N := 4) hx hb hts in_X1 tyX1 tyX1_ok nmX1 hown hK hP hD hS 1 rfl xc1 3 (by decide) (va_Nw.use rfl (hN.1 _ q128 rfl)) (fun _ h9 => h9) rfl (by decide +kernel) rfl rfl (Nat.le_of_ble_eq_true rfl) dX0_rule_145 (fun H locs hP hD hS => ?_)
              have hP : va_P D xCl (cW b ra cA cN cV (va_up cM 0 ((cM 0) + 1)) c6 kp nu sO tO fS sP sN lA tG) H := hP
              have hD : va_D A (cW b ra cA cN cV (va_up cM 0 ((cM 0) + 1)) c6 kp nu sO tO fS sP sN lA tG) := hD
              refine lv_aload_n hx hb dX0_rule_148 rfl (lv_at hl 1 rfl) ?_
              refine va_get (D := D) (ci := 0) (v := .ref (b 1)) (C := RX0) (T := TX0) (N := 13) hx hb hts in_X0 hown hK hP 0 rfl xc0 0 (by decide) (hts _ q170) (fun _ h9 => h9) rfl dX0_rule_149 ?_
              refine va_getN (D := D) (ci := 1) (v := .int (nI ((va_up cM 0 ((cM 0) + 1)) 0))) (C := RX1) (T := TX1) (N := 4) hx hb hts in_X1 hown hK hP 1 rfl xc1 3 (by decide) (va_Nw.use rfl (hN.1 _ q128 rfl)) (fun _ h9 => h9) rfl dX0_rule_152 ?_
              refine rm_top (y := (nI (cM 0 + 1))) rfl ?_
              refine lv_iconst (v := (nI 1)) hx hb dX0_rule_155 (by decide) ?_
              refine rm_isub hx hb dX0_rule_156 (by omega) ?_
              exact hret _ (va_up cM 0 ((cM 0) + 1), c6) _ _ 157 ls ⟨by unfold ruleR; rw [if_pos hB, if_neg (by omega)]; rfl, fun d => by rw [hB]; show va_up cM 0 (cM 0 + 1) d = _; unfold va_up; by_cases hd : d = 0; (subst hd; rw [if_pos rfl, if_pos ⟨rfl, by omega, rfl⟩]); (rw [if_neg hd, if_neg (fun h => hd h.2.2)]), fun i j hj => by show c6 i j = _; rw [h6 i j hj, hB]; by_cases hi : i = cM 0; (rw [if_pos hi, if_pos ⟨rfl, by omega, hi⟩]); (rw [if_neg hi, if_neg (fun h => hi h.2.2)])⟩ hP hD hS dX0_rule_157
            · skip
              refine lv_bipush (v := (-4)) hx hb dX0_rule_77 (by decide) ?_
              exact hret _ (cM, cR) _ _ 79 ls ⟨by unfold ruleR; rw [if_pos hB, if_pos q74], fun d => by rw [if_neg (fun h => h.2.1 q74)], fun i j _ => by rw [if_neg (fun h => h.2.1 q74)]⟩ hP hD hS dX0_rule_79
          · skip
            refine lv_bipush (v := (-2)) hx hb dX0_rule_62 (by decide) ?_
            exact hret _ (cM, cR) _ _ 64 ls ⟨by unfold ruleR; rw [if_neg (by unfold ruleB; rw [(isIn_I 0 2 0 2 (by decide) (by decide)).symm.trans q59]; simp)], fun d => by rw [if_neg (by unfold ruleB; rw [(isIn_I 0 2 0 2 (by decide) (by decide)).symm.trans q59]; simp)], fun i j _ => by rw [if_neg (by unfold ruleB; rw [(isIn_I 0 2 0 2 (by decide) (by decide)).symm.trans q59]; simp)]⟩ hP hD hS dX0_rule_64
theorem cwX0_rule_L {R : Room} {s : State} {args : Array Value} (hts : ∀ w ∈ lw_all, w.before args s = true) (hR : (rmX0_rule).frames + 1 ≤ R.frames ∧ 8 + (7 + 11) + (rmX0_rule).locals ≤ R.locals) : CallW R s args "RingMeetsLaw" RX0 32 yX0_rule cX0_rule 7 (some .int) (ws_ yX0_rule cX0_rule 7 (some .int)) rmX0_rule 0 0 5 := cwV 5 hts (lw_V q436 q437 q438 q57 q439) rfl rfl rfl (by decide +kernel) hR
abbrev rmX2_take : Room := { frames := 0, cells := 0, slots := 0, locals := 0 }
set_option maxHeartbeats 4000000 in
theorem metX2_take (l : Launch) (D : va_G) (cA : Nat → ClassId) (b ra : Nat → Nat) (cN : Nat → Nat) (cV : Nat → Nat → Nat) (cM : Nat → Nat) (cR : Nat → Nat → Nat) (kp : Nat → Bool) (nu : Nat → Option Nat) (sO tO fS sP : Nat → Nat) (sN lA : Nat → Option Nat) (tG : Nat → Nat) (i j : Nat) (hi : i < 30) (hj : j < 30) : MUv l yX2_take cX2_take 2 none rmX2_take [.ref (ra i), .ref (ra j)] D cA (cW b ra cA cN cV cM cR kp nu sO tO fS sP sN lA tG) (fun (uu_ : (Nat → Nat → Nat)) => (∀ x k, k < 6 → uu_ x k = if x = i then cR j k else cR x k)) (fun (uu_ : (Nat → Nat → Nat)) => cW b ra cA cN cV cM uu_ kp nu sO tO fS sP sN lA tG) 0 0 := by
  refine mu_void rfl (Nat.le_of_ble_eq_true rfl) ?_
  intro p e s m below meth cd Q ls A hx hb hml hown hname hts hP hK hN hD hA hl hret
  have hown : s.vm.findClass RX2 = some m.cls := hown
  have hS : va_S A s.heap s.heap [] := va_S.rf
  have hl : lv_has ls 2 [(0, .ref (ra i)), (1, .ref (ra j))] := hl
  refine lv_aload_n hx hb dX2_take_0 rfl (lv_at hl 0 rfl) ?_
  refine lv_aload_n hx hb dX2_take_1 rfl (lv_at hl 1 rfl) ?_
  refine va_get (D := D) (ci := 2) (v := .int (nI (cR j 0))) (C := RX2) (T := TX2) (N := 6) hx hb hts in_X2 hown hK hP (22 + j) (cW_rul (by omega)) xc2 0 (by decide) (hts _ q94) (fun _ h9 => h9) rfl dX2_take_2 ?_
  refine va_put (D := D) (ci := 2) (v := .int (nI (cR j 0))) (ty := .int) (C := RX2) (T := TX2) (N := 6) hx hb hts in_X2 tyX2 tyX2_ok nmX2 hown hK hP hD hS (22 + i) (cW_rul (by omega)) xc2 0 (by decide) (hts _ q94) (fun _ h9 => h9) rfl (by decide +kernel) rfl rfl (Nat.le_of_ble_eq_true rfl) dX2_take_5 (fun H locs hP hD hS => ?_)
  rw [cW_setR (by decide)] at hP hD
  refine lv_aload_n hx hb dX2_take_8 rfl (lv_at hl 0 rfl) ?_
  refine lv_aload_n hx hb dX2_take_9 rfl (lv_at hl 1 rfl) ?_
  refine va_get (D := D) (ci := 2) (v := .int (nI ((va_up cR i (va_up (cR i) 0 (cR j 0))) j 1))) (C := RX2) (T := TX2) (N := 6) hx hb hts in_X2 hown hK hP (22 + j) (cW_rul (by omega)) xc2 1 (by decide) (hts _ q96) (fun _ h9 => h9) rfl dX2_take_10 ?_
  refine rm_top (y := (nI (cR j 1))) (by unfold va_up; by_cases e : j = i; (subst e; simp); (simp [e])) ?_
  refine va_put (D := D) (ci := 2) (v := .int (nI (cR j 1))) (ty := .int) (C := RX2) (T := TX2) (N := 6) hx hb hts in_X2 tyX2 tyX2_ok nmX2 hown hK hP hD hS (22 + i) (cW_rul (by omega)) xc2 1 (by decide) (hts _ q96) (fun _ h9 => h9) rfl (by decide +kernel) rfl rfl (Nat.le_of_ble_eq_true rfl) dX2_take_13 (fun H locs hP hD hS => ?_)
  rw [cW_setR (by decide)] at hP hD
  refine lv_aload_n hx hb dX2_take_16 rfl (lv_at hl 0 rfl) ?_
  refine lv_aload_n hx hb dX2_take_17 rfl (lv_at hl 1 rfl) ?_
  refine va_get (D := D) (ci := 2) (v := .int (nI ((va_up (va_up cR i (va_up (cR i) 0 (cR j 0))) i (va_up ((va_up cR i (va_up (cR i) 0 (cR j 0))) i) 1 (cR j 1))) j 2))) (C := RX2) (T := TX2) (N := 6) hx hb hts in_X2 hown hK hP (22 + j) (cW_rul (by omega)) xc2 2 (by decide) (hts _ q98) (fun _ h9 => h9) rfl dX2_take_18 ?_
  refine rm_top (y := (nI (cR j 2))) (by unfold va_up; by_cases e : j = i; (subst e; simp); (simp [e])) ?_
  refine va_put (D := D) (ci := 2) (v := .int (nI (cR j 2))) (ty := .int) (C := RX2) (T := TX2) (N := 6) hx hb hts in_X2 tyX2 tyX2_ok nmX2 hown hK hP hD hS (22 + i) (cW_rul (by omega)) xc2 2 (by decide) (hts _ q98) (fun _ h9 => h9) rfl (by decide +kernel) rfl rfl (Nat.le_of_ble_eq_true rfl) dX2_take_21 (fun H locs hP hD hS => ?_)
  rw [cW_setR (by decide)] at hP hD
  refine lv_aload_n hx hb dX2_take_24 rfl (lv_at hl 0 rfl) ?_
  refine lv_aload_n hx hb dX2_take_25 rfl (lv_at hl 1 rfl) ?_
  refine va_get (D := D) (ci := 2) (v := .int (nI ((va_up (va_up (va_up cR i (va_up (cR i) 0 (cR j 0))) i (va_up ((va_up cR i (va_up (cR i) 0 (cR j 0))) i) 1 (cR j 1))) i (va_up ((va_up (va_up cR i (va_up (cR i) 0 (cR j 0))) i (va_up ((va_up cR i (va_up (cR i) 0 (cR j 0))) i) 1 (cR j 1))) i) 2 (cR j 2))) j 3))) (C := RX2) (T := TX2) (N := 6) hx hb hts in_X2 hown hK hP (22 + j) (cW_rul (by omega)) xc2 3 (by decide) (hts _ q100) (fun _ h9 => h9) rfl dX2_take_26 ?_
  refine rm_top (y := (nI (cR j 3))) (by unfold va_up; by_cases e : j = i; (subst e; simp); (simp [e])) ?_
  refine va_put (D := D) (ci := 2) (v := .int (nI (cR j 3))) (ty := .int) (C := RX2) (T := TX2) (N := 6) hx hb hts in_X2 tyX2 tyX2_ok nmX2 hown hK hP hD hS (22 + i) (cW_rul (by omega)) xc2 3 (by decide) (hts _ q100) (fun _ h9 => h9) rfl (by decide +kernel) rfl rfl (Nat.le_of_ble_eq_true rfl) dX2_take_29 (fun H locs hP hD hS => ?_)
  rw [cW_setR (by decide)] at hP hD
  refine lv_aload_n hx hb dX2_take_32 rfl (lv_at hl 0 rfl) ?_
  refine lv_aload_n hx hb dX2_take_33 rfl (lv_at hl 1 rfl) ?_
  refine va_get (D := D) (ci := 2) (v := .int (nI ((va_up (va_up (va_up (va_up cR i (va_up (cR i) 0 (cR j 0))) i (va_up ((va_up cR i (va_up (cR i) 0 (cR j 0))) i) 1 (cR j 1))) i (va_up ((va_up (va_up cR i (va_up (cR i) 0 (cR j 0))) i (va_up ((va_up cR i (va_up (cR i) 0 (cR j 0))) i) 1 (cR j 1))) i) 2 (cR j 2))) i (va_up ((va_up (va_up (va_up cR i (va_up (cR i) 0 (cR j 0))) i (va_up ((va_up cR i (va_up (cR i) 0 (cR j 0))) i) 1 (cR j 1))) i (va_up ((va_up (va_up cR i (va_up (cR i) 0 (cR j 0))) i (va_up ((va_up cR i (va_up (cR i) 0 (cR j 0))) i) 1 (cR j 1))) i) 2 (cR j 2))) i) 3 (cR j 3))) j 4))) (C := RX2) (T := TX2) (N := 6) hx hb hts in_X2 hown hK hP (22 + j) (cW_rul (by omega)) xc2 4 (by decide) (hts _ q102) (fun _ h9 => h9) rfl dX2_take_34 ?_
  refine rm_top (y := (nI (cR j 4))) (by unfold va_up; by_cases e : j = i; (subst e; simp); (simp [e])) ?_
  refine va_put (D := D) (ci := 2) (v := .int (nI (cR j 4))) (ty := .int) (C := RX2) (T := TX2) (N := 6) hx hb hts in_X2 tyX2 tyX2_ok nmX2 hown hK hP hD hS (22 + i) (cW_rul (by omega)) xc2 4 (by decide) (hts _ q102) (fun _ h9 => h9) rfl (by decide +kernel) rfl rfl (Nat.le_of_ble_eq_true rfl) dX2_take_37 (fun H locs hP hD hS => ?_)
  rw [cW_setR (by decide)] at hP hD
  refine lv_aload_n hx hb dX2_take_40 rfl (lv_at hl 0 rfl) ?_
  refine lv_aload_n hx hb dX2_take_41 rfl (lv_at hl 1 rfl) ?_
  refine va_get (D := D) (ci := 2) (v := .int (nI ((va_up (va_up (va_up (va_up (va_up cR i (va_up (cR i) 0 (cR j 0))) i (va_up ((va_up cR i (va_up (cR i) 0 (cR j 0))) i) 1 (cR j 1))) i (va_up ((va_up (va_up cR i (va_up (cR i) 0 (cR j 0))) i (va_up ((va_up cR i (va_up (cR i) 0 (cR j 0))) i) 1 (cR j 1))) i) 2 (cR j 2))) i (va_up ((va_up (va_up (va_up cR i (va_up (cR i) 0 (cR j 0))) i (va_up ((va_up cR i (va_up (cR i) 0 (cR j 0))) i) 1 (cR j 1))) i (va_up ((va_up (va_up cR i (va_up (cR i) 0 (cR j 0))) i (va_up ((va_up cR i (va_up (cR i) 0 (cR j 0))) i) 1 (cR j 1))) i) 2 (cR j 2))) i) 3 (cR j 3))) i (va_up ((va_up (va_up (va_up (va_up cR i (va_up (cR i) 0 (cR j 0))) i (va_up ((va_up cR i (va_up (cR i) 0 (cR j 0))) i) 1 (cR j 1))) i (va_up ((va_up (va_up cR i (va_up (cR i) 0 (cR j 0))) i (va_up ((va_up cR i (va_up (cR i) 0 (cR j 0))) i) 1 (cR j 1))) i) 2 (cR j 2))) i (va_up ((va_up (va_up (va_up cR i (va_up (cR i) 0 (cR j 0))) i (va_up ((va_up cR i (va_up (cR i) 0 (cR j 0))) i) 1 (cR j 1))) i (va_up ((va_up (va_up cR i (va_up (cR i) 0 (cR j 0))) i (va_up ((va_up cR i (va_up (cR i) 0 (cR j 0))) i) 1 (cR j 1))) i) 2 (cR j 2))) i) 3 (cR j 3))) i) 4 (cR j 4))) j 5))) (C := RX2) (T := TX2) (N := 6) hx hb hts in_X2 hown hK hP (22 + j) (cW_rul (by omega)) xc2 5 (by decide) (hts _ q104) (fun _ h9 => h9) rfl dX2_take_42 ?_
  refine rm_top (y := (nI (cR j 5))) (by unfold va_up; by_cases e : j = i; (subst e; simp); (simp [e])) ?_
  refine va_put (D := D) (ci := 2) (v := .int (nI (cR j 5))) (ty := .int) (C := RX2) (T := TX2) (N := 6) hx hb hts in_X2 tyX2 tyX2_ok nmX2 hown hK hP hD hS (22 + i) (cW_rul (by omega)) xc2 5 (by decide) (hts _ q104) (fun _ h9 => h9) rfl (by decide +kernel) rfl rfl (Nat.le_of_ble_eq_true rfl) dX2_take_45 (fun H locs hP hD hS => ?_)
  rw [cW_setR (by decide)] at hP hD
  exact hret (va_up (va_up (va_up (va_up (va_up (va_up cR i (va_up (cR i) 0 (cR j 0))) i (va_up ((va_up cR i (va_up (cR i) 0 (cR j 0))) i) 1 (cR j 1))) i (va_up ((va_up (va_up cR i (va_up (cR i) 0 (cR j 0))) i (va_up ((va_up cR i (va_up (cR i) 0 (cR j 0))) i) 1 (cR j 1))) i) 2 (cR j 2))) i (va_up ((va_up (va_up (va_up cR i (va_up (cR i) 0 (cR j 0))) i (va_up ((va_up cR i (va_up (cR i) 0 (cR j 0))) i) 1 (cR j 1))) i (va_up ((va_up (va_up cR i (va_up (cR i) 0 (cR j 0))) i (va_up ((va_up cR i (va_up (cR i) 0 (cR j 0))) i) 1 (cR j 1))) i) 2 (cR j 2))) i) 3 (cR j 3))) i (va_up ((va_up (va_up (va_up (va_up cR i (va_up (cR i) 0 (cR j 0))) i (va_up ((va_up cR i (va_up (cR i) 0 (cR j 0))) i) 1 (cR j 1))) i (va_up ((va_up (va_up cR i (va_up (cR i) 0 (cR j 0))) i (va_up ((va_up cR i (va_up (cR i) 0 (cR j 0))) i) 1 (cR j 1))) i) 2 (cR j 2))) i (va_up ((va_up (va_up (va_up cR i (va_up (cR i) 0 (cR j 0))) i (va_up ((va_up cR i (va_up (cR i) 0 (cR j 0))) i) 1 (cR j 1))) i (va_up ((va_up (va_up cR i (va_up (cR i) 0 (cR j 0))) i (va_up ((va_up cR i (va_up (cR i) 0 (cR j 0))) i) 1 (cR j 1))) i) 2 (cR j 2))) i) 3 (cR j 3))) i) 4 (cR j 4))) i (va_up ((va_up (va_up (va_up (va_up (va_up cR i (va_up (cR i) 0 (cR j 0))) i (va_up ((va_up cR i (va_up (cR i) 0 (cR j 0))) i) 1 (cR j 1))) i (va_up ((va_up (va_up cR i (va_up (cR i) 0 (cR j 0))) i (va_up ((va_up cR i (va_up (cR i) 0 (cR j 0))) i) 1 (cR j 1))) i) 2 (cR j 2))) i (va_up ((va_up (va_up (va_up cR i (va_up (cR i) 0 (cR j 0))) i (va_up ((va_up cR i (va_up (cR i) 0 (cR j 0))) i) 1 (cR j 1))) i (va_up ((va_up (va_up cR i (va_up (cR i) 0 (cR j 0))) i (va_up ((va_up cR i (va_up (cR i) 0 (cR j 0))) i) 1 (cR j 1))) i) 2 (cR j 2))) i) 3 (cR j 3))) i (va_up ((va_up (va_up (va_up (va_up cR i (va_up (cR i) 0 (cR j 0))) i (va_up ((va_up cR i (va_up (cR i) 0 (cR j 0))) i) 1 (cR j 1))) i (va_up ((va_up (va_up cR i (va_up (cR i) 0 (cR j 0))) i (va_up ((va_up cR i (va_up (cR i) 0 (cR j 0))) i) 1 (cR j 1))) i) 2 (cR j 2))) i (va_up ((va_up (va_up (va_up cR i (va_up (cR i) 0 (cR j 0))) i (va_up ((va_up cR i (va_up (cR i) 0 (cR j 0))) i) 1 (cR j 1))) i (va_up ((va_up (va_up cR i (va_up (cR i) 0 (cR j 0))) i (va_up ((va_up cR i (va_up (cR i) 0 (cR j 0))) i) 1 (cR j 1))) i) 2 (cR j 2))) i) 3 (cR j 3))) i) 4 (cR j 4))) i) 5 (cR j 5))) _ _ 48 ls (fun x k hk => by unfold va_up; by_cases e : x = i; (subst e; simp; have h : k = 0 ∨ k = 1 ∨ k = 2 ∨ k = 3 ∨ k = 4 ∨ k = 5 := (by omega); rcases h with rfl | rfl | rfl | rfl | rfl | rfl <;> simp); (simp [e])) hP hD hS dX2_take_48
theorem cwX2_take_X0 {R : Room} {s : State} {args : Array Value} (hts : ∀ w ∈ lw_all, w.before args s = true) (hR : (rmX2_take).frames + 1 ≤ R.frames ∧ 8 + (2 + 11) + (rmX2_take).locals ≤ R.locals) : CallW R s args RX0 RX2 212 yX2_take cX2_take 2 none (ws_ yX2_take cX2_take 2 none) rmX2_take 0 0 1 := cwV 1 hts (lw_V q453 q454 q455 q59 q456) rfl rfl rfl (by decide +kernel) hR
theorem cwX2_take_X1 {R : Room} {s : State} {args : Array Value} (hts : ∀ w ∈ lw_all, w.before args s = true) (hR : (rmX2_take).frames + 1 ≤ R.frames ∧ 8 + (2 + 11) + (rmX2_take).locals ≤ R.locals) : CallW R s args RX1 RX2 32 yX2_take cX2_take 2 none (ws_ yX2_take cX2_take 2 none) rmX2_take 0 0 1 := cwV 1 hts (lw_V q623 q454 q455 q59 q456) rfl rfl rfl (by decide +kernel) hR
abbrev rmX0_drop : Room := { frames := 2, cells := 0, slots := 0, locals := 46 }
set_option maxHeartbeats 4000000 in
theorem metX0_drop (l : Launch) (D : va_G) (cA : Nat → ClassId) (b ra : Nat → Nat) (cN : Nat → Nat) (cV : Nat → Nat → Nat) (cM : Nat → Nat) (cR : Nat → Nat → Nat) (kp : Nat → Bool) (nu : Nat → Option Nat) (sO tO fS sP : Nat → Nat) (sN lA : Nat → Option Nat) (tG : Nat → Nat) (v : Int32) (hm : cM 0 ≤ 10) : MUi l yX0_drop cX0_drop 3 (some .int) rmX0_drop [.ref (b 0), .int v] D cA (cW b ra cA cN cV cM cR kp nu sO tO fS sP sN lA tG) (fun (res_ : Int32) (uu_ : (Nat → Nat) × (Nat → Nat → Nat)) => res_ = (dropR (cM 0) v) ∧ (∀ d, uu_.1 d = if inL (cM 0) v = true ∧ d = 0 then cM 0 - 1 else cM d) ∧ (∀ i k, k < 6 → uu_.2 i k = if inL (cM 0) v = true ∧ v.toNatClampNeg ≤ i ∧ i + 1 < cM 0 then cR (i + 1) k else cR i k)) (fun (uu_ : (Nat → Nat) × (Nat → Nat → Nat)) => cW b ra cA cN cV uu_.1 uu_.2 kp nu sO tO fS sP sN lA tG) 0 0 := by
  refine mu_int rfl (Nat.le_of_ble_eq_true rfl) ?_
  intro p e s m below meth cd Q ls A hx hb hml hown hts hP hK hN hD hA hl hret
  have hown : s.vm.findClass RX0 = some m.cls := hown
  have hS : va_S A s.heap s.heap [] := va_S.rf
  have hl : lv_has ls 3 [(0, .ref (b 0)), (1, .int v)] := hl
  refine lv_aload_n hx hb dX0_drop_0 rfl (lv_at hl 0 rfl) ?_
  refine lv_iload_n hx hb dX0_drop_1 rfl (lv_at hl 1 rfl) ?_
  refine rm_cV (ls := ls) (As := [.int v]) (rest := []) ⟨hx, hb, hml, hown, hts⟩ (metX0_isRule l D cA b ra cN cV cM cR kp nu sO tO fS sP sN lA tG v (by first | assumption | omega)) (cwX0_isRule_X0 hts ⟨Nat.le_of_ble_eq_true rfl, Nat.le_of_ble_eq_true rfl⟩) hP hK hN (va_recv hK hP xc0 (q0 := 0) rfl) rfl hl.1 rfl (Nat.le_of_ble_eq_true rfl) dX0_drop_2 ⟨Nat.zero_le _, Nat.zero_le _⟩ ?_
  refine rm_bne (tgt := 10) hx hb dX0_drop_5 (by decide) (fun q5 => ?_) (fun q5 => ?_)
  · skip
    have hV : inL (cM 0) v = true := q5
    obtain ⟨x, hx1, rfl⟩ := (inL_iff (by omega)).mp q5
    refine lv_iload_n hx hb dX0_drop_10 rfl (lv_at hl 1 rfl) ?_
    refine lv_istore_n (lv' := [(2, .int (nI x)), (0, .ref (b 0)), (1, .int (nI x))]) hx hb dX0_drop_11 rfl hl (by decide) rfl (fun ls hl => ?_)
    have loop12 : ∀ (N : Nat) (r : Nat) (c1 : Nat → Nat → Nat), cM 0 - r < N → (x ≤ r) → (r + 1 ≤ cM 0) → (∀ i k, k < 6 → c1 i k = if x ≤ i ∧ i < r then cR (i + 1) k else cR i k) → ∀ (H : Heap) (locs : List Loc), va_P D xCl (cW b ra cA cN cV cM c1 kp nu sO tO fS sP sN lA tG) H → va_D A (cW b ra cA cN cV cM c1 kp nu sO tO fS sP sN lA tG) → va_S A s.heap H locs → ∀ (ls : Array Slot), lv_has ls 3 [(2, .int (nI r)), (0, .ref (b 0)), (1, .int (nI x))] → W p l e rmX0_drop s m ([.ref (b 0), .int (nI x)] : List Value).toArray below meth cd H locs 0 0 Q (F0 m 12 ls []) := by
      intro N
      induction N with
      | zero => intro r c1 hm; exact absurd hm (Nat.not_lt_zero _)
      | succ N ih12 =>
        intro r c1 hm12 i12_0 i12_1 i12_2 H locs hP hD hS ls hl
        refine lv_iload_n hx hb dX0_drop_12 rfl (lv_at hl 0 rfl) ?_
        refine lv_iconst (v := (nI 1)) hx hb dX0_drop_13 (by decide) ?_
        refine rm_iadd hx hb dX0_drop_14 ?_
        refine lv_aload_n hx hb dX0_drop_15 rfl (lv_at hl 1 rfl) ?_
        refine va_get (D := D) (ci := 0) (v := .ref (b 1)) (C := RX0) (T := TX0) (N := 13) hx hb hts in_X0 hown hK hP 0 rfl xc0 0 (by decide) (hts _ q170) (fun _ h9 => h9) rfl dX0_drop_16 ?_
        refine va_getN (D := D) (ci := 1) (v := .int (nI (cM 0))) (C := RX1) (T := TX1) (N := 4) hx hb hts in_X1 hown hK hP 1 rfl xc1 3 (by decide) (va_Nw.use rfl (hN.1 _ q128 rfl)) (fun _ h9 => h9) rfl dX0_drop_19 ?_
        refine rm_cge (tgt := 54) hx hb dX0_drop_22 (by decide) (by omega) (by omega) (fun q22 => ?_) (fun q22 => ?_)
        · skip
          refine lv_aload_n hx hb dX0_drop_54 rfl (lv_at hl 1 rfl) ?_
          refine va_get (D := D) (ci := 0) (v := .ref (b 1)) (C := RX0) (T := TX0) (N := 13) hx hb hts in_X0 hown hK hP 0 rfl xc0 0 (by decide) (hts _ q170) (fun _ h9 => h9) rfl dX0_drop_55 ?_
          refine lv_dup hx hb dX0_drop_58 rfl ?_
          refine va_getN (D := D) (ci := 1) (v := .int (nI (cM 0))) (C := RX1) (T := TX1) (N := 4) hx hb hts in_X1 hown hK hP 1 rfl xc1 3 (by decide) (va_Nw.use rfl (hN.1 _ q128 rfl)) (fun _ h9 => h9) rfl dX0_drop_59 ?_
          refine lv_iconst (v := (nI 1)) hx hb dX0_drop_62 (by decide) ?_
          refine rm_isub hx hb dX0_drop_63 (by omega) ?_
          refine va_putN (D := D) (ci := 1) (v := .int (nI ((cM 0) - 1))) (ty := .int) (C := RX1) (T := TX1) (N := 4) hx hb hts in_X1 tyX1 tyX1_ok nmX1 hown hK hP hD hS 1 rfl xc1 3 (by decide) (va_Nw.use rfl (hN.1 _ q128 rfl)) (fun _ h9 => h9) rfl (by decide +kernel) rfl rfl (Nat.le_of_ble_eq_true rfl) dX0_drop_64 (fun H locs hP hD hS => ?_)
          have hP : va_P D xCl (cW b ra cA cN cV (va_up cM 0 ((cM 0) - 1)) c1 kp nu sO tO fS sP sN lA tG) H := hP
          have hD : va_D A (cW b ra cA cN cV (va_up cM 0 ((cM 0) - 1)) c1 kp nu sO tO fS sP sN lA tG) := hD
          refine lv_aload_n hx hb dX0_drop_67 rfl (lv_at hl 1 rfl) ?_
          refine va_get (D := D) (ci := 0) (v := .ref (b 1)) (C := RX0) (T := TX0) (N := 13) hx hb hts in_X0 hown hK hP 0 rfl xc0 0 (by decide) (hts _ q170) (fun _ h9 => h9) rfl dX0_drop_68 ?_
          refine va_getN (D := D) (ci := 1) (v := .int (nI ((va_up cM 0 ((cM 0) - 1)) 0))) (C := RX1) (T := TX1) (N := 4) hx hb hts in_X1 hown hK hP 1 rfl xc1 3 (by decide) (va_Nw.use rfl (hN.1 _ q128 rfl)) (fun _ h9 => h9) rfl dX0_drop_71 ?_
          exact hret _ (va_up cM 0 ((cM 0) - 1), c1) _ _ 74 ls ⟨by unfold dropR; rw [if_pos hV]; rfl, fun d => by rw [hV]; show va_up cM 0 (cM 0 - 1) d = _; unfold va_up; by_cases hd : d = 0; (rw [if_pos hd, if_pos ⟨rfl, hd⟩]); (rw [if_neg hd, if_neg (fun h => hd h.2)]), fun i k hk => by show c1 i k = _; rw [i12_2 i k hk, hV, nI_clamp (by omega)]; by_cases e : x ≤ i ∧ i < r; (rw [if_pos e, if_pos ⟨rfl, e.1, by omega⟩]); (rw [if_neg e, if_neg (fun h => e ⟨h.2.1, by omega⟩)])⟩ hP hD hS dX0_drop_74
        · skip
          refine lv_aload_n hx hb dX0_drop_25 rfl (lv_at hl 1 rfl) ?_
          refine va_get (D := D) (ci := 0) (v := .ref (b 1)) (C := RX0) (T := TX0) (N := 13) hx hb hts in_X0 hown hK hP 0 rfl xc0 0 (by decide) (hts _ q170) (fun _ h9 => h9) rfl dX0_drop_26 ?_
          refine va_getN (D := D) (ci := 1) (v := .ref (b 3)) (C := RX1) (T := TX1) (N := 4) hx hb hts in_X1 hown hK hP 1 rfl xc1 2 (by decide) (va_Nw.use rfl (hN.1 _ q126 rfl)) (fun _ h9 => h9) rfl dX0_drop_29 ?_
          refine lv_iload_n hx hb dX0_drop_32 rfl (lv_at hl 0 rfl) ?_
          refine rm_ald (x := ra r) hx hb hK hP 3 2 rfl (xt2 cA) (by omega) (by decide) rfl dX0_drop_33 ?_
          refine lv_aload_n hx hb dX0_drop_34 rfl (lv_at hl 1 rfl) ?_
          refine va_get (D := D) (ci := 0) (v := .ref (b 1)) (C := RX0) (T := TX0) (N := 13) hx hb hts in_X0 hown hK hP 0 rfl xc0 0 (by decide) (hts _ q170) (fun _ h9 => h9) rfl dX0_drop_35 ?_
          refine va_getN (D := D) (ci := 1) (v := .ref (b 3)) (C := RX1) (T := TX1) (N := 4) hx hb hts in_X1 hown hK hP 1 rfl xc1 2 (by decide) (va_Nw.use rfl (hN.1 _ q126 rfl)) (fun _ h9 => h9) rfl dX0_drop_38 ?_
          refine lv_iload_n hx hb dX0_drop_41 rfl (lv_at hl 0 rfl) ?_
          refine lv_iconst (v := (nI 1)) hx hb dX0_drop_42 (by decide) ?_
          refine rm_iadd hx hb dX0_drop_43 ?_
          refine rm_ald (x := ra (r + 1)) hx hb hK hP 3 2 rfl (xt2 cA) (by omega) (by decide) rfl dX0_drop_44 ?_
          refine mu_aVv (ls := ls) (As := [.ref (ra (r + 1))]) (rest := []) ⟨hx, hb, hml, hown, hts⟩ (metX2_take l D cA b ra cN cV cM c1 kp nu sO tO fS sP sN lA tG r (r + 1) (by omega) (by omega)) (cwX2_take_X0 hts ⟨Nat.le_of_ble_eq_true rfl, Nat.le_of_ble_eq_true rfl⟩) hP hD hS hA hK hN (va_recv hK hP xc2 (q0 := 22 + r) (cW_rul (by omega))) rfl hl.1 rfl (Nat.le_of_ble_eq_true rfl) dX0_drop_45 ⟨Nat.zero_le _, Nat.zero_le _⟩ (fun u1 H locs w1 hP hD hS => ?_)
          obtain ⟨cR_1, e1⟩ : ∃ z, z = u1 := ⟨_, rfl⟩
          subst e1
          have hP : va_P D xCl (cW b ra cA cN cV cM cR_1 kp nu sO tO fS sP sN lA tG) H := hP
          have hD : va_D A (cW b ra cA cN cV cM cR_1 kp nu sO tO fS sP sN lA tG) := hD
          refine lv_iinc (v := (nI (r + 1))) (lv' := [(2, .int (nI (r + 1))), (0, .ref (b 0)), (1, .int (nI x))]) hx hb dX0_drop_48 hl (k := 0) rfl (rm_inc r 1) (by decide) rfl (fun ls hl => ?_)
          refine lv_goto (tgt := 12) hx hb dX0_drop_51 (by decide) ?_
          exact ih12 (r + 1) _ (by omega) (by omega) (by omega) (fun i k hk => by rw [w1 i k hk]; have h1 := i12_2 (r + 1) k hk; have h2 := i12_2 i k hk; by_cases e : i = r; (subst e; rw [if_pos rfl, h1, if_neg (by omega), if_pos (by omega)]); (rw [if_neg e, h2]; by_cases e2 : x ≤ i ∧ i < r; (rw [if_pos e2, if_pos (by omega)]); (rw [if_neg e2, if_neg (by omega)]))) _ _ hP hD hS ls hl
    exact loop12 _ x _ (Nat.lt_succ_self _) (Nat.le_refl _) (by omega) (fun i k _ => by rw [if_neg (by omega)]) _ _ hP hD hS ls hl
  · skip
    refine lv_iconst (v := (-1)) hx hb dX0_drop_8 (by decide) ?_
    exact hret _ (cM, cR) _ _ 9 ls ⟨by unfold dropR; rw [if_neg (by rw [q5]; decide)], fun d => by rw [if_neg (by rw [q5]; simp)], fun i k _ => by rw [if_neg (by rw [q5]; simp)]⟩ hP hD hS dX0_drop_9
theorem cwX0_drop_L {R : Room} {s : State} {args : Array Value} (hts : ∀ w ∈ lw_all, w.before args s = true) (hR : (rmX0_drop).frames + 1 ≤ R.frames ∧ 8 + (3 + 11) + (rmX0_drop).locals ≤ R.locals) : CallW R s args "RingMeetsLaw" RX0 41 yX0_drop cX0_drop 3 (some .int) (ws_ yX0_drop cX0_drop 3 (some .int)) rmX0_drop 0 0 1 := cwV 1 hts (lw_V q449 q450 q451 q57 q452) rfl rfl rfl (by decide +kernel) hR
