set_option maxRecDepth 100000

abbrev rmX1_take : Room := { frames := 1, cells := 0, slots := 0, locals := 64 }
set_option maxHeartbeats 4000000 in
theorem metX1_take_10 (l : Launch) (D : va_G) (cA : Nat → ClassId) (b ra : Nat → Nat) (cN : Nat → Nat) (cV : Nat → Nat → Nat) (cM : Nat → Nat) (cR : Nat → Nat → Nat) (kp : Nat → Bool) (nu : Nat → Option Nat) (sO tO fS sP : Nat → Nat) (sN lA : Nat → Option Nat) (tG : Nat → Nat)   : MUv l yX1_take cX1_take 3 none rmX1_take [.ref (b 16), .ref (b 1)] D cA (cW b ra cA cN cV cM cR kp nu sO tO fS sP sN lA tG) (fun (uu_ : (Nat → Nat) × (Nat → Nat → Nat) × (Nat → Nat) × (Nat → Nat → Nat)) => (∀ x, uu_.1 x = if x = 1 then cN 0 else cN x) ∧ (∀ x c, c < 10 → uu_.2.1 x c = if x = 1 then cV 0 c else cV x c) ∧ (∀ x, uu_.2.2.1 x = if x = 1 then cM 0 else cM x) ∧ (∀ i k, k < 6 → uu_.2.2.2 i k = if 10 ≤ i ∧ i < 20 then cR (i + 0 - 10) k else cR i k)) (fun (uu_ : (Nat → Nat) × (Nat → Nat → Nat) × (Nat → Nat) × (Nat → Nat → Nat)) => cW b ra cA uu_.1 uu_.2.1 uu_.2.2.1 uu_.2.2.2 kp nu sO tO fS sP sN lA tG) 0 0 := by
  refine mu_void rfl (Nat.le_of_ble_eq_true rfl) ?_
  intro p e s m below meth cd Q ls A hx hb hml hown hname hts hP hK hN hD hA hl hret
  have hown : s.vm.findClass RX1 = some m.cls := hown
  have hS : va_S A s.heap s.heap [] := va_S.rf
  have hl : lv_has ls 3 [(0, .ref (b 16)), (1, .ref (b 1))] := hl
  refine lv_aload_n hx hb dX1_take_0 rfl (lv_at hl 0 rfl) ?_
  refine lv_aload_n hx hb dX1_take_1 rfl (lv_at hl 1 rfl) ?_
  refine va_get (D := D) (ci := 1) (v := .int (nI (cN 0))) (C := RX1) (T := TX1) (N := 4) hx hb hts in_X1 hown hK hP 1 rfl xc1 0 (by decide) (hts _ q120) (fun _ h9 => h9) rfl dX1_take_2 ?_
  refine va_put (D := D) (ci := 1) (v := .int (nI (cN 0))) (ty := .int) (C := RX1) (T := TX1) (N := 4) hx hb hts in_X1 tyX1 tyX1_ok nmX1 hown hK hP hD hS 16 rfl xc1 0 (by decide) (hts _ q120) (fun _ h9 => h9) rfl (by decide +kernel) rfl rfl (Nat.le_of_ble_eq_true rfl) dX1_take_5 (fun H locs hP hD hS => ?_)
  have hP : va_P D xCl (cW b ra cA (va_up cN 1 (cN 0)) cV cM cR kp nu sO tO fS sP sN lA tG) H := hP
  have hD : va_D A (cW b ra cA (va_up cN 1 (cN 0)) cV cM cR kp nu sO tO fS sP sN lA tG) := hD
  refine lv_aload_n hx hb dX1_take_8 rfl (lv_at hl 1 rfl) ?_
  refine va_get (D := D) (ci := 1) (v := .ref (b 2)) (C := RX1) (T := TX1) (N := 4) hx hb hts in_X1 hown hK hP 1 rfl xc1 1 (by decide) (hts _ q123) (fun _ h9 => h9) rfl dX1_take_9 ?_
  refine lv_iconst (v := (nI 0)) hx hb dX1_take_12 (by decide) ?_
  refine lv_aload_n hx hb dX1_take_13 rfl (lv_at hl 0 rfl) ?_
  refine va_get (D := D) (ci := 1) (v := .ref (b 17)) (C := RX1) (T := TX1) (N := 4) hx hb hts in_X1 hown hK hP 16 rfl xc1 1 (by decide) (hts _ q123) (fun _ h9 => h9) rfl dX1_take_14 ?_
  refine lv_iconst (v := (nI 0)) hx hb dX1_take_17 (by decide) ?_
  refine lv_bipush (v := (nI 10)) hx hb dX1_take_18 (by decide) ?_
  refine rm_cpy10 hx hb (hml.trans hl.1.symm) hown (hts _ q622) (hts _ q491) (hts _ q490) (hts _ q71) hK hP hD hS 2 17 rfl rfl (ws' := cW b ra cA (va_up cN 1 (cN 0)) (va_up cV 1 (va_cpy (cV 0) (cV 1) 0 0 10)) cM cR kp nu sO tO fS sP sN lA tG) rfl (Nat.le_of_ble_eq_true rfl) (Nat.le_of_ble_eq_true rfl) dX1_take_20 (fun H locs hP hD hS => ?_)
  refine lv_iconst (v := (nI 0)) hx hb dX1_take_23 (by decide) ?_
  refine lv_istore_n (lv' := [(2, .int (nI 0)), (0, .ref (b 16)), (1, .ref (b 1))]) hx hb dX1_take_24 rfl hl (by decide) rfl (fun ls hl => ?_)
  have loop25 : ∀ (N : Nat) (r : Nat) (c1 : Nat → Nat → Nat), 10 - r < N → (r ≤ 10) → (∀ i k, k < 6 → c1 i k = if 10 ≤ i ∧ i < 10 + r then cR (i + 0 - 10) k else cR i k) → ∀ (H : Heap) (locs : List Loc), va_P D xCl (cW b ra cA (va_up cN 1 (cN 0)) (va_up cV 1 (va_cpy (cV 0) (cV 1) 0 0 10)) cM c1 kp nu sO tO fS sP sN lA tG) H → va_D A (cW b ra cA (va_up cN 1 (cN 0)) (va_up cV 1 (va_cpy (cV 0) (cV 1) 0 0 10)) cM c1 kp nu sO tO fS sP sN lA tG) → va_S A s.heap H locs → ∀ (ls : Array Slot), lv_has ls 3 [(2, .int (nI r)), (0, .ref (b 16)), (1, .ref (b 1))] → W p l e rmX1_take s m ([.ref (b 16), .ref (b 1)] : List Value).toArray below meth cd H locs 0 0 Q (F0 m 25 ls []) := by
    intro N
    induction N with
    | zero => intro r c1 hm; exact absurd hm (Nat.not_lt_zero _)
    | succ N ih25 =>
      intro r c1 hm25 i25_0 i25_1 H locs hP hD hS ls hl
      refine lv_iload_n hx hb dX1_take_25 rfl (lv_at hl 0 rfl) ?_
      refine lv_bipush (v := (nI 10)) hx hb dX1_take_26 (by decide) ?_
      refine rm_cge (tgt := 52) hx hb dX1_take_28 (by decide) (by omega) (by decide) (fun q28 => ?_) (fun q28 => ?_)
      · skip
        refine lv_aload_n hx hb dX1_take_52 rfl (lv_at hl 1 rfl) ?_
        refine lv_aload_n hx hb dX1_take_53 rfl (lv_at hl 2 rfl) ?_
        refine va_get (D := D) (ci := 1) (v := .int (nI (cM 0))) (C := RX1) (T := TX1) (N := 4) hx hb hts in_X1 hown hK hP 1 rfl xc1 3 (by decide) (hts _ q127) (fun _ h9 => h9) rfl dX1_take_54 ?_
        refine va_put (D := D) (ci := 1) (v := .int (nI (cM 0))) (ty := .int) (C := RX1) (T := TX1) (N := 4) hx hb hts in_X1 tyX1 tyX1_ok nmX1 hown hK hP hD hS 16 rfl xc1 3 (by decide) (hts _ q127) (fun _ h9 => h9) rfl (by decide +kernel) rfl rfl (Nat.le_of_ble_eq_true rfl) dX1_take_57 (fun H locs hP hD hS => ?_)
        have hP : va_P D xCl (cW b ra cA (va_up cN 1 (cN 0)) (va_up cV 1 (va_cpy (cV 0) (cV 1) 0 0 10)) (va_up cM 1 (cM 0)) c1 kp nu sO tO fS sP sN lA tG) H := hP
        have hD : va_D A (cW b ra cA (va_up cN 1 (cN 0)) (va_up cV 1 (va_cpy (cV 0) (cV 1) 0 0 10)) (va_up cM 1 (cM 0)) c1 kp nu sO tO fS sP sN lA tG) := hD
        exact hret (va_up cN 1 (cN 0), va_up cV 1 (va_cpy (cV 0) (cV 1) 0 0 10), va_up cM 1 (cM 0), c1) _ _ 60 ls ⟨fun x => by show va_up cN 1 (cN 0) x = _; unfold va_up; rfl, fun x c hc => by show va_up cV 1 _ x c = _; unfold va_up; by_cases e : x = 1; (rw [if_pos e, if_pos e]; unfold va_cpy; rw [if_pos (by omega)]; simp); (rw [if_neg e, if_neg e]), fun x => by show va_up cM 1 (cM 0) x = _; unfold va_up; rfl, fun i k hk => by show c1 i k = _; rw [i25_1 i k hk, show r = 10 by omega]⟩ hP hD hS dX1_take_60
      · skip
        refine lv_aload_n hx hb dX1_take_31 rfl (lv_at hl 1 rfl) ?_
        refine va_get (D := D) (ci := 1) (v := .ref (b 18)) (C := RX1) (T := TX1) (N := 4) hx hb hts in_X1 hown hK hP 16 rfl xc1 2 (by decide) (hts _ q125) (fun _ h9 => h9) rfl dX1_take_32 ?_
        refine lv_iload_n hx hb dX1_take_35 rfl (lv_at hl 0 rfl) ?_
        refine rm_ald (x := ra (10 + r)) hx hb hK hP 18 2 rfl (xt2 cA) (by omega) (by decide) rfl dX1_take_36 ?_
        refine lv_aload_n hx hb dX1_take_37 rfl (lv_at hl 2 rfl) ?_
        refine va_get (D := D) (ci := 1) (v := .ref (b 3)) (C := RX1) (T := TX1) (N := 4) hx hb hts in_X1 hown hK hP 1 rfl xc1 2 (by decide) (hts _ q125) (fun _ h9 => h9) rfl dX1_take_38 ?_
        refine lv_iload_n hx hb dX1_take_41 rfl (lv_at hl 0 rfl) ?_
        refine rm_ald (x := ra r) hx hb hK hP 3 2 rfl (xt2 cA) (by omega) (by decide) rfl dX1_take_42 ?_
        refine mu_aVv (ls := ls) (As := [.ref (ra r)]) (rest := []) ⟨hx, hb, hml, hown, hts⟩ (metX2_take l D cA b ra (va_up cN 1 (cN 0)) (va_up cV 1 (va_cpy (cV 0) (cV 1) 0 0 10)) cM c1 kp nu sO tO fS sP sN lA tG (10 + r) r (by omega) (by omega)) (cwX2_take_X1 hts ⟨Nat.le_of_ble_eq_true rfl, Nat.le_of_ble_eq_true rfl⟩) hP hD hS hA hK hN (va_recv hK hP xc2 (q0 := 22 + (10 + r)) (cW_rul (by omega))) rfl hl.1 rfl (Nat.le_of_ble_eq_true rfl) dX1_take_43 ⟨Nat.zero_le _, Nat.zero_le _⟩ (fun u1 H locs w1 hP hD hS => ?_)
        obtain ⟨cR_1, e1⟩ : ∃ z, z = u1 := ⟨_, rfl⟩
        subst e1
        have hP : va_P D xCl (cW b ra cA (va_up cN 1 (cN 0)) (va_up cV 1 (va_cpy (cV 0) (cV 1) 0 0 10)) cM cR_1 kp nu sO tO fS sP sN lA tG) H := hP
        have hD : va_D A (cW b ra cA (va_up cN 1 (cN 0)) (va_up cV 1 (va_cpy (cV 0) (cV 1) 0 0 10)) cM cR_1 kp nu sO tO fS sP sN lA tG) := hD
        refine lv_iinc (v := (nI (r + 1))) (lv' := [(2, .int (nI (r + 1))), (0, .ref (b 16)), (1, .ref (b 1))]) hx hb dX1_take_46 hl (k := 0) rfl (rm_inc r 1) (by decide) rfl (fun ls hl => ?_)
        refine lv_goto (tgt := 25) hx hb dX1_take_49 (by decide) ?_
        exact ih25 (r + 1) _ (by omega) (by omega) (fun i k hk => by rw [w1 i k hk]; by_cases e : i = 10 + r; (have h1 := i25_1 (r) k hk; subst e; rw [if_pos rfl, h1, if_neg (by omega), if_pos (by omega)]; congr 1; omega); (rw [if_neg e, i25_1 i k hk]; by_cases e2 : 10 ≤ i ∧ i < 10 + r; (rw [if_pos e2, if_pos (by omega)]); (rw [if_neg e2, if_neg (by omega)]))) _ _ hP hD hS ls hl
  exact loop25 _ 0 _ (Nat.lt_succ_self _) (by omega) (fun i k _ => by rw [if_neg (by omega)]) _ _ hP hD hS ls hl
theorem cwX1_take_X0 {R : Room} {s : State} {args : Array Value} (hts : ∀ w ∈ lw_all, w.before args s = true) (hR : (rmX1_take).frames + 1 ≤ R.frames ∧ 8 + (3 + 11) + (rmX1_take).locals ≤ R.locals) : CallW R s args RX0 RX1 289 yX1_take cX1_take 3 none (ws_ yX1_take cX1_take 3 none) rmX1_take 0 0 1 := cwV 1 hts (lw_V q618 q619 q620 q58 q621) rfl rfl rfl (by decide +kernel) hR
set_option maxHeartbeats 4000000 in
theorem metX1_take_20 (l : Launch) (D : va_G) (cA : Nat → ClassId) (b ra : Nat → Nat) (cN : Nat → Nat) (cV : Nat → Nat → Nat) (cM : Nat → Nat) (cR : Nat → Nat → Nat) (kp : Nat → Bool) (nu : Nat → Option Nat) (sO tO fS sP : Nat → Nat) (sN lA : Nat → Option Nat) (tG : Nat → Nat)   : MUv l yX1_take cX1_take 3 none rmX1_take [.ref (b 19), .ref (b 1)] D cA (cW b ra cA cN cV cM cR kp nu sO tO fS sP sN lA tG) (fun (uu_ : (Nat → Nat) × (Nat → Nat → Nat) × (Nat → Nat) × (Nat → Nat → Nat)) => (∀ x, uu_.1 x = if x = 2 then cN 0 else cN x) ∧ (∀ x c, c < 10 → uu_.2.1 x c = if x = 2 then cV 0 c else cV x c) ∧ (∀ x, uu_.2.2.1 x = if x = 2 then cM 0 else cM x) ∧ (∀ i k, k < 6 → uu_.2.2.2 i k = if 20 ≤ i ∧ i < 30 then cR (i + 0 - 20) k else cR i k)) (fun (uu_ : (Nat → Nat) × (Nat → Nat → Nat) × (Nat → Nat) × (Nat → Nat → Nat)) => cW b ra cA uu_.1 uu_.2.1 uu_.2.2.1 uu_.2.2.2 kp nu sO tO fS sP sN lA tG) 0 0 := by
  refine mu_void rfl (Nat.le_of_ble_eq_true rfl) ?_
  intro p e s m below meth cd Q ls A hx hb hml hown hname hts hP hK hN hD hA hl hret
  have hown : s.vm.findClass RX1 = some m.cls := hown
  have hS : va_S A s.heap s.heap [] := va_S.rf
  have hl : lv_has ls 3 [(0, .ref (b 19)), (1, .ref (b 1))] := hl
  refine lv_aload_n hx hb dX1_take_0 rfl (lv_at hl 0 rfl) ?_
  refine lv_aload_n hx hb dX1_take_1 rfl (lv_at hl 1 rfl) ?_
  refine va_get (D := D) (ci := 1) (v := .int (nI (cN 0))) (C := RX1) (T := TX1) (N := 4) hx hb hts in_X1 hown hK hP 1 rfl xc1 0 (by decide) (hts _ q120) (fun _ h9 => h9) rfl dX1_take_2 ?_
  refine va_put (D := D) (ci := 1) (v := .int (nI (cN 0))) (ty := .int) (C := RX1) (T := TX1) (N := 4) hx hb hts in_X1 tyX1 tyX1_ok nmX1 hown hK hP hD hS 19 rfl xc1 0 (by decide) (hts _ q120) (fun _ h9 => h9) rfl (by decide +kernel) rfl rfl (Nat.le_of_ble_eq_true rfl) dX1_take_5 (fun H locs hP hD hS => ?_)
  have hP : va_P D xCl (cW b ra cA (va_up cN 2 (cN 0)) cV cM cR kp nu sO tO fS sP sN lA tG) H := hP
  have hD : va_D A (cW b ra cA (va_up cN 2 (cN 0)) cV cM cR kp nu sO tO fS sP sN lA tG) := hD
  refine lv_aload_n hx hb dX1_take_8 rfl (lv_at hl 1 rfl) ?_
  refine va_get (D := D) (ci := 1) (v := .ref (b 2)) (C := RX1) (T := TX1) (N := 4) hx hb hts in_X1 hown hK hP 1 rfl xc1 1 (by decide) (hts _ q123) (fun _ h9 => h9) rfl dX1_take_9 ?_
  refine lv_iconst (v := (nI 0)) hx hb dX1_take_12 (by decide) ?_
  refine lv_aload_n hx hb dX1_take_13 rfl (lv_at hl 0 rfl) ?_
  refine va_get (D := D) (ci := 1) (v := .ref (b 20)) (C := RX1) (T := TX1) (N := 4) hx hb hts in_X1 hown hK hP 19 rfl xc1 1 (by decide) (hts _ q123) (fun _ h9 => h9) rfl dX1_take_14 ?_
  refine lv_iconst (v := (nI 0)) hx hb dX1_take_17 (by decide) ?_
  refine lv_bipush (v := (nI 10)) hx hb dX1_take_18 (by decide) ?_
  refine rm_cpy10 hx hb (hml.trans hl.1.symm) hown (hts _ q622) (hts _ q491) (hts _ q490) (hts _ q71) hK hP hD hS 2 20 rfl rfl (ws' := cW b ra cA (va_up cN 2 (cN 0)) (va_up cV 2 (va_cpy (cV 0) (cV 2) 0 0 10)) cM cR kp nu sO tO fS sP sN lA tG) rfl (Nat.le_of_ble_eq_true rfl) (Nat.le_of_ble_eq_true rfl) dX1_take_20 (fun H locs hP hD hS => ?_)
  refine lv_iconst (v := (nI 0)) hx hb dX1_take_23 (by decide) ?_
  refine lv_istore_n (lv' := [(2, .int (nI 0)), (0, .ref (b 19)), (1, .ref (b 1))]) hx hb dX1_take_24 rfl hl (by decide) rfl (fun ls hl => ?_)
  have loop25 : ∀ (N : Nat) (r : Nat) (c1 : Nat → Nat → Nat), 10 - r < N → (r ≤ 10) → (∀ i k, k < 6 → c1 i k = if 20 ≤ i ∧ i < 20 + r then cR (i + 0 - 20) k else cR i k) → ∀ (H : Heap) (locs : List Loc), va_P D xCl (cW b ra cA (va_up cN 2 (cN 0)) (va_up cV 2 (va_cpy (cV 0) (cV 2) 0 0 10)) cM c1 kp nu sO tO fS sP sN lA tG) H → va_D A (cW b ra cA (va_up cN 2 (cN 0)) (va_up cV 2 (va_cpy (cV 0) (cV 2) 0 0 10)) cM c1 kp nu sO tO fS sP sN lA tG) → va_S A s.heap H locs → ∀ (ls : Array Slot), lv_has ls 3 [(2, .int (nI r)), (0, .ref (b 19)), (1, .ref (b 1))] → W p l e rmX1_take s m ([.ref (b 19), .ref (b 1)] : List Value).toArray below meth cd H locs 0 0 Q (F0 m 25 ls []) := by
    intro N
    induction N with
    | zero => intro r c1 hm; exact absurd hm (Nat.not_lt_zero _)
    | succ N ih25 =>
      intro r c1 hm25 i25_0 i25_1 H locs hP hD hS ls hl
      refine lv_iload_n hx hb dX1_take_25 rfl (lv_at hl 0 rfl) ?_
      refine lv_bipush (v := (nI 10)) hx hb dX1_take_26 (by decide) ?_
      refine rm_cge (tgt := 52) hx hb dX1_take_28 (by decide) (by omega) (by decide) (fun q28 => ?_) (fun q28 => ?_)
      · skip
        refine lv_aload_n hx hb dX1_take_52 rfl (lv_at hl 1 rfl) ?_
        refine lv_aload_n hx hb dX1_take_53 rfl (lv_at hl 2 rfl) ?_
        refine va_get (D := D) (ci := 1) (v := .int (nI (cM 0))) (C := RX1) (T := TX1) (N := 4) hx hb hts in_X1 hown hK hP 1 rfl xc1 3 (by decide) (hts _ q127) (fun _ h9 => h9) rfl dX1_take_54 ?_
        refine va_put (D := D) (ci := 1) (v := .int (nI (cM 0))) (ty := .int) (C := RX1) (T := TX1) (N := 4) hx hb hts in_X1 tyX1 tyX1_ok nmX1 hown hK hP hD hS 19 rfl xc1 3 (by decide) (hts _ q127) (fun _ h9 => h9) rfl (by decide +kernel) rfl rfl (Nat.le_of_ble_eq_true rfl) dX1_take_57 (fun H locs hP hD hS => ?_)
        have hP : va_P D xCl (cW b ra cA (va_up cN 2 (cN 0)) (va_up cV 2 (va_cpy (cV 0) (cV 2) 0 0 10)) (va_up cM 2 (cM 0)) c1 kp nu sO tO fS sP sN lA tG) H := hP
        have hD : va_D A (cW b ra cA (va_up cN 2 (cN 0)) (va_up cV 2 (va_cpy (cV 0) (cV 2) 0 0 10)) (va_up cM 2 (cM 0)) c1 kp nu sO tO fS sP sN lA tG) := hD
        exact hret (va_up cN 2 (cN 0), va_up cV 2 (va_cpy (cV 0) (cV 2) 0 0 10), va_up cM 2 (cM 0), c1) _ _ 60 ls ⟨fun x => by show va_up cN 2 (cN 0) x = _; unfold va_up; rfl, fun x c hc => by show va_up cV 2 _ x c = _; unfold va_up; by_cases e : x = 2; (rw [if_pos e, if_pos e]; unfold va_cpy; rw [if_pos (by omega)]; simp); (rw [if_neg e, if_neg e]), fun x => by show va_up cM 2 (cM 0) x = _; unfold va_up; rfl, fun i k hk => by show c1 i k = _; rw [i25_1 i k hk, show r = 10 by omega]⟩ hP hD hS dX1_take_60
      · skip
        refine lv_aload_n hx hb dX1_take_31 rfl (lv_at hl 1 rfl) ?_
        refine va_get (D := D) (ci := 1) (v := .ref (b 21)) (C := RX1) (T := TX1) (N := 4) hx hb hts in_X1 hown hK hP 19 rfl xc1 2 (by decide) (hts _ q125) (fun _ h9 => h9) rfl dX1_take_32 ?_
        refine lv_iload_n hx hb dX1_take_35 rfl (lv_at hl 0 rfl) ?_
        refine rm_ald (x := ra (20 + r)) hx hb hK hP 21 2 rfl (xt2 cA) (by omega) (by decide) rfl dX1_take_36 ?_
        refine lv_aload_n hx hb dX1_take_37 rfl (lv_at hl 2 rfl) ?_
        refine va_get (D := D) (ci := 1) (v := .ref (b 3)) (C := RX1) (T := TX1) (N := 4) hx hb hts in_X1 hown hK hP 1 rfl xc1 2 (by decide) (hts _ q125) (fun _ h9 => h9) rfl dX1_take_38 ?_
        refine lv_iload_n hx hb dX1_take_41 rfl (lv_at hl 0 rfl) ?_
        refine rm_ald (x := ra r) hx hb hK hP 3 2 rfl (xt2 cA) (by omega) (by decide) rfl dX1_take_42 ?_
        refine mu_aVv (ls := ls) (As := [.ref (ra r)]) (rest := []) ⟨hx, hb, hml, hown, hts⟩ (metX2_take l D cA b ra (va_up cN 2 (cN 0)) (va_up cV 2 (va_cpy (cV 0) (cV 2) 0 0 10)) cM c1 kp nu sO tO fS sP sN lA tG (20 + r) r (by omega) (by omega)) (cwX2_take_X1 hts ⟨Nat.le_of_ble_eq_true rfl, Nat.le_of_ble_eq_true rfl⟩) hP hD hS hA hK hN (va_recv hK hP xc2 (q0 := 22 + (20 + r)) (cW_rul (by omega))) rfl hl.1 rfl (Nat.le_of_ble_eq_true rfl) dX1_take_43 ⟨Nat.zero_le _, Nat.zero_le _⟩ (fun u1 H locs w1 hP hD hS => ?_)
        obtain ⟨cR_1, e1⟩ : ∃ z, z = u1 := ⟨_, rfl⟩
        subst e1
        have hP : va_P D xCl (cW b ra cA (va_up cN 2 (cN 0)) (va_up cV 2 (va_cpy (cV 0) (cV 2) 0 0 10)) cM cR_1 kp nu sO tO fS sP sN lA tG) H := hP
        have hD : va_D A (cW b ra cA (va_up cN 2 (cN 0)) (va_up cV 2 (va_cpy (cV 0) (cV 2) 0 0 10)) cM cR_1 kp nu sO tO fS sP sN lA tG) := hD
        refine lv_iinc (v := (nI (r + 1))) (lv' := [(2, .int (nI (r + 1))), (0, .ref (b 19)), (1, .ref (b 1))]) hx hb dX1_take_46 hl (k := 0) rfl (rm_inc r 1) (by decide) rfl (fun ls hl => ?_)
        refine lv_goto (tgt := 25) hx hb dX1_take_49 (by decide) ?_
        exact ih25 (r + 1) _ (by omega) (by omega) (fun i k hk => by rw [w1 i k hk]; by_cases e : i = 20 + r; (have h1 := i25_1 (r) k hk; subst e; rw [if_pos rfl, h1, if_neg (by omega), if_pos (by omega)]; congr 1; omega); (rw [if_neg e, i25_1 i k hk]; by_cases e2 : 20 ≤ i ∧ i < 20 + r; (rw [if_pos e2, if_pos (by omega)]); (rw [if_neg e2, if_neg (by omega)]))) _ _ hP hD hS ls hl
  exact loop25 _ 0 _ (Nat.lt_succ_self _) (by omega) (fun i k _ => by rw [if_neg (by omega)]) _ _ hP hD hS ls hl
set_option maxHeartbeats 4000000 in
theorem metX1_take_01 (l : Launch) (D : va_G) (cA : Nat → ClassId) (b ra : Nat → Nat) (cN : Nat → Nat) (cV : Nat → Nat → Nat) (cM : Nat → Nat) (cR : Nat → Nat → Nat) (kp : Nat → Bool) (nu : Nat → Option Nat) (sO tO fS sP : Nat → Nat) (sN lA : Nat → Option Nat) (tG : Nat → Nat)   : MUv l yX1_take cX1_take 3 none rmX1_take [.ref (b 1), .ref (b 16)] D cA (cW b ra cA cN cV cM cR kp nu sO tO fS sP sN lA tG) (fun (uu_ : (Nat → Nat) × (Nat → Nat → Nat) × (Nat → Nat) × (Nat → Nat → Nat)) => (∀ x, uu_.1 x = if x = 0 then cN 1 else cN x) ∧ (∀ x c, c < 10 → uu_.2.1 x c = if x = 0 then cV 1 c else cV x c) ∧ (∀ x, uu_.2.2.1 x = if x = 0 then cM 1 else cM x) ∧ (∀ i k, k < 6 → uu_.2.2.2 i k = if 0 ≤ i ∧ i < 10 then cR (i + 10 - 0) k else cR i k)) (fun (uu_ : (Nat → Nat) × (Nat → Nat → Nat) × (Nat → Nat) × (Nat → Nat → Nat)) => cW b ra cA uu_.1 uu_.2.1 uu_.2.2.1 uu_.2.2.2 kp nu sO tO fS sP sN lA tG) 0 0 := by
  refine mu_void rfl (Nat.le_of_ble_eq_true rfl) ?_
  intro p e s m below meth cd Q ls A hx hb hml hown hname hts hP hK hN hD hA hl hret
  have hown : s.vm.findClass RX1 = some m.cls := hown
  have hS : va_S A s.heap s.heap [] := va_S.rf
  have hl : lv_has ls 3 [(0, .ref (b 1)), (1, .ref (b 16))] := hl
  refine lv_aload_n hx hb dX1_take_0 rfl (lv_at hl 0 rfl) ?_
  refine lv_aload_n hx hb dX1_take_1 rfl (lv_at hl 1 rfl) ?_
  refine va_get (D := D) (ci := 1) (v := .int (nI (cN 1))) (C := RX1) (T := TX1) (N := 4) hx hb hts in_X1 hown hK hP 16 rfl xc1 0 (by decide) (hts _ q120) (fun _ h9 => h9) rfl dX1_take_2 ?_
  refine va_put (D := D) (ci := 1) (v := .int (nI (cN 1))) (ty := .int) (C := RX1) (T := TX1) (N := 4) hx hb hts in_X1 tyX1 tyX1_ok nmX1 hown hK hP hD hS 1 rfl xc1 0 (by decide) (hts _ q120) (fun _ h9 => h9) rfl (by decide +kernel) rfl rfl (Nat.le_of_ble_eq_true rfl) dX1_take_5 (fun H locs hP hD hS => ?_)
  have hP : va_P D xCl (cW b ra cA (va_up cN 0 (cN 1)) cV cM cR kp nu sO tO fS sP sN lA tG) H := hP
  have hD : va_D A (cW b ra cA (va_up cN 0 (cN 1)) cV cM cR kp nu sO tO fS sP sN lA tG) := hD
  refine lv_aload_n hx hb dX1_take_8 rfl (lv_at hl 1 rfl) ?_
  refine va_get (D := D) (ci := 1) (v := .ref (b 17)) (C := RX1) (T := TX1) (N := 4) hx hb hts in_X1 hown hK hP 16 rfl xc1 1 (by decide) (hts _ q123) (fun _ h9 => h9) rfl dX1_take_9 ?_
  refine lv_iconst (v := (nI 0)) hx hb dX1_take_12 (by decide) ?_
  refine lv_aload_n hx hb dX1_take_13 rfl (lv_at hl 0 rfl) ?_
  refine va_get (D := D) (ci := 1) (v := .ref (b 2)) (C := RX1) (T := TX1) (N := 4) hx hb hts in_X1 hown hK hP 1 rfl xc1 1 (by decide) (hts _ q123) (fun _ h9 => h9) rfl dX1_take_14 ?_
  refine lv_iconst (v := (nI 0)) hx hb dX1_take_17 (by decide) ?_
  refine lv_bipush (v := (nI 10)) hx hb dX1_take_18 (by decide) ?_
  refine rm_cpy10 hx hb (hml.trans hl.1.symm) hown (hts _ q622) (hts _ q491) (hts _ q490) (hts _ q71) hK hP hD hS 17 2 rfl rfl (ws' := cW b ra cA (va_up cN 0 (cN 1)) (va_up cV 0 (va_cpy (cV 1) (cV 0) 0 0 10)) cM cR kp nu sO tO fS sP sN lA tG) rfl (Nat.le_of_ble_eq_true rfl) (Nat.le_of_ble_eq_true rfl) dX1_take_20 (fun H locs hP hD hS => ?_)
  refine lv_iconst (v := (nI 0)) hx hb dX1_take_23 (by decide) ?_
  refine lv_istore_n (lv' := [(2, .int (nI 0)), (0, .ref (b 1)), (1, .ref (b 16))]) hx hb dX1_take_24 rfl hl (by decide) rfl (fun ls hl => ?_)
  have loop25 : ∀ (N : Nat) (r : Nat) (c1 : Nat → Nat → Nat), 10 - r < N → (r ≤ 10) → (∀ i k, k < 6 → c1 i k = if 0 ≤ i ∧ i < 0 + r then cR (i + 10 - 0) k else cR i k) → ∀ (H : Heap) (locs : List Loc), va_P D xCl (cW b ra cA (va_up cN 0 (cN 1)) (va_up cV 0 (va_cpy (cV 1) (cV 0) 0 0 10)) cM c1 kp nu sO tO fS sP sN lA tG) H → va_D A (cW b ra cA (va_up cN 0 (cN 1)) (va_up cV 0 (va_cpy (cV 1) (cV 0) 0 0 10)) cM c1 kp nu sO tO fS sP sN lA tG) → va_S A s.heap H locs → ∀ (ls : Array Slot), lv_has ls 3 [(2, .int (nI r)), (0, .ref (b 1)), (1, .ref (b 16))] → W p l e rmX1_take s m ([.ref (b 1), .ref (b 16)] : List Value).toArray below meth cd H locs 0 0 Q (F0 m 25 ls []) := by
    intro N
    induction N with
    | zero => intro r c1 hm; exact absurd hm (Nat.not_lt_zero _)
    | succ N ih25 =>
      intro r c1 hm25 i25_0 i25_1 H locs hP hD hS ls hl
      refine lv_iload_n hx hb dX1_take_25 rfl (lv_at hl 0 rfl) ?_
      refine lv_bipush (v := (nI 10)) hx hb dX1_take_26 (by decide) ?_
      refine rm_cge (tgt := 52) hx hb dX1_take_28 (by decide) (by omega) (by decide) (fun q28 => ?_) (fun q28 => ?_)
      · skip
        refine lv_aload_n hx hb dX1_take_52 rfl (lv_at hl 1 rfl) ?_
        refine lv_aload_n hx hb dX1_take_53 rfl (lv_at hl 2 rfl) ?_
        refine va_get (D := D) (ci := 1) (v := .int (nI (cM 1))) (C := RX1) (T := TX1) (N := 4) hx hb hts in_X1 hown hK hP 16 rfl xc1 3 (by decide) (hts _ q127) (fun _ h9 => h9) rfl dX1_take_54 ?_
        refine va_put (D := D) (ci := 1) (v := .int (nI (cM 1))) (ty := .int) (C := RX1) (T := TX1) (N := 4) hx hb hts in_X1 tyX1 tyX1_ok nmX1 hown hK hP hD hS 1 rfl xc1 3 (by decide) (hts _ q127) (fun _ h9 => h9) rfl (by decide +kernel) rfl rfl (Nat.le_of_ble_eq_true rfl) dX1_take_57 (fun H locs hP hD hS => ?_)
        have hP : va_P D xCl (cW b ra cA (va_up cN 0 (cN 1)) (va_up cV 0 (va_cpy (cV 1) (cV 0) 0 0 10)) (va_up cM 0 (cM 1)) c1 kp nu sO tO fS sP sN lA tG) H := hP
        have hD : va_D A (cW b ra cA (va_up cN 0 (cN 1)) (va_up cV 0 (va_cpy (cV 1) (cV 0) 0 0 10)) (va_up cM 0 (cM 1)) c1 kp nu sO tO fS sP sN lA tG) := hD
        exact hret (va_up cN 0 (cN 1), va_up cV 0 (va_cpy (cV 1) (cV 0) 0 0 10), va_up cM 0 (cM 1), c1) _ _ 60 ls ⟨fun x => by show va_up cN 0 (cN 1) x = _; unfold va_up; rfl, fun x c hc => by show va_up cV 0 _ x c = _; unfold va_up; by_cases e : x = 0; (rw [if_pos e, if_pos e]; unfold va_cpy; rw [if_pos (by omega)]; simp); (rw [if_neg e, if_neg e]), fun x => by show va_up cM 0 (cM 1) x = _; unfold va_up; rfl, fun i k hk => by show c1 i k = _; rw [i25_1 i k hk, show r = 10 by omega]⟩ hP hD hS dX1_take_60
      · skip
        refine lv_aload_n hx hb dX1_take_31 rfl (lv_at hl 1 rfl) ?_
        refine va_get (D := D) (ci := 1) (v := .ref (b 3)) (C := RX1) (T := TX1) (N := 4) hx hb hts in_X1 hown hK hP 1 rfl xc1 2 (by decide) (hts _ q125) (fun _ h9 => h9) rfl dX1_take_32 ?_
        refine lv_iload_n hx hb dX1_take_35 rfl (lv_at hl 0 rfl) ?_
        refine rm_ald (x := ra r) hx hb hK hP 3 2 rfl (xt2 cA) (by omega) (by decide) rfl dX1_take_36 ?_
        refine lv_aload_n hx hb dX1_take_37 rfl (lv_at hl 2 rfl) ?_
        refine va_get (D := D) (ci := 1) (v := .ref (b 18)) (C := RX1) (T := TX1) (N := 4) hx hb hts in_X1 hown hK hP 16 rfl xc1 2 (by decide) (hts _ q125) (fun _ h9 => h9) rfl dX1_take_38 ?_
        refine lv_iload_n hx hb dX1_take_41 rfl (lv_at hl 0 rfl) ?_
        refine rm_ald (x := ra (10 + r)) hx hb hK hP 18 2 rfl (xt2 cA) (by omega) (by decide) rfl dX1_take_42 ?_
        refine mu_aVv (ls := ls) (As := [.ref (ra (10 + r))]) (rest := []) ⟨hx, hb, hml, hown, hts⟩ (metX2_take l D cA b ra (va_up cN 0 (cN 1)) (va_up cV 0 (va_cpy (cV 1) (cV 0) 0 0 10)) cM c1 kp nu sO tO fS sP sN lA tG r (10 + r) (by omega) (by omega)) (cwX2_take_X1 hts ⟨Nat.le_of_ble_eq_true rfl, Nat.le_of_ble_eq_true rfl⟩) hP hD hS hA hK hN (va_recv hK hP xc2 (q0 := 22 + r) (cW_rul (by omega))) rfl hl.1 rfl (Nat.le_of_ble_eq_true rfl) dX1_take_43 ⟨Nat.zero_le _, Nat.zero_le _⟩ (fun u1 H locs w1 hP hD hS => ?_)
        obtain ⟨cR_1, e1⟩ : ∃ z, z = u1 := ⟨_, rfl⟩
        subst e1
        have hP : va_P D xCl (cW b ra cA (va_up cN 0 (cN 1)) (va_up cV 0 (va_cpy (cV 1) (cV 0) 0 0 10)) cM cR_1 kp nu sO tO fS sP sN lA tG) H := hP
        have hD : va_D A (cW b ra cA (va_up cN 0 (cN 1)) (va_up cV 0 (va_cpy (cV 1) (cV 0) 0 0 10)) cM cR_1 kp nu sO tO fS sP sN lA tG) := hD
        refine lv_iinc (v := (nI (r + 1))) (lv' := [(2, .int (nI (r + 1))), (0, .ref (b 1)), (1, .ref (b 16))]) hx hb dX1_take_46 hl (k := 0) rfl (rm_inc r 1) (by decide) rfl (fun ls hl => ?_)
        refine lv_goto (tgt := 25) hx hb dX1_take_49 (by decide) ?_
        exact ih25 (r + 1) _ (by omega) (by omega) (fun i k hk => by rw [w1 i k hk]; by_cases e : i = r; (have h1 := i25_1 (10 + r) k hk; subst e; rw [if_pos rfl, h1, if_neg (by omega), if_pos (by omega)]; congr 1; omega); (rw [if_neg e, i25_1 i k hk]; by_cases e2 : 0 ≤ i ∧ i < 0 + r; (rw [if_pos e2, if_pos (by omega)]); (rw [if_neg e2, if_neg (by omega)]))) _ _ hP hD hS ls hl
  exact loop25 _ 0 _ (Nat.lt_succ_self _) (by omega) (fun i k _ => by rw [if_neg (by omega)]) _ _ hP hD hS ls hl
set_option maxHeartbeats 4000000 in
theorem metX1_take_02 (l : Launch) (D : va_G) (cA : Nat → ClassId) (b ra : Nat → Nat) (cN : Nat → Nat) (cV : Nat → Nat → Nat) (cM : Nat → Nat) (cR : Nat → Nat → Nat) (kp : Nat → Bool) (nu : Nat → Option Nat) (sO tO fS sP : Nat → Nat) (sN lA : Nat → Option Nat) (tG : Nat → Nat)   : MUv l yX1_take cX1_take 3 none rmX1_take [.ref (b 1), .ref (b 19)] D cA (cW b ra cA cN cV cM cR kp nu sO tO fS sP sN lA tG) (fun (uu_ : (Nat → Nat) × (Nat → Nat → Nat) × (Nat → Nat) × (Nat → Nat → Nat)) => (∀ x, uu_.1 x = if x = 0 then cN 2 else cN x) ∧ (∀ x c, c < 10 → uu_.2.1 x c = if x = 0 then cV 2 c else cV x c) ∧ (∀ x, uu_.2.2.1 x = if x = 0 then cM 2 else cM x) ∧ (∀ i k, k < 6 → uu_.2.2.2 i k = if 0 ≤ i ∧ i < 10 then cR (i + 20 - 0) k else cR i k)) (fun (uu_ : (Nat → Nat) × (Nat → Nat → Nat) × (Nat → Nat) × (Nat → Nat → Nat)) => cW b ra cA uu_.1 uu_.2.1 uu_.2.2.1 uu_.2.2.2 kp nu sO tO fS sP sN lA tG) 0 0 := by
  refine mu_void rfl (Nat.le_of_ble_eq_true rfl) ?_
  intro p e s m below meth cd Q ls A hx hb hml hown hname hts hP hK hN hD hA hl hret
  have hown : s.vm.findClass RX1 = some m.cls := hown
  have hS : va_S A s.heap s.heap [] := va_S.rf
  have hl : lv_has ls 3 [(0, .ref (b 1)), (1, .ref (b 19))] := hl
  refine lv_aload_n hx hb dX1_take_0 rfl (lv_at hl 0 rfl) ?_
  refine lv_aload_n hx hb dX1_take_1 rfl (lv_at hl 1 rfl) ?_
  refine va_get (D := D) (ci := 1) (v := .int (nI (cN 2))) (C := RX1) (T := TX1) (N := 4) hx hb hts in_X1 hown hK hP 19 rfl xc1 0 (by decide) (hts _ q120) (fun _ h9 => h9) rfl dX1_take_2 ?_
  refine va_put (D := D) (ci := 1) (v := .int (nI (cN 2))) (ty := .int) (C := RX1) (T := TX1) (N := 4) hx hb hts in_X1 tyX1 tyX1_ok nmX1 hown hK hP hD hS 1 rfl xc1 0 (by decide) (hts _ q120) (fun _ h9 => h9) rfl (by decide +kernel) rfl rfl (Nat.le_of_ble_eq_true rfl) dX1_take_5 (fun H locs hP hD hS => ?_)
  have hP : va_P D xCl (cW b ra cA (va_up cN 0 (cN 2)) cV cM cR kp nu sO tO fS sP sN lA tG) H := hP
  have hD : va_D A (cW b ra cA (va_up cN 0 (cN 2)) cV cM cR kp nu sO tO fS sP sN lA tG) := hD
  refine lv_aload_n hx hb dX1_take_8 rfl (lv_at hl 1 rfl) ?_
  refine va_get (D := D) (ci := 1) (v := .ref (b 20)) (C := RX1) (T := TX1) (N := 4) hx hb hts in_X1 hown hK hP 19 rfl xc1 1 (by decide) (hts _ q123) (fun _ h9 => h9) rfl dX1_take_9 ?_
  refine lv_iconst (v := (nI 0)) hx hb dX1_take_12 (by decide) ?_
  refine lv_aload_n hx hb dX1_take_13 rfl (lv_at hl 0 rfl) ?_
  refine va_get (D := D) (ci := 1) (v := .ref (b 2)) (C := RX1) (T := TX1) (N := 4) hx hb hts in_X1 hown hK hP 1 rfl xc1 1 (by decide) (hts _ q123) (fun _ h9 => h9) rfl dX1_take_14 ?_
  refine lv_iconst (v := (nI 0)) hx hb dX1_take_17 (by decide) ?_
  refine lv_bipush (v := (nI 10)) hx hb dX1_take_18 (by decide) ?_
  refine rm_cpy10 hx hb (hml.trans hl.1.symm) hown (hts _ q622) (hts _ q491) (hts _ q490) (hts _ q71) hK hP hD hS 20 2 rfl rfl (ws' := cW b ra cA (va_up cN 0 (cN 2)) (va_up cV 0 (va_cpy (cV 2) (cV 0) 0 0 10)) cM cR kp nu sO tO fS sP sN lA tG) rfl (Nat.le_of_ble_eq_true rfl) (Nat.le_of_ble_eq_true rfl) dX1_take_20 (fun H locs hP hD hS => ?_)
  refine lv_iconst (v := (nI 0)) hx hb dX1_take_23 (by decide) ?_
  refine lv_istore_n (lv' := [(2, .int (nI 0)), (0, .ref (b 1)), (1, .ref (b 19))]) hx hb dX1_take_24 rfl hl (by decide) rfl (fun ls hl => ?_)
  have loop25 : ∀ (N : Nat) (r : Nat) (c1 : Nat → Nat → Nat), 10 - r < N → (r ≤ 10) → (∀ i k, k < 6 → c1 i k = if 0 ≤ i ∧ i < 0 + r then cR (i + 20 - 0) k else cR i k) → ∀ (H : Heap) (locs : List Loc), va_P D xCl (cW b ra cA (va_up cN 0 (cN 2)) (va_up cV 0 (va_cpy (cV 2) (cV 0) 0 0 10)) cM c1 kp nu sO tO fS sP sN lA tG) H → va_D A (cW b ra cA (va_up cN 0 (cN 2)) (va_up cV 0 (va_cpy (cV 2) (cV 0) 0 0 10)) cM c1 kp nu sO tO fS sP sN lA tG) → va_S A s.heap H locs → ∀ (ls : Array Slot), lv_has ls 3 [(2, .int (nI r)), (0, .ref (b 1)), (1, .ref (b 19))] → W p l e rmX1_take s m ([.ref (b 1), .ref (b 19)] : List Value).toArray below meth cd H locs 0 0 Q (F0 m 25 ls []) := by
    intro N
    induction N with
    | zero => intro r c1 hm; exact absurd hm (Nat.not_lt_zero _)
    | succ N ih25 =>
      intro r c1 hm25 i25_0 i25_1 H locs hP hD hS ls hl
      refine lv_iload_n hx hb dX1_take_25 rfl (lv_at hl 0 rfl) ?_
      refine lv_bipush (v := (nI 10)) hx hb dX1_take_26 (by decide) ?_
      refine rm_cge (tgt := 52) hx hb dX1_take_28 (by decide) (by omega) (by decide) (fun q28 => ?_) (fun q28 => ?_)
      · skip
        refine lv_aload_n hx hb dX1_take_52 rfl (lv_at hl 1 rfl) ?_
        refine lv_aload_n hx hb dX1_take_53 rfl (lv_at hl 2 rfl) ?_
        refine va_get (D := D) (ci := 1) (v := .int (nI (cM 2))) (C := RX1) (T := TX1) (N := 4) hx hb hts in_X1 hown hK hP 19 rfl xc1 3 (by decide) (hts _ q127) (fun _ h9 => h9) rfl dX1_take_54 ?_
        refine va_put (D := D) (ci := 1) (v := .int (nI (cM 2))) (ty := .int) (C := RX1) (T := TX1) (N := 4) hx hb hts in_X1 tyX1 tyX1_ok nmX1 hown hK hP hD hS 1 rfl xc1 3 (by decide) (hts _ q127) (fun _ h9 => h9) rfl (by decide +kernel) rfl rfl (Nat.le_of_ble_eq_true rfl) dX1_take_57 (fun H locs hP hD hS => ?_)
        have hP : va_P D xCl (cW b ra cA (va_up cN 0 (cN 2)) (va_up cV 0 (va_cpy (cV 2) (cV 0) 0 0 10)) (va_up cM 0 (cM 2)) c1 kp nu sO tO fS sP sN lA tG) H := hP
        have hD : va_D A (cW b ra cA (va_up cN 0 (cN 2)) (va_up cV 0 (va_cpy (cV 2) (cV 0) 0 0 10)) (va_up cM 0 (cM 2)) c1 kp nu sO tO fS sP sN lA tG) := hD
        exact hret (va_up cN 0 (cN 2), va_up cV 0 (va_cpy (cV 2) (cV 0) 0 0 10), va_up cM 0 (cM 2), c1) _ _ 60 ls ⟨fun x => by show va_up cN 0 (cN 2) x = _; unfold va_up; rfl, fun x c hc => by show va_up cV 0 _ x c = _; unfold va_up; by_cases e : x = 0; (rw [if_pos e, if_pos e]; unfold va_cpy; rw [if_pos (by omega)]; simp); (rw [if_neg e, if_neg e]), fun x => by show va_up cM 0 (cM 2) x = _; unfold va_up; rfl, fun i k hk => by show c1 i k = _; rw [i25_1 i k hk, show r = 10 by omega]⟩ hP hD hS dX1_take_60
      · skip
        refine lv_aload_n hx hb dX1_take_31 rfl (lv_at hl 1 rfl) ?_
        refine va_get (D := D) (ci := 1) (v := .ref (b 3)) (C := RX1) (T := TX1) (N := 4) hx hb hts in_X1 hown hK hP 1 rfl xc1 2 (by decide) (hts _ q125) (fun _ h9 => h9) rfl dX1_take_32 ?_
        refine lv_iload_n hx hb dX1_take_35 rfl (lv_at hl 0 rfl) ?_
        refine rm_ald (x := ra r) hx hb hK hP 3 2 rfl (xt2 cA) (by omega) (by decide) rfl dX1_take_36 ?_
        refine lv_aload_n hx hb dX1_take_37 rfl (lv_at hl 2 rfl) ?_
        refine va_get (D := D) (ci := 1) (v := .ref (b 21)) (C := RX1) (T := TX1) (N := 4) hx hb hts in_X1 hown hK hP 19 rfl xc1 2 (by decide) (hts _ q125) (fun _ h9 => h9) rfl dX1_take_38 ?_
        refine lv_iload_n hx hb dX1_take_41 rfl (lv_at hl 0 rfl) ?_
        refine rm_ald (x := ra (20 + r)) hx hb hK hP 21 2 rfl (xt2 cA) (by omega) (by decide) rfl dX1_take_42 ?_
        refine mu_aVv (ls := ls) (As := [.ref (ra (20 + r))]) (rest := []) ⟨hx, hb, hml, hown, hts⟩ (metX2_take l D cA b ra (va_up cN 0 (cN 2)) (va_up cV 0 (va_cpy (cV 2) (cV 0) 0 0 10)) cM c1 kp nu sO tO fS sP sN lA tG r (20 + r) (by omega) (by omega)) (cwX2_take_X1 hts ⟨Nat.le_of_ble_eq_true rfl, Nat.le_of_ble_eq_true rfl⟩) hP hD hS hA hK hN (va_recv hK hP xc2 (q0 := 22 + r) (cW_rul (by omega))) rfl hl.1 rfl (Nat.le_of_ble_eq_true rfl) dX1_take_43 ⟨Nat.zero_le _, Nat.zero_le _⟩ (fun u1 H locs w1 hP hD hS => ?_)
        obtain ⟨cR_1, e1⟩ : ∃ z, z = u1 := ⟨_, rfl⟩
        subst e1
        have hP : va_P D xCl (cW b ra cA (va_up cN 0 (cN 2)) (va_up cV 0 (va_cpy (cV 2) (cV 0) 0 0 10)) cM cR_1 kp nu sO tO fS sP sN lA tG) H := hP
        have hD : va_D A (cW b ra cA (va_up cN 0 (cN 2)) (va_up cV 0 (va_cpy (cV 2) (cV 0) 0 0 10)) cM cR_1 kp nu sO tO fS sP sN lA tG) := hD
        refine lv_iinc (v := (nI (r + 1))) (lv' := [(2, .int (nI (r + 1))), (0, .ref (b 1)), (1, .ref (b 19))]) hx hb dX1_take_46 hl (k := 0) rfl (rm_inc r 1) (by decide) rfl (fun ls hl => ?_)
        refine lv_goto (tgt := 25) hx hb dX1_take_49 (by decide) ?_
        exact ih25 (r + 1) _ (by omega) (by omega) (fun i k hk => by rw [w1 i k hk]; by_cases e : i = r; (have h1 := i25_1 (20 + r) k hk; subst e; rw [if_pos rfl, h1, if_neg (by omega), if_pos (by omega)]; congr 1; omega); (rw [if_neg e, i25_1 i k hk]; by_cases e2 : 0 ≤ i ∧ i < 0 + r; (rw [if_pos e2, if_pos (by omega)]); (rw [if_neg e2, if_neg (by omega)]))) _ _ hP hD hS ls hl
  exact loop25 _ 0 _ (Nat.lt_succ_self _) (by omega) (fun i k _ => by rw [if_neg (by omega)]) _ _ hP hD hS ls hl
