set_option maxRecDepth 100000

abbrev rmX0_image : Room := { frames := 2, cells := 0, slots := 0, locals := 86 }
set_option maxHeartbeats 4000000 in
theorem metX0_image (l : Launch) (D : va_G) (cA : Nat → ClassId) (b ra : Nat → Nat) (cN : Nat → Nat) (cV : Nat → Nat → Nat) (cM : Nat → Nat) (cR : Nat → Nat → Nat) (kp : Nat → Bool) (nu : Nat → Option Nat) (sO tO fS sP : Nat → Nat) (sN lA : Nat → Option Nat) (tG : Nat → Nat) (v : Int32)  : MUi l yX0_image cX0_image 2 (some .int) rmX0_image [.ref (b 0), .int v] D cA (cW b ra cA cN cV cM cR kp nu sO tO fS sP sN lA tG) (fun (res_ : Int32) (uu_ : (Nat → Nat) × (Nat → Nat → Nat) × (Nat → Nat) × (Nat → Nat → Nat) × (Nat → Bool)) => res_ = (imgR v) ∧ (∀ x, uu_.1 x = if inI 0 1 v = true ∧ x = v.toNatClampNeg + 1 then cN 0 else cN x) ∧ (∀ x c, c < 10 → uu_.2.1 x c = if inI 0 1 v = true ∧ x = v.toNatClampNeg + 1 then cV 0 c else cV x c) ∧ (∀ x, uu_.2.2.1 x = if inI 0 1 v = true ∧ x = v.toNatClampNeg + 1 then cM 0 else cM x) ∧ (∀ i k, k < 6 → uu_.2.2.2.1 i k = if inI 0 1 v = true ∧ 10 * (v.toNatClampNeg + 1) ≤ i ∧ i < 10 * (v.toNatClampNeg + 1) + 10 then cR (i - 10 * (v.toNatClampNeg + 1)) k else cR i k) ∧ (∀ i, uu_.2.2.2.2 i = if inI 0 1 v = true ∧ i = v.toNatClampNeg then true else kp i)) (fun (uu_ : (Nat → Nat) × (Nat → Nat → Nat) × (Nat → Nat) × (Nat → Nat → Nat) × (Nat → Bool)) => cW b ra cA uu_.1 uu_.2.1 uu_.2.2.1 uu_.2.2.2.1 uu_.2.2.2.2 nu sO tO fS sP sN lA tG) 0 0 := by
  refine mu_int rfl (Nat.le_of_ble_eq_true rfl) ?_
  intro p e s m below meth cd Q ls A hx hb hml hown hts hP hK hN hD hA hl hret
  have hown : s.vm.findClass RX0 = some m.cls := hown
  have hS : va_S A s.heap s.heap [] := va_S.rf
  have hl : lv_has ls 2 [(0, .ref (b 0)), (1, .int v)] := hl
  refine lv_iload_n hx hb dX0_image_0 rfl (lv_at hl 1 rfl) ?_
  refine rm_cS (ls := ls) (As := [.int v]) (rest := []) ⟨hx, hb, hml, hown, hts⟩ (metX0_isEnd l v ) (cwX0_isEnd_X0 hts ⟨Nat.le_of_ble_eq_true rfl, Nat.le_of_ble_eq_true rfl⟩) noB rfl hl.1 rfl (Nat.le_of_ble_eq_true rfl) dX0_image_1 ⟨Nat.zero_le _, Nat.zero_le _⟩ ?_
  refine rm_bne (tgt := 10) hx hb dX0_image_4 (by decide) (fun q4 => ?_) (fun q4 => ?_)
  · skip
    have hV : inI 0 1 v = true := q4
    obtain ⟨t, ht0, ht2, rfl⟩ := (inI_iff (lo := 0) (hi := 1) (by decide) (by decide)).mp q4
    have ht : t = 0 ∨ t = 1 := by omega
    rcases ht with rfl | rfl
    · skip
      refine lv_aload_n hx hb dX0_image_10 rfl (lv_at hl 0 rfl) ?_
      refine va_get (D := D) (ci := 0) (v := .ref (b 4)) (C := RX0) (T := TX0) (N := 13) hx hb hts in_X0 hown hK hP 0 rfl xc0 1 (by decide) (hts _ q171) (fun _ h9 => h9) rfl dX0_image_11 ?_
      refine lv_iload_n hx hb dX0_image_14 rfl (lv_at hl 1 rfl) ?_
      refine rm_ald (x := b 16) hx hb hK hP 4 3 rfl (xt3 cA) (by omega) (by decide) rfl dX0_image_15 ?_
      refine lv_aload_n hx hb dX0_image_16 rfl (lv_at hl 0 rfl) ?_
      refine va_get (D := D) (ci := 0) (v := .ref (b 1)) (C := RX0) (T := TX0) (N := 13) hx hb hts in_X0 hown hK hP 0 rfl xc0 0 (by decide) (hts _ q170) (fun _ h9 => h9) rfl dX0_image_17 ?_
      refine mu_aVv (ls := ls) (As := [.ref (b 1)]) (rest := []) ⟨hx, hb, hml, hown, hts⟩ (metX1_take_10 l D cA b ra cN cV cM cR kp nu sO tO fS sP sN lA tG  ) (cwX1_take_X0 hts ⟨Nat.le_of_ble_eq_true rfl, Nat.le_of_ble_eq_true rfl⟩) hP hD hS hA hK hN (va_recv hK hP xc1 (q0 := 16) rfl) rfl hl.1 rfl (Nat.le_of_ble_eq_true rfl) dX0_image_20 ⟨Nat.zero_le _, Nat.zero_le _⟩ (fun u1 H locs w1 hP hD hS => ?_)
      obtain ⟨cN_1, cV_1, cM_1, cR_1⟩ := u1
      try dsimp only at w1
      have hP : va_P D xCl (cW b ra cA cN_1 cV_1 cM_1 cR_1 kp nu sO tO fS sP sN lA tG) H := hP
      have hD : va_D A (cW b ra cA cN_1 cV_1 cM_1 cR_1 kp nu sO tO fS sP sN lA tG) := hD
      refine lv_aload_n hx hb dX0_image_23 rfl (lv_at hl 0 rfl) ?_
      refine va_get (D := D) (ci := 0) (v := .ref (b 5)) (C := RX0) (T := TX0) (N := 13) hx hb hts in_X0 hown hK hP 0 rfl xc0 2 (by decide) (hts _ q172) (fun _ h9 => h9) rfl dX0_image_24 ?_
      refine lv_iload_n hx hb dX0_image_27 rfl (lv_at hl 1 rfl) ?_
      refine lv_iconst (v := (bI true)) hx hb dX0_image_28 (by decide) ?_
      refine rm_zst hx hb hK hP hD hS 5 rfl (by omega) (by decide) (ws' := cW b ra cA cN_1 cV_1 cM_1 cR_1 (va_up kp 0 true) nu sO tO fS sP sN lA tG) rfl dX0_image_29 (fun H locs hP hD hS => ?_)
      refine lv_iconst (v := (nI 1)) hx hb dX0_image_30 (by decide) ?_
      exact hret _ (cN_1, cV_1, cM_1, cR_1, va_up kp 0 true) _ _ 31 ls ⟨by unfold imgR; rw [if_pos hV]; rfl, fun x => by show cN_1 x = _; rw [w1.1 x, hV, nI_clamp (by decide)]; simp, fun x c hc => by show cV_1 x c = _; rw [w1.2.1 x c hc, hV, nI_clamp (by decide)]; simp, fun x => by show cM_1 x = _; rw [w1.2.2.1 x, hV, nI_clamp (by decide)]; simp, fun i k hk => by show cR_1 i k = _; rw [w1.2.2.2 i k hk, hV, nI_clamp (by decide)]; by_cases e : 10 ≤ i ∧ i < 20; (rw [if_pos e, if_pos ⟨rfl, by omega, by omega⟩]; rfl); (rw [if_neg e, if_neg (fun h => e ⟨by omega, by omega⟩)]), fun i => by show va_up kp 0 true i = _; rw [hV, nI_clamp (by decide)]; unfold va_up; simp⟩ hP hD hS dX0_image_31
    · skip
      refine lv_aload_n hx hb dX0_image_10 rfl (lv_at hl 0 rfl) ?_
      refine va_get (D := D) (ci := 0) (v := .ref (b 4)) (C := RX0) (T := TX0) (N := 13) hx hb hts in_X0 hown hK hP 0 rfl xc0 1 (by decide) (hts _ q171) (fun _ h9 => h9) rfl dX0_image_11 ?_
      refine lv_iload_n hx hb dX0_image_14 rfl (lv_at hl 1 rfl) ?_
      refine rm_ald (x := b 19) hx hb hK hP 4 3 rfl (xt3 cA) (by omega) (by decide) rfl dX0_image_15 ?_
      refine lv_aload_n hx hb dX0_image_16 rfl (lv_at hl 0 rfl) ?_
      refine va_get (D := D) (ci := 0) (v := .ref (b 1)) (C := RX0) (T := TX0) (N := 13) hx hb hts in_X0 hown hK hP 0 rfl xc0 0 (by decide) (hts _ q170) (fun _ h9 => h9) rfl dX0_image_17 ?_
      refine mu_aVv (ls := ls) (As := [.ref (b 1)]) (rest := []) ⟨hx, hb, hml, hown, hts⟩ (metX1_take_20 l D cA b ra cN cV cM cR kp nu sO tO fS sP sN lA tG  ) (cwX1_take_X0 hts ⟨Nat.le_of_ble_eq_true rfl, Nat.le_of_ble_eq_true rfl⟩) hP hD hS hA hK hN (va_recv hK hP xc1 (q0 := 19) rfl) rfl hl.1 rfl (Nat.le_of_ble_eq_true rfl) dX0_image_20 ⟨Nat.zero_le _, Nat.zero_le _⟩ (fun u2 H locs w2 hP hD hS => ?_)
      obtain ⟨cN_2, cV_2, cM_2, cR_2⟩ := u2
      try dsimp only at w2
      have hP : va_P D xCl (cW b ra cA cN_2 cV_2 cM_2 cR_2 kp nu sO tO fS sP sN lA tG) H := hP
      have hD : va_D A (cW b ra cA cN_2 cV_2 cM_2 cR_2 kp nu sO tO fS sP sN lA tG) := hD
      refine lv_aload_n hx hb dX0_image_23 rfl (lv_at hl 0 rfl) ?_
      refine va_get (D := D) (ci := 0) (v := .ref (b 5)) (C := RX0) (T := TX0) (N := 13) hx hb hts in_X0 hown hK hP 0 rfl xc0 2 (by decide) (hts _ q172) (fun _ h9 => h9) rfl dX0_image_24 ?_
      refine lv_iload_n hx hb dX0_image_27 rfl (lv_at hl 1 rfl) ?_
      refine lv_iconst (v := (bI true)) hx hb dX0_image_28 (by decide) ?_
      refine rm_zst hx hb hK hP hD hS 5 rfl (by omega) (by decide) (ws' := cW b ra cA cN_2 cV_2 cM_2 cR_2 (va_up kp 1 true) nu sO tO fS sP sN lA tG) rfl dX0_image_29 (fun H locs hP hD hS => ?_)
      refine lv_iconst (v := (nI 1)) hx hb dX0_image_30 (by decide) ?_
      exact hret _ (cN_2, cV_2, cM_2, cR_2, va_up kp 1 true) _ _ 31 ls ⟨by unfold imgR; rw [if_pos hV]; rfl, fun x => by show cN_2 x = _; rw [w2.1 x, hV, nI_clamp (by decide)]; simp, fun x c hc => by show cV_2 x c = _; rw [w2.2.1 x c hc, hV, nI_clamp (by decide)]; simp, fun x => by show cM_2 x = _; rw [w2.2.2.1 x, hV, nI_clamp (by decide)]; simp, fun i k hk => by show cR_2 i k = _; rw [w2.2.2.2 i k hk, hV, nI_clamp (by decide)]; by_cases e : 20 ≤ i ∧ i < 30; (rw [if_pos e, if_pos ⟨rfl, by omega, by omega⟩]; rfl); (rw [if_neg e, if_neg (fun h => e ⟨by omega, by omega⟩)]), fun i => by show va_up kp 1 true i = _; rw [hV, nI_clamp (by decide)]; unfold va_up; simp⟩ hP hD hS dX0_image_31
  · skip
    refine lv_bipush (v := (-2)) hx hb dX0_image_7 (by decide) ?_
    exact hret _ (cN, cV, cM, cR, kp) _ _ 9 ls ⟨by unfold imgR; rw [if_neg (by rw [q4]; decide)], fun x => by rw [if_neg (by rw [q4]; simp)], fun x c _ => by rw [if_neg (by rw [q4]; simp)], fun x => by rw [if_neg (by rw [q4]; simp)], fun i k _ => by rw [if_neg (by rw [q4]; simp)], fun i => by rw [if_neg (by rw [q4]; simp)]⟩ hP hD hS dX0_image_9
theorem cwX0_image_L {R : Room} {s : State} {args : Array Value} (hts : ∀ w ∈ lw_all, w.before args s = true) (hR : (rmX0_image).frames + 1 ≤ R.frames ∧ 8 + (2 + 11) + (rmX0_image).locals ≤ R.locals) : CallW R s args "RingMeetsLaw" RX0 77 yX0_image cX0_image 2 (some .int) (ws_ yX0_image cX0_image 2 (some .int)) rmX0_image 0 0 1 := cwV 1 hts (lw_V q611 q612 q613 q57 q614) rfl rfl rfl (by decide +kernel) hR
abbrev rmX0_restore : Room := { frames := 2, cells := 0, slots := 0, locals := 86 }
set_option maxHeartbeats 4000000 in
theorem metX0_restore (l : Launch) (D : va_G) (cA : Nat → ClassId) (b ra : Nat → Nat) (cN : Nat → Nat) (cV : Nat → Nat → Nat) (cM : Nat → Nat) (cR : Nat → Nat → Nat) (kp : Nat → Bool) (nu : Nat → Option Nat) (sO tO fS sP : Nat → Nat) (sN lA : Nat → Option Nat) (tG : Nat → Nat) (v : Int32)  : MUi l yX0_restore cX0_restore 2 (some .int) rmX0_restore [.ref (b 0), .int v] D cA (cW b ra cA cN cV cM cR kp nu sO tO fS sP sN lA tG) (fun (res_ : Int32) (uu_ : (Nat → Nat) × (Nat → Nat → Nat) × (Nat → Nat) × (Nat → Nat → Nat)) => res_ = (resR kp v) ∧ (∀ x, uu_.1 x = if (inI 0 1 v = true ∧ kp v.toNatClampNeg = true) ∧ x = 0 then cN (v.toNatClampNeg + 1) else cN x) ∧ (∀ x c, c < 10 → uu_.2.1 x c = if (inI 0 1 v = true ∧ kp v.toNatClampNeg = true) ∧ x = 0 then cV (v.toNatClampNeg + 1) c else cV x c) ∧ (∀ x, uu_.2.2.1 x = if (inI 0 1 v = true ∧ kp v.toNatClampNeg = true) ∧ x = 0 then cM (v.toNatClampNeg + 1) else cM x) ∧ (∀ i k, k < 6 → uu_.2.2.2 i k = if (inI 0 1 v = true ∧ kp v.toNatClampNeg = true) ∧ i < 10 then cR (i + 10 * (v.toNatClampNeg + 1)) k else cR i k)) (fun (uu_ : (Nat → Nat) × (Nat → Nat → Nat) × (Nat → Nat) × (Nat → Nat → Nat)) => cW b ra cA uu_.1 uu_.2.1 uu_.2.2.1 uu_.2.2.2 kp nu sO tO fS sP sN lA tG) 0 0 := by
  refine mu_int rfl (Nat.le_of_ble_eq_true rfl) ?_
  intro p e s m below meth cd Q ls A hx hb hml hown hts hP hK hN hD hA hl hret
  have hown : s.vm.findClass RX0 = some m.cls := hown
  have hS : va_S A s.heap s.heap [] := va_S.rf
  have hl : lv_has ls 2 [(0, .ref (b 0)), (1, .int v)] := hl
  refine lv_iload_n hx hb dX0_restore_0 rfl (lv_at hl 1 rfl) ?_
  refine rm_cS (ls := ls) (As := [.int v]) (rest := []) ⟨hx, hb, hml, hown, hts⟩ (metX0_isEnd l v ) (cwX0_isEnd_X0 hts ⟨Nat.le_of_ble_eq_true rfl, Nat.le_of_ble_eq_true rfl⟩) noB rfl hl.1 rfl (Nat.le_of_ble_eq_true rfl) dX0_restore_1 ⟨Nat.zero_le _, Nat.zero_le _⟩ ?_
  refine rm_bne (tgt := 10) hx hb dX0_restore_4 (by decide) (fun q4 => ?_) (fun q4 => ?_)
  · skip
    have hV : inI 0 1 v = true := q4
    obtain ⟨t, ht0, ht2, rfl⟩ := (inI_iff (lo := 0) (hi := 1) (by decide) (by decide)).mp q4
    refine lv_aload_n hx hb dX0_restore_10 rfl (lv_at hl 0 rfl) ?_
    refine va_get (D := D) (ci := 0) (v := .ref (b 5)) (C := RX0) (T := TX0) (N := 13) hx hb hts in_X0 hown hK hP 0 rfl xc0 2 (by decide) (hts _ q172) (fun _ h9 => h9) rfl dX0_restore_11 ?_
    refine lv_iload_n hx hb dX0_restore_14 rfl (lv_at hl 1 rfl) ?_
    refine rm_zld hx hb hK hP 5 rfl (by omega) (by decide) dX0_restore_15 ?_
    refine rm_bne (tgt := 22) hx hb dX0_restore_16 (by decide) (fun q16 => ?_) (fun q16 => ?_)
    · skip
      have hkp : kp (nI t).toNatClampNeg = true := by rw [nI_clamp (by omega)]; exact q16
      have ht : t = 0 ∨ t = 1 := by omega
      rcases ht with rfl | rfl
      · skip
        refine lv_aload_n hx hb dX0_restore_22 rfl (lv_at hl 0 rfl) ?_
        refine va_get (D := D) (ci := 0) (v := .ref (b 1)) (C := RX0) (T := TX0) (N := 13) hx hb hts in_X0 hown hK hP 0 rfl xc0 0 (by decide) (hts _ q170) (fun _ h9 => h9) rfl dX0_restore_23 ?_
        refine lv_aload_n hx hb dX0_restore_26 rfl (lv_at hl 0 rfl) ?_
        refine va_get (D := D) (ci := 0) (v := .ref (b 4)) (C := RX0) (T := TX0) (N := 13) hx hb hts in_X0 hown hK hP 0 rfl xc0 1 (by decide) (hts _ q171) (fun _ h9 => h9) rfl dX0_restore_27 ?_
        refine lv_iload_n hx hb dX0_restore_30 rfl (lv_at hl 1 rfl) ?_
        refine rm_ald (x := b 16) hx hb hK hP 4 3 rfl (xt3 cA) (by omega) (by decide) rfl dX0_restore_31 ?_
        refine mu_aVv (ls := ls) (As := [.ref (b 16)]) (rest := []) ⟨hx, hb, hml, hown, hts⟩ (metX1_take_01 l D cA b ra cN cV cM cR kp nu sO tO fS sP sN lA tG  ) (cwX1_take_X0 hts ⟨Nat.le_of_ble_eq_true rfl, Nat.le_of_ble_eq_true rfl⟩) hP hD hS hA hK hN (va_recv hK hP xc1 (q0 := 1) rfl) rfl hl.1 rfl (Nat.le_of_ble_eq_true rfl) dX0_restore_32 ⟨Nat.zero_le _, Nat.zero_le _⟩ (fun u1 H locs w1 hP hD hS => ?_)
        obtain ⟨cN_1, cV_1, cM_1, cR_1⟩ := u1
        try dsimp only at w1
        have hP : va_P D xCl (cW b ra cA cN_1 cV_1 cM_1 cR_1 kp nu sO tO fS sP sN lA tG) H := hP
        have hD : va_D A (cW b ra cA cN_1 cV_1 cM_1 cR_1 kp nu sO tO fS sP sN lA tG) := hD
        refine lv_iconst (v := (nI 1)) hx hb dX0_restore_35 (by decide) ?_
        exact hret _ (cN_1, cV_1, cM_1, cR_1) _ _ 36 ls ⟨by unfold resR; rw [if_pos hV, if_pos hkp]; rfl, fun x => by show cN_1 x = _; rw [w1.1 x]; by_cases e : x = 0; (rw [if_pos e, if_pos ⟨⟨hV, hkp⟩, e⟩]; rfl); (rw [if_neg e, if_neg (fun h => e h.2)]), fun x c hc => by show cV_1 x c = _; rw [w1.2.1 x c hc]; by_cases e : x = 0; (rw [if_pos e, if_pos ⟨⟨hV, hkp⟩, e⟩]; rfl); (rw [if_neg e, if_neg (fun h => e h.2)]), fun x => by show cM_1 x = _; rw [w1.2.2.1 x]; by_cases e : x = 0; (rw [if_pos e, if_pos ⟨⟨hV, hkp⟩, e⟩]; rfl); (rw [if_neg e, if_neg (fun h => e h.2)]), fun i k hk => by show cR_1 i k = _; rw [w1.2.2.2 i k hk]; by_cases e : i < 10; (rw [if_pos ⟨Nat.zero_le _, e⟩, if_pos ⟨⟨hV, hkp⟩, e⟩]; rfl); (rw [if_neg (fun h => e h.2), if_neg (fun h => e h.2)])⟩ hP hD hS dX0_restore_36
      · skip
        refine lv_aload_n hx hb dX0_restore_22 rfl (lv_at hl 0 rfl) ?_
        refine va_get (D := D) (ci := 0) (v := .ref (b 1)) (C := RX0) (T := TX0) (N := 13) hx hb hts in_X0 hown hK hP 0 rfl xc0 0 (by decide) (hts _ q170) (fun _ h9 => h9) rfl dX0_restore_23 ?_
        refine lv_aload_n hx hb dX0_restore_26 rfl (lv_at hl 0 rfl) ?_
        refine va_get (D := D) (ci := 0) (v := .ref (b 4)) (C := RX0) (T := TX0) (N := 13) hx hb hts in_X0 hown hK hP 0 rfl xc0 1 (by decide) (hts _ q171) (fun _ h9 => h9) rfl dX0_restore_27 ?_
        refine lv_iload_n hx hb dX0_restore_30 rfl (lv_at hl 1 rfl) ?_
        refine rm_ald (x := b 19) hx hb hK hP 4 3 rfl (xt3 cA) (by omega) (by decide) rfl dX0_restore_31 ?_
        refine mu_aVv (ls := ls) (As := [.ref (b 19)]) (rest := []) ⟨hx, hb, hml, hown, hts⟩ (metX1_take_02 l D cA b ra cN cV cM cR kp nu sO tO fS sP sN lA tG  ) (cwX1_take_X0 hts ⟨Nat.le_of_ble_eq_true rfl, Nat.le_of_ble_eq_true rfl⟩) hP hD hS hA hK hN (va_recv hK hP xc1 (q0 := 1) rfl) rfl hl.1 rfl (Nat.le_of_ble_eq_true rfl) dX0_restore_32 ⟨Nat.zero_le _, Nat.zero_le _⟩ (fun u2 H locs w2 hP hD hS => ?_)
        obtain ⟨cN_2, cV_2, cM_2, cR_2⟩ := u2
        try dsimp only at w2
        have hP : va_P D xCl (cW b ra cA cN_2 cV_2 cM_2 cR_2 kp nu sO tO fS sP sN lA tG) H := hP
        have hD : va_D A (cW b ra cA cN_2 cV_2 cM_2 cR_2 kp nu sO tO fS sP sN lA tG) := hD
        refine lv_iconst (v := (nI 1)) hx hb dX0_restore_35 (by decide) ?_
        exact hret _ (cN_2, cV_2, cM_2, cR_2) _ _ 36 ls ⟨by unfold resR; rw [if_pos hV, if_pos hkp]; rfl, fun x => by show cN_2 x = _; rw [w2.1 x]; by_cases e : x = 0; (rw [if_pos e, if_pos ⟨⟨hV, hkp⟩, e⟩]; rfl); (rw [if_neg e, if_neg (fun h => e h.2)]), fun x c hc => by show cV_2 x c = _; rw [w2.2.1 x c hc]; by_cases e : x = 0; (rw [if_pos e, if_pos ⟨⟨hV, hkp⟩, e⟩]; rfl); (rw [if_neg e, if_neg (fun h => e h.2)]), fun x => by show cM_2 x = _; rw [w2.2.2.1 x]; by_cases e : x = 0; (rw [if_pos e, if_pos ⟨⟨hV, hkp⟩, e⟩]; rfl); (rw [if_neg e, if_neg (fun h => e h.2)]), fun i k hk => by show cR_2 i k = _; rw [w2.2.2.2 i k hk]; by_cases e : i < 10; (rw [if_pos ⟨Nat.zero_le _, e⟩, if_pos ⟨⟨hV, hkp⟩, e⟩]; rfl); (rw [if_neg (fun h => e h.2), if_neg (fun h => e h.2)])⟩ hP hD hS dX0_restore_36
    · skip
      refine lv_bipush (v := (-3)) hx hb dX0_restore_19 (by decide) ?_
      exact hret _ (cN, cV, cM, cR) _ _ 21 ls ⟨by unfold resR; rw [if_pos hV, nI_clamp (by omega), if_neg (by rw [q16]; decide)], fun x => by rw [if_neg (by rw [nI_clamp (by omega), q16]; simp)], fun x c _ => by rw [if_neg (by rw [nI_clamp (by omega), q16]; simp)], fun x => by rw [if_neg (by rw [nI_clamp (by omega), q16]; simp)], fun i k _ => by rw [if_neg (by rw [nI_clamp (by omega), q16]; simp)]⟩ hP hD hS dX0_restore_21
  · skip
    refine lv_bipush (v := (-2)) hx hb dX0_restore_7 (by decide) ?_
    exact hret _ (cN, cV, cM, cR) _ _ 9 ls ⟨by unfold resR; rw [if_neg (by rw [q4]; decide)], fun x => by rw [if_neg (by rw [q4]; simp)], fun x c _ => by rw [if_neg (by rw [q4]; simp)], fun x => by rw [if_neg (by rw [q4]; simp)], fun i k _ => by rw [if_neg (by rw [q4]; simp)]⟩ hP hD hS dX0_restore_9
theorem cwX0_restore_L {R : Room} {s : State} {args : Array Value} (hts : ∀ w ∈ lw_all, w.before args s = true) (hR : (rmX0_restore).frames + 1 ≤ R.frames ∧ 8 + (2 + 11) + (rmX0_restore).locals ≤ R.locals) : CallW R s args "RingMeetsLaw" RX0 81 yX0_restore cX0_restore 2 (some .int) (ws_ yX0_restore cX0_restore 2 (some .int)) rmX0_restore 0 0 1 := cwV 1 hts (lw_V q624 q625 q626 q57 q627) rfl rfl rfl (by decide +kernel) hR
