set_option maxRecDepth 100000

abbrev rmX6_begin : Room := { frames := 0, cells := 0, slots := 0, locals := 0 }
set_option maxHeartbeats 4000000 in
theorem metX6_begin (l : Launch) (D : va_G) (cA : Nat → ClassId) (a : Nat → Nat) (st im : Nat → Nat) (kp : Nat → Bool) (nx li : Nat → Nat) (isl : Nat → Bool) (mv : Nat → Nat) (so la : Nat → Option Nat) (cm : Nat → Nat) (ld us : Nat) (bl : Bool) (blind : Bool)  : MUv l yX6_begin cX6_begin 3 none rmX6_begin [.ref (a 0), .int (bI blind)] D cA (mW a cA st im kp nx li isl mv so la cm ld us bl) (fun (uu_ : (Nat → Bool) × (Nat) × (Nat) × (Bool)) => (∀ k, k < 59049 → uu_.1 k = false) ∧ (uu_.2.1 = 0) ∧ (uu_.2.2.1 = 0) ∧ (uu_.2.2.2 = blind)) (fun (uu_ : (Nat → Bool) × (Nat) × (Nat) × (Bool)) => mW a cA st im kp nx li uu_.1 mv so la cm uu_.2.1 uu_.2.2.1 uu_.2.2.2) 0 0 := by
  refine mu_void rfl (Nat.le_of_ble_eq_true rfl) ?_
  intro p e s m below meth cd Q ls A hx hb hml hown hname hts hP hK hN hD hA hl hret
  have hown : s.vm.findClass RX6 = some m.cls := hown
  have hS : va_S A s.heap s.heap [] := va_S.rf
  have hl : lv_has ls 3 [(0, .ref (a 0)), (1, .int (bI blind))] := hl
  refine lv_iconst (v := (nI 0)) hx hb dX6_begin_0 (by decide) ?_
  refine lv_istore_n (lv' := [(2, .int (nI 0)), (0, .ref (a 0)), (1, .int (bI blind))]) hx hb dX6_begin_1 rfl hl (by decide) rfl (fun ls hl => ?_)
  have loop2 : ∀ (N : Nat) (k : Nat) (i1 : Nat → Bool), 59049 - k < N → (k ≤ 59049) → (∀ j, j < k → i1 j = false) → ∀ (H : Heap) (locs : List Loc), va_P D xCl (mW a cA st im kp nx li i1 mv so la cm ld us bl) H → va_D A (mW a cA st im kp nx li i1 mv so la cm ld us bl) → va_S A s.heap H locs → ∀ (ls : Array Slot), lv_has ls 3 [(2, .int (nI k)), (0, .ref (a 0)), (1, .int (bI blind))] → W p l e rmX6_begin s m ([.ref (a 0), .int (bI blind)] : List Value).toArray below meth cd H locs 0 0 Q (F0 m 2 ls []) := by
    intro N
    induction N with
    | zero => intro k i1 hm; exact absurd hm (Nat.not_lt_zero _)
    | succ N ih2 =>
      intro k i1 hm2 i2_0 i2_1 H locs hP hD hS ls hl
      refine lv_iload_n hx hb dX6_begin_2 rfl (lv_at hl 0 rfl) ?_
      refine lv_ldc (v := (nI 59049)) hx hb hown (hts _ q639) dX6_begin_3 ?_
      refine rm_cge (tgt := 21) hx hb dX6_begin_5 (by decide) (by omega) (by decide) (fun q5 => ?_) (fun q5 => ?_)
      · skip
        refine lv_aload_n hx hb dX6_begin_21 rfl (lv_at hl 1 rfl) ?_
        refine lv_iconst (v := (nI 0)) hx hb dX6_begin_22 (by decide) ?_
        refine va_put (D := D) (ci := 5) (v := .int (nI 0)) (ty := .int) (C := RX6) (T := TX6) (N := 14) hx hb hts in_X6 tyX6 tyX6_ok nmX6 hown hK hP hD hS 0 rfl xc5 6 (by decide) (hts _ q646) (fun _ h9 => h9) rfl (by decide +kernel) rfl rfl (Nat.le_of_ble_eq_true rfl) dX6_begin_23 (fun H locs hP hD hS => ?_)
        have hP : va_P D xCl (mW a cA st im kp nx li i1 mv so la cm 0 us bl) H := hP
        have hD : va_D A (mW a cA st im kp nx li i1 mv so la cm 0 us bl) := hD
        refine lv_aload_n hx hb dX6_begin_26 rfl (lv_at hl 1 rfl) ?_
        refine lv_iconst (v := (nI 0)) hx hb dX6_begin_27 (by decide) ?_
        refine va_put (D := D) (ci := 5) (v := .int (nI 0)) (ty := .int) (C := RX6) (T := TX6) (N := 14) hx hb hts in_X6 tyX6 tyX6_ok nmX6 hown hK hP hD hS 0 rfl xc5 11 (by decide) (hts _ q651) (fun _ h9 => h9) rfl (by decide +kernel) rfl rfl (Nat.le_of_ble_eq_true rfl) dX6_begin_28 (fun H locs hP hD hS => ?_)
        have hP : va_P D xCl (mW a cA st im kp nx li i1 mv so la cm 0 0 bl) H := hP
        have hD : va_D A (mW a cA st im kp nx li i1 mv so la cm 0 0 bl) := hD
        refine lv_aload_n hx hb dX6_begin_31 rfl (lv_at hl 1 rfl) ?_
        refine lv_iload_n hx hb dX6_begin_32 rfl (lv_at hl 2 rfl) ?_
        refine va_put (D := D) (ci := 5) (v := .int (bI blind)) (ty := .boolean) (C := RX6) (T := TX6) (N := 14) hx hb hts in_X6 tyX6 tyX6_ok nmX6 hown hK hP hD hS 0 rfl xc5 12 (by decide) (hts _ q652) (fun _ h9 => h9) rfl (by decide +kernel) (nar_bI _) (fit_bI _) (Nat.le_of_ble_eq_true rfl) dX6_begin_33 (fun H locs hP hD hS => ?_)
        have hP : va_P D xCl (mW a cA st im kp nx li i1 mv so la cm 0 0 blind) H := hP
        have hD : va_D A (mW a cA st im kp nx li i1 mv so la cm 0 0 blind) := hD
        exact hret (i1, 0, 0, blind) _ _ 36 ls ⟨fun k h => i2_1 k (by omega), rfl, rfl, rfl⟩ hP hD hS dX6_begin_36
      · skip
        refine lv_aload_n hx hb dX6_begin_8 rfl (lv_at hl 1 rfl) ?_
        refine va_get (D := D) (ci := 5) (v := .ref (a 7)) (C := RX6) (T := TX6) (N := 14) hx hb hts in_X6 hown hK hP 0 rfl xc5 7 (by decide) (hts _ q647) (fun _ h9 => h9) rfl dX6_begin_9 ?_
        refine lv_iload_n hx hb dX6_begin_12 rfl (lv_at hl 0 rfl) ?_
        refine lv_iconst (v := (bI false)) hx hb dX6_begin_13 (by decide) ?_
        refine rm_zst hx hb hK hP hD hS 7 rfl (by omega) (by decide) (ws' := mW a cA st im kp nx li (va_up i1 k false) mv so la cm ld us bl) rfl dX6_begin_14 (fun H locs hP hD hS => ?_)
        refine lv_iinc (v := (nI (k + 1))) (lv' := [(2, .int (nI (k + 1))), (0, .ref (a 0)), (1, .int (bI blind))]) hx hb dX6_begin_15 hl (k := 0) rfl (rm_inc k 1) (by decide) rfl (fun ls hl => ?_)
        refine lv_goto (tgt := 2) hx hb dX6_begin_18 (by decide) ?_
        exact ih2 (k + 1) _ (by omega) (by omega) (fun j h => by have q := i2_1 j; unfold va_up; grind) _ _ hP hD hS ls hl
  exact loop2 _ 0 _ (Nat.lt_succ_self _) (by omega) (fun j h => absurd h (by omega)) _ _ hP hD hS ls hl
theorem cwX6_begin_X6 {R : Room} {s : State} {args : Array Value} (hts : ∀ w ∈ lw_all, w.before args s = true) (hR : (rmX6_begin).frames + 1 ≤ R.frames ∧ 8 + (3 + 11) + (rmX6_begin).locals ≤ R.locals) : CallW R s args RX6 RX6 161 yX6_begin cX6_begin 3 none (ws_ yX6_begin cX6_begin 3 none) rmX6_begin 0 0 1 := cwV 1 hts (lw_V q827 q829 qs44 q63 q830) rfl rfl rfl (by decide +kernel) hR
abbrev rmX6_behindStep : Room := { frames := 2, cells := 0, slots := 0, locals := 42 }
set_option maxHeartbeats 4000000 in
theorem metX6_behindStep (l : Launch) (D : va_G) (cA : Nat → ClassId) (a : Nat → Nat) (st im : Nat → Nat) (kp : Nat → Bool) (nx li : Nat → Nat) (isl : Nat → Bool) (mv : Nat → Nat) (so la : Nat → Option Nat) (cm : Nat → Nat) (ld us : Nat) (bl : Bool) (code z : Nat) (hn3 : 3 ≤ st 0) (hn10 : st 0 ≤ 10) (hc : code < 59049) (hz : z < 1024) (hmv : mv code < 2 ^ 31) : MUi l yX6_behindStep cX6_behindStep 7 (some .int) rmX6_behindStep [.ref (a 0), .int (nI code), .int (nI z)] D cA (mW a cA st im kp nx li isl mv so la cm ld us bl) (fun (res_ : Int32) (uu_ : (Nat → Nat)) => res_ = (nI (bstep (st 0) code (mv code) z))) (fun (uu_ : (Nat → Nat)) => mW a cA st im kp nx li isl mv so la uu_ ld us bl) 0 0 := by
  refine mu_int rfl (Nat.le_of_ble_eq_true rfl) ?_
  intro p e s m below meth cd Q ls A hx hb hml hown hts hP hK hN hD hA hl hret
  have hown : s.vm.findClass RX6 = some m.cls := hown
  have hS : va_S A s.heap s.heap [] := va_S.rf
  have hl : lv_has ls 7 [(0, .ref (a 0)), (1, .int (nI code)), (2, .int (nI z))] := hl
  refine lv_iconst (v := (nI 0)) hx hb dX6_behindStep_0 (by decide) ?_
  refine lv_istore_n (lv' := [(3, .int (nI 0)), (0, .ref (a 0)), (1, .int (nI code)), (2, .int (nI z))]) hx hb dX6_behindStep_1 rfl hl (by decide) rfl (fun ls hl => ?_)
  have loop2 : ∀ (N : Nat) (c : Nat) (m1 : Nat → Nat), st 0 - c < N → (c ≤ st 0) → (∀ j, j < c → m1 j = 0) → ∀ (H : Heap) (locs : List Loc), va_P D xCl (mW a cA st im kp nx li isl mv so la m1 ld us bl) H → va_D A (mW a cA st im kp nx li isl mv so la m1 ld us bl) → va_S A s.heap H locs → ∀ (ls : Array Slot), lv_has ls 7 [(3, .int (nI c)), (0, .ref (a 0)), (1, .int (nI code)), (2, .int (nI z))] → W p l e rmX6_behindStep s m ([.ref (a 0), .int (nI code), .int (nI z)] : List Value).toArray below meth cd H locs 0 0 Q (F0 m 2 ls []) := by
    intro N
    induction N with
    | zero => intro c m1 hm; exact absurd hm (Nat.not_lt_zero _)
    | succ N ih2 =>
      intro c m1 hm2 i2_0 i2_1 H locs hP hD hS ls hl
      refine lv_iload_n hx hb dX6_behindStep_2 rfl (lv_at hl 0 rfl) ?_
      refine lv_aload_n hx hb dX6_behindStep_3 rfl (lv_at hl 1 rfl) ?_
      refine rm_cV (ls := ls) (As := []) (rest := [.int (nI c)]) ⟨hx, hb, hml, hown, hts⟩ (metX6_cells l D cA a st im kp nx li isl mv so la m1 ld us bl  ) (cwX6_cells_X6 hts ⟨Nat.le_of_ble_eq_true rfl, Nat.le_of_ble_eq_true rfl⟩) hP hK hN (va_recv hK hP xc5 (q0 := 0) rfl) rfl hl.1 rfl (Nat.le_of_ble_eq_true rfl) dX6_behindStep_4 ⟨Nat.zero_le _, Nat.zero_le _⟩ ?_
      refine rm_cge (tgt := 23) hx hb dX6_behindStep_7 (by decide) (by omega) (by omega) (fun q7 => ?_) (fun q7 => ?_)
      · skip
        refine lv_iconst (v := (nI 0)) hx hb dX6_behindStep_23 (by decide) ?_
        refine lv_istore_n (lv' := [(3, .int (nI 0)), (0, .ref (a 0)), (1, .int (nI code)), (2, .int (nI z))]) hx hb dX6_behindStep_24 rfl hl (by decide) rfl (fun ls hl => ?_)
        have loop25 : ∀ (N : Nat) (c : Nat) (m2 : Nat → Nat), st 0 - c < N → (c ≤ st 0) → (∀ j, j < st 0 → m2 j = bsD (st 0) code (mv code) z c j) → ∀ (H : Heap) (locs : List Loc), va_P D xCl (mW a cA st im kp nx li isl mv so la m2 ld us bl) H → va_D A (mW a cA st im kp nx li isl mv so la m2 ld us bl) → va_S A s.heap H locs → ∀ (ls : Array Slot), lv_has ls 7 [(3, .int (nI c)), (0, .ref (a 0)), (1, .int (nI code)), (2, .int (nI z))] → W p l e rmX6_behindStep s m ([.ref (a 0), .int (nI code), .int (nI z)] : List Value).toArray below meth cd H locs 0 0 Q (F0 m 25 ls []) := by
          intro N
          induction N with
          | zero => intro c m2 hm; exact absurd hm (Nat.not_lt_zero _)
          | succ N ih25 =>
            intro c m2 hm25 i25_0 i25_1 H locs hP hD hS ls hl
            refine lv_iload_n hx hb dX6_behindStep_25 rfl (lv_at hl 0 rfl) ?_
            refine lv_aload_n hx hb dX6_behindStep_26 rfl (lv_at hl 1 rfl) ?_
            refine rm_cV (ls := ls) (As := []) (rest := [.int (nI c)]) ⟨hx, hb, hml, hown, hts⟩ (metX6_cells l D cA a st im kp nx li isl mv so la m2 ld us bl  ) (cwX6_cells_X6 hts ⟨Nat.le_of_ble_eq_true rfl, Nat.le_of_ble_eq_true rfl⟩) hP hK hN (va_recv hK hP xc5 (q0 := 0) rfl) rfl hl.1 rfl (Nat.le_of_ble_eq_true rfl) dX6_behindStep_27 ⟨Nat.zero_le _, Nat.zero_le _⟩ ?_
            refine rm_cge (tgt := 135) hx hb dX6_behindStep_30 (by decide) (by omega) (by omega) (fun q30 => ?_) (fun q30 => ?_)
            · skip
              have ecn : c = st 0 := by omega
              rw [ecn] at i25_1
              refine lv_iconst (v := (nI 0)) hx hb dX6_behindStep_135 (by decide) ?_
              refine lv_istore_n (lv' := [(3, .int (nI 0)), (0, .ref (a 0)), (1, .int (nI code)), (2, .int (nI z))]) hx hb dX6_behindStep_136 rfl hl (by decide) rfl (fun ls hl => ?_)
              refine lv_iconst (v := (nI 0)) hx hb dX6_behindStep_137 (by decide) ?_
              refine lv_istore (lv' := [(4, .int (nI 0)), (3, .int (nI 0)), (0, .ref (a 0)), (1, .int (nI code)), (2, .int (nI z))]) hx hb dX6_behindStep_138 hl (by decide) rfl (fun ls hl => ?_)
              have loop140 : ∀ (N : Nat) (k : Nat), st 0 - k < N → (k ≤ st 0) → ∀ (H : Heap) (locs : List Loc), va_P D xCl (mW a cA st im kp nx li isl mv so la m2 ld us bl) H → va_D A (mW a cA st im kp nx li isl mv so la m2 ld us bl) → va_S A s.heap H locs → ∀ (ls : Array Slot), lv_has ls 7 [(4, .int (nI k)), (3, .int (nI (sm (fun c => p3 c * bsD (st 0) code (mv code) z (st 0) c) k))), (0, .ref (a 0)), (1, .int (nI code)), (2, .int (nI z))] → W p l e rmX6_behindStep s m ([.ref (a 0), .int (nI code), .int (nI z)] : List Value).toArray below meth cd H locs 0 0 Q (F0 m 140 ls []) := by
                intro N
                induction N with
                | zero => intro k hm; exact absurd hm (Nat.not_lt_zero _)
                | succ N ih140 =>
                  intro k hm140 i140_0 H locs hP hD hS ls hl
                  refine lv_iload hx hb dX6_behindStep_140 (lv_at hl 0 rfl) ?_
                  refine lv_aload_n hx hb dX6_behindStep_142 rfl (lv_at hl 2 rfl) ?_
                  refine rm_cV (ls := ls) (As := []) (rest := [.int (nI k)]) ⟨hx, hb, hml, hown, hts⟩ (metX6_cells l D cA a st im kp nx li isl mv so la m2 ld us bl  ) (cwX6_cells_X6 hts ⟨Nat.le_of_ble_eq_true rfl, Nat.le_of_ble_eq_true rfl⟩) hP hK hN (va_recv hK hP xc5 (q0 := 0) rfl) rfl hl.1 rfl (Nat.le_of_ble_eq_true rfl) dX6_behindStep_143 ⟨Nat.zero_le _, Nat.zero_le _⟩ ?_
                  refine rm_cge (tgt := 173) hx hb dX6_behindStep_146 (by decide) (by omega) (by omega) (fun q146 => ?_) (fun q146 => ?_)
                  · skip
                    refine lv_iload_n hx hb dX6_behindStep_173 rfl (lv_at hl 1 rfl) ?_
                    exact hret _ (m2) _ _ 174 ls (by unfold bstep; rw [show k = st 0 by omega]) hP hD hS dX6_behindStep_174
                  · skip
                    refine lv_iload_n hx hb dX6_behindStep_149 rfl (lv_at hl 1 rfl) ?_
                    refine lv_aload_n hx hb dX6_behindStep_150 rfl (lv_at hl 2 rfl) ?_
                    refine va_get (D := D) (ci := 5) (v := .ref (a 4)) (C := RX6) (T := TX6) (N := 14) hx hb hts in_X6 hown hK hP 0 rfl xc5 3 (by decide) (hts _ q643) (fun _ h9 => h9) rfl dX6_behindStep_151 ?_
                    refine lv_iload hx hb dX6_behindStep_154 (lv_at hl 0 rfl) ?_
                    refine rm_nld hx hb hK hP 4 rfl (by omega) (by decide) dX6_behindStep_156 ?_
                    refine lv_aload_n hx hb dX6_behindStep_157 rfl (lv_at hl 2 rfl) ?_
                    refine va_get (D := D) (ci := 5) (v := .ref (a 11)) (C := RX6) (T := TX6) (N := 14) hx hb hts in_X6 hown hK hP 0 rfl xc5 13 (by decide) (hts _ q653) (fun _ h9 => h9) rfl dX6_behindStep_158 ?_
                    refine lv_iload hx hb dX6_behindStep_161 (lv_at hl 0 rfl) ?_
                    refine rm_nld hx hb hK hP 11 rfl (by omega) (by decide) dX6_behindStep_163 ?_
                    refine rm_top (y := (nI (bsD (st 0) code (mv code) z (st 0) k))) (by rw [i25_1 k (by omega)]) ?_
                    refine rm_imul hx hb dX6_behindStep_164 ?_
                    refine rm_iadd hx hb dX6_behindStep_165 ?_
                    refine lv_istore_n (lv' := [(3, .int (nI ((sm (fun c => p3 c * bsD (st 0) code (mv code) z (st 0) c) k) + ((p3 k) * (bsD (st 0) code (mv code) z (st 0) k))))), (4, .int (nI k)), (0, .ref (a 0)), (1, .int (nI code)), (2, .int (nI z))]) hx hb dX6_behindStep_166 rfl hl (by decide) rfl (fun ls hl => ?_)
                    refine lv_iinc (v := (nI (k + 1))) (lv' := [(4, .int (nI (k + 1))), (3, .int (nI ((sm (fun c => p3 c * bsD (st 0) code (mv code) z (st 0) c) k) + ((p3 k) * (bsD (st 0) code (mv code) z (st 0) k))))), (0, .ref (a 0)), (1, .int (nI code)), (2, .int (nI z))]) hx hb dX6_behindStep_167 hl (k := 1) rfl (rm_inc k 1) (by decide) rfl (fun ls hl => ?_)
                    refine lv_goto (tgt := 140) hx hb dX6_behindStep_170 (by decide) ?_
                    exact ih140 (k + 1) (by omega) (by omega) _ _ hP hD hS ls hl
              exact loop140 _ 0 (Nat.lt_succ_self _) (by omega) _ _ hP hD hS ls hl
            · skip
              refine lv_iload_n hx hb dX6_behindStep_33 rfl (lv_at hl 2 rfl) ?_
              refine lv_aload_n hx hb dX6_behindStep_34 rfl (lv_at hl 1 rfl) ?_
              refine va_get (D := D) (ci := 5) (v := .ref (a 4)) (C := RX6) (T := TX6) (N := 14) hx hb hts in_X6 hown hK hP 0 rfl xc5 3 (by decide) (hts _ q643) (fun _ h9 => h9) rfl dX6_behindStep_35 ?_
              refine lv_iload_n hx hb dX6_behindStep_38 rfl (lv_at hl 0 rfl) ?_
              refine rm_nld hx hb hK hP 4 rfl (by omega) (by decide) dX6_behindStep_39 ?_
              refine rm_idiv hx hb dX6_behindStep_40 (p3_pos c) (Nat.lt_of_le_of_lt (p3_le (by omega)) (by decide)) (by omega) ?_
              refine lv_iconst (v := (nI 3)) hx hb dX6_behindStep_41 (by decide) ?_
              refine rm_irem hx hb dX6_behindStep_42 (by decide) (by decide) (Nat.lt_of_le_of_lt (Nat.div_le_self _ _) (by omega)) ?_
              refine rm_top (y := (nI (tg code c))) rfl ?_
              refine lv_istore (lv' := [(4, .int (nI (tg code c))), (3, .int (nI c)), (0, .ref (a 0)), (1, .int (nI code)), (2, .int (nI z))]) hx hb dX6_behindStep_43 hl (by decide) rfl (fun ls hl => ?_)
              have join129 : ∀ (m3 : Nat → Nat), (∀ j, j < st 0 → m3 j = bsD (st 0) code (mv code) z (c + 1) j) → ∀ (H : Heap) (locs : List Loc), va_P D xCl (mW a cA st im kp nx li isl mv so la m3 ld us bl) H → va_D A (mW a cA st im kp nx li isl mv so la m3 ld us bl) → va_S A s.heap H locs → ∀ (ls : Array Slot), lv_has ls 7 [(3, .int (nI c)), (0, .ref (a 0)), (1, .int (nI code)), (2, .int (nI z))] → W p l e rmX6_behindStep s m ([.ref (a 0), .int (nI code), .int (nI z)] : List Value).toArray below meth cd H locs 0 0 Q (F0 m 129 ls []) := by
                intro m3 i129_0 H locs hP hD hS ls hl
                refine lv_iinc (v := (nI (c + 1))) (lv' := [(3, .int (nI (c + 1))), (0, .ref (a 0)), (1, .int (nI code)), (2, .int (nI z))]) hx hb dX6_behindStep_129 hl (k := 0) rfl (rm_inc c 1) (by decide) rfl (fun ls hl => ?_)
                refine lv_goto (tgt := 25) hx hb dX6_behindStep_132 (by decide) ?_
                exact ih25 (c + 1) _ (by omega) (by omega) (by omega) _ _ hP hD hS ls hl
              refine lv_iload hx hb dX6_behindStep_45 (lv_at hl 0 rfl) ?_
              refine rm_ile (tgt := 129) hx hb dX6_behindStep_47 (by decide) (Nat.lt_trans (tg_lt code c) (by decide)) (fun q47 => ?_) (fun q47 => ?_)
              · skip
                exact join129 _ (fun j h => by rw [bsD_f q47]; exact i25_1 j h) _ _ hP hD hS ls (lv_sub hl [1, 2, 3, 4] rfl)
              · skip
                have join77 : ∀ (H : Heap) (locs : List Loc), va_P D xCl (mW a cA st im kp nx li isl mv so la m2 ld us bl) H → va_D A (mW a cA st im kp nx li isl mv so la m2 ld us bl) → va_S A s.heap H locs → ∀ (ls : Array Slot), lv_has ls 7 [(4, .int (nI (tg code c))), (3, .int (nI c)), (0, .ref (a 0)), (1, .int (nI code)), (2, .int (nI z))] → W p l e rmX6_behindStep s m ([.ref (a 0), .int (nI code), .int (nI z)] : List Value).toArray below meth cd H locs 0 0 Q (F0 m 77 ls [.int (nI (if Nat.testBit z c then tg (mv code) c else 0))]) := by
                  intro   H locs hP hD hS ls hl
                  refine lv_istore (lv' := [(5, .int (nI (if Nat.testBit z c then tg (mv code) c else 0))), (4, .int (nI (tg code c))), (3, .int (nI c)), (0, .ref (a 0)), (1, .int (nI code)), (2, .int (nI z))]) hx hb dX6_behindStep_77 hl (by decide) rfl (fun ls hl => ?_)
                  have join104 : ∀ (H : Heap) (locs : List Loc), va_P D xCl (mW a cA st im kp nx li isl mv so la m2 ld us bl) H → va_D A (mW a cA st im kp nx li isl mv so la m2 ld us bl) → va_S A s.heap H locs → ∀ (ls : Array Slot), lv_has ls 7 [(4, .int (nI (tg code c))), (3, .int (nI c)), (0, .ref (a 0)), (1, .int (nI code)), (2, .int (nI z))] → W p l e rmX6_behindStep s m ([.ref (a 0), .int (nI code), .int (nI z)] : List Value).toArray below meth cd H locs 0 0 Q (F0 m 104 ls [.int (nI (bsTo (st 0) (mv code) z c))]) := by
                    intro   H locs hP hD hS ls hl
                    refine lv_istore (lv' := [(6, .int (nI (bsTo (st 0) (mv code) z c))), (4, .int (nI (tg code c))), (3, .int (nI c)), (0, .ref (a 0)), (1, .int (nI code)), (2, .int (nI z))]) hx hb dX6_behindStep_104 hl (by decide) rfl (fun ls hl => ?_)
                    have hto : bsTo (st 0) (mv code) z c < st 0 := bsTo_lt (by omega) q30
                    refine lv_aload_n hx hb dX6_behindStep_106 rfl (lv_at hl 3 rfl) ?_
                    refine va_get (D := D) (ci := 5) (v := .ref (a 11)) (C := RX6) (T := TX6) (N := 14) hx hb hts in_X6 hown hK hP 0 rfl xc5 13 (by decide) (hts _ q653) (fun _ h9 => h9) rfl dX6_behindStep_107 ?_
                    refine lv_iload hx hb dX6_behindStep_110 (lv_at hl 0 rfl) ?_
                    have join128 : ∀ (H : Heap) (locs : List Loc), va_P D xCl (mW a cA st im kp nx li isl mv so la m2 ld us bl) H → va_D A (mW a cA st im kp nx li isl mv so la m2 ld us bl) → va_S A s.heap H locs → ∀ (ls : Array Slot), lv_has ls 7 [(6, .int (nI (bsTo (st 0) (mv code) z c))), (4, .int (nI (tg code c))), (3, .int (nI c)), (0, .ref (a 0)), (1, .int (nI code)), (2, .int (nI z))] → W p l e rmX6_behindStep s m ([.ref (a 0), .int (nI code), .int (nI z)] : List Value).toArray below meth cd H locs 0 0 Q (F0 m 128 ls [.int (nI (if 0 < bsD (st 0) code (mv code) z c (bsTo (st 0) (mv code) z c) then 2 else tg code c)), .int (nI (bsTo (st 0) (mv code) z c)), .ref (a 11)]) := by
                      intro   H locs hP hD hS ls hl
                      refine rm_nst hx hb hK hP hD hS 11 rfl (by omega) (by decide) (ws' := mW a cA st im kp nx li isl mv so la (va_up m2 (bsTo (st 0) (mv code) z c) (if 0 < bsD (st 0) code (mv code) z c (bsTo (st 0) (mv code) z c) then 2 else tg code c)) ld us bl) rfl dX6_behindStep_128 (fun H locs hP hD hS => ?_)
                      exact join129 _ (fun j h => by rw [bsD_t q47]; have q := i25_1 j h; unfold va_up; split <;> first | rfl | exact q) _ _ hP hD hS ls (lv_sub hl [2, 3, 4, 5] rfl)
                    refine lv_aload_n hx hb dX6_behindStep_112 rfl (lv_at hl 3 rfl) ?_
                    refine va_get (D := D) (ci := 5) (v := .ref (a 11)) (C := RX6) (T := TX6) (N := 14) hx hb hts in_X6 hown hK hP 0 rfl xc5 13 (by decide) (hts _ q653) (fun _ h9 => h9) rfl dX6_behindStep_113 ?_
                    refine lv_iload hx hb dX6_behindStep_116 (lv_at hl 0 rfl) ?_
                    refine rm_nld hx hb hK hP 11 rfl (by omega) (by decide) dX6_behindStep_118 ?_
                    refine rm_top (y := (nI (bsD (st 0) code (mv code) z c (bsTo (st 0) (mv code) z c)))) (by rw [i25_1 _ hto]) ?_
                    refine rm_ile (tgt := 126) hx hb dX6_behindStep_119 (by decide) (Nat.lt_of_le_of_lt (bsD_le _ _ _ _ _ _) (by decide)) (fun q119 => ?_) (fun q119 => ?_)
                    · skip
                      refine lv_iload hx hb dX6_behindStep_126 (lv_at hl 1 rfl) ?_
                      refine rm_top (y := (nI (if 0 < bsD (st 0) code (mv code) z c (bsTo (st 0) (mv code) z c) then 2 else tg code c))) (by rw [if_neg (by omega)]) ?_
                      exact join128   _ _ hP hD hS ls hl
                    · skip
                      refine lv_iconst (v := (nI 2)) hx hb dX6_behindStep_122 (by decide) ?_
                      refine lv_goto (tgt := 128) hx hb dX6_behindStep_123 (by decide) ?_
                      refine rm_top (y := (nI (if 0 < bsD (st 0) code (mv code) z c (bsTo (st 0) (mv code) z c) then 2 else tg code c))) (by rw [if_pos q119]) ?_
                      exact join128   _ _ hP hD hS ls hl
                  obtain ⟨how, ehow⟩ : ∃ y, y = (if Nat.testBit z c then tg (mv code) c else 0) := ⟨_, rfl⟩
                  rw [← ehow] at hl
                  refine lv_iload hx hb dX6_behindStep_79 (lv_at hl 0 rfl) ?_
                  refine rm_ine (tgt := 88) hx hb dX6_behindStep_81 (by decide) (by have := tg_lt (mv code) c; simp only [ehow]; split <;> omega) (fun q81 => ?_) (fun q81 => ?_)
                  · skip
                    refine lv_aload_n hx hb dX6_behindStep_88 rfl (lv_at hl 3 rfl) ?_
                    refine lv_iload_n hx hb dX6_behindStep_89 rfl (lv_at hl 2 rfl) ?_
                    refine lv_iload hx hb dX6_behindStep_90 (lv_at hl 0 rfl) ?_
                    refine lv_iconst (v := (nI 1)) hx hb dX6_behindStep_92 (by decide) ?_
                    refine rm_cne (tgt := 100) hx hb dX6_behindStep_93 (by decide) (by have := tg_lt (mv code) c; simp only [ehow]; split <;> omega) (by decide) (fun q93 => ?_) (fun q93 => ?_)
                    · skip
                      refine lv_iconst (v := (-1)) hx hb dX6_behindStep_100 (by decide) ?_
                      refine rm_cV (ls := ls) (As := [.int (nI c), .int (-1)]) (rest := []) ⟨hx, hb, hml, hown, hts⟩ (metX6_beside l D cA a st im kp nx li isl mv so la m2 ld us bl c (-1) false 1 (by first | assumption | omega) (by first | assumption | omega) (by first | assumption | omega) (by first | assumption | omega) (by first | rfl | exact dI_1 _)) (cwX6_beside_X6 hts ⟨Nat.le_of_ble_eq_true rfl, Nat.le_of_ble_eq_true rfl⟩) hP hK hN (va_recv hK hP xc5 (q0 := 0) rfl) rfl hl.1 rfl (Nat.le_of_ble_eq_true rfl) dX6_behindStep_101 ⟨Nat.zero_le _, Nat.zero_le _⟩ ?_
                      refine rm_top (y := (nI (bsTo (st 0) (mv code) z c))) (by unfold bsTo; rw [← ehow, if_neg (by omega), decide_eq_false q93]) ?_
                      exact join104   _ _ hP hD hS ls (lv_sub hl [1, 2, 3, 4, 5] rfl)
                    · skip
                      refine lv_iconst (v := (nI 1)) hx hb dX6_behindStep_96 (by decide) ?_
                      refine lv_goto (tgt := 101) hx hb dX6_behindStep_97 (by decide) ?_
                      refine rm_cV (ls := ls) (As := [.int (nI c), .int (nI 1)]) (rest := []) ⟨hx, hb, hml, hown, hts⟩ (metX6_beside l D cA a st im kp nx li isl mv so la m2 ld us bl c (nI 1) true 1 (by first | assumption | omega) (by first | assumption | omega) (by first | assumption | omega) (by first | assumption | omega) (by first | rfl | exact dI_1 _)) (cwX6_beside_X6 hts ⟨Nat.le_of_ble_eq_true rfl, Nat.le_of_ble_eq_true rfl⟩) hP hK hN (va_recv hK hP xc5 (q0 := 0) rfl) rfl hl.1 rfl (Nat.le_of_ble_eq_true rfl) dX6_behindStep_101 ⟨Nat.zero_le _, Nat.zero_le _⟩ ?_
                      refine rm_top (y := (nI (bsTo (st 0) (mv code) z c))) (by unfold bsTo; rw [← ehow, if_neg (by omega), decide_eq_true q93]) ?_
                      exact join104   _ _ hP hD hS ls (lv_sub hl [1, 2, 3, 4, 5] rfl)
                  · skip
                    refine lv_iload_n hx hb dX6_behindStep_84 rfl (lv_at hl 2 rfl) ?_
                    refine lv_goto (tgt := 104) hx hb dX6_behindStep_85 (by decide) ?_
                    refine rm_top (y := (nI (bsTo (st 0) (mv code) z c))) (by unfold bsTo; rw [← ehow, if_pos q81]) ?_
                    exact join104   _ _ hP hD hS ls (lv_sub hl [1, 2, 3, 4, 5] rfl)
                refine lv_iload_n hx hb dX6_behindStep_50 rfl (lv_at hl 4 rfl) ?_
                refine lv_iload_n hx hb dX6_behindStep_51 rfl (lv_at hl 1 rfl) ?_
                refine rm_cS (ls := ls) (As := [.int (nI z), .int (nI c)]) (rest := []) ⟨hx, hb, hml, hown, hts⟩ (metX6_has l z c (by first | assumption | omega) (by first | assumption | omega)) (cwX6_has_X6 hts ⟨Nat.le_of_ble_eq_true rfl, Nat.le_of_ble_eq_true rfl⟩) noB rfl hl.1 rfl (Nat.le_of_ble_eq_true rfl) dX6_behindStep_52 ⟨Nat.zero_le _, Nat.zero_le _⟩ ?_
                refine rm_beq (tgt := 76) hx hb dX6_behindStep_55 (by decide) (fun q55 => ?_) (fun q55 => ?_)
                · skip
                  refine lv_iconst (v := (nI 0)) hx hb dX6_behindStep_76 (by decide) ?_
                  refine rm_top (y := (nI (if Nat.testBit z c then tg (mv code) c else 0))) (by rw [if_neg (by rw [q55]; decide)]) ?_
                  exact join77   _ _ hP hD hS ls hl
                · skip
                  refine lv_aload_n hx hb dX6_behindStep_58 rfl (lv_at hl 2 rfl) ?_
                  refine va_get (D := D) (ci := 5) (v := .ref (a 8)) (C := RX6) (T := TX6) (N := 14) hx hb hts in_X6 hown hK hP 0 rfl xc5 8 (by decide) (hts _ q648) (fun _ h9 => h9) rfl dX6_behindStep_59 ?_
                  refine lv_iload_n hx hb dX6_behindStep_62 rfl (lv_at hl 3 rfl) ?_
                  refine rm_nld hx hb hK hP 8 rfl (by omega) (by decide) dX6_behindStep_63 ?_
                  refine lv_aload_n hx hb dX6_behindStep_64 rfl (lv_at hl 2 rfl) ?_
                  refine va_get (D := D) (ci := 5) (v := .ref (a 4)) (C := RX6) (T := TX6) (N := 14) hx hb hts in_X6 hown hK hP 0 rfl xc5 3 (by decide) (hts _ q643) (fun _ h9 => h9) rfl dX6_behindStep_65 ?_
                  refine lv_iload_n hx hb dX6_behindStep_68 rfl (lv_at hl 1 rfl) ?_
                  refine rm_nld hx hb hK hP 4 rfl (by omega) (by decide) dX6_behindStep_69 ?_
                  refine rm_idiv hx hb dX6_behindStep_70 (p3_pos c) (Nat.lt_of_le_of_lt (p3_le (by omega)) (by decide)) (by omega) ?_
                  refine lv_iconst (v := (nI 3)) hx hb dX6_behindStep_71 (by decide) ?_
                  refine rm_irem hx hb dX6_behindStep_72 (by decide) (by decide) (Nat.lt_of_le_of_lt (Nat.div_le_self _ _) hmv) ?_
                  refine lv_goto (tgt := 77) hx hb dX6_behindStep_73 (by decide) ?_
                  refine rm_top (y := (nI (if Nat.testBit z c then tg (mv code) c else 0))) (by rw [if_pos q55]; rfl) ?_
                  exact join77   _ _ hP hD hS ls hl
        exact loop25 _ 0 _ (Nat.lt_succ_self _) (by omega) (fun j h => i2_1 j (by omega)) _ _ hP hD hS ls hl
      · skip
        refine lv_aload_n hx hb dX6_behindStep_10 rfl (lv_at hl 1 rfl) ?_
        refine va_get (D := D) (ci := 5) (v := .ref (a 11)) (C := RX6) (T := TX6) (N := 14) hx hb hts in_X6 hown hK hP 0 rfl xc5 13 (by decide) (hts _ q653) (fun _ h9 => h9) rfl dX6_behindStep_11 ?_
        refine lv_iload_n hx hb dX6_behindStep_14 rfl (lv_at hl 0 rfl) ?_
        refine lv_iconst (v := (nI 0)) hx hb dX6_behindStep_15 (by decide) ?_
        refine rm_nst hx hb hK hP hD hS 11 rfl (by omega) (by decide) (ws' := mW a cA st im kp nx li isl mv so la (va_up m1 c 0) ld us bl) rfl dX6_behindStep_16 (fun H locs hP hD hS => ?_)
        refine lv_iinc (v := (nI (c + 1))) (lv' := [(3, .int (nI (c + 1))), (0, .ref (a 0)), (1, .int (nI code)), (2, .int (nI z))]) hx hb dX6_behindStep_17 hl (k := 0) rfl (rm_inc c 1) (by decide) rfl (fun ls hl => ?_)
        refine lv_goto (tgt := 2) hx hb dX6_behindStep_20 (by decide) ?_
        exact ih2 (c + 1) _ (by omega) (by omega) (fun j h => by have q := i2_1 j; unfold va_up; grind) _ _ hP hD hS ls hl
  exact loop2 _ 0 _ (Nat.lt_succ_self _) (by omega) (fun j h => absurd h (by omega)) _ _ hP hD hS ls hl
theorem cwX6_behindStep_X6 {R : Room} {s : State} {args : Array Value} (hts : ∀ w ∈ lw_all, w.before args s = true) (hR : (rmX6_behindStep).frames + 1 ≤ R.frames ∧ 8 + (7 + 11) + (rmX6_behindStep).locals ≤ R.locals) : CallW R s args RX6 RX6 145 yX6_behindStep cX6_behindStep 7 (some .int) (ws_ yX6_behindStep cX6_behindStep 7 (some .int)) rmX6_behindStep 0 0 2 := cwV 2 hts (lw_V q846 q848 qs48 q63 q849) rfl rfl rfl (by decide +kernel) hR
abbrev rmX6_note : Room := { frames := 8, cells := 0, slots := 0, locals := 194 }
set_option maxHeartbeats 4000000 in
theorem metX6_note (l : Launch) (D : va_G) (cA : Nat → ClassId) (a : Nat → Nat) (st im : Nat → Nat) (kp : Nat → Bool) (nx li : Nat → Nat) (isl : Nat → Bool) (mv : Nat → Nat) (so la : Nat → Option Nat) (cm : Nat → Nat) (ld us : Nat) (bl : Bool) (code : Nat) (hn3 : 3 ≤ st 0) (hn10 : st 0 ≤ 10) (hst : ∀ j, st j < 2 ^ 31) (hm : st 11 ≤ 10) (hru : ∀ r, r < st 11 → rS st r 5 ≤ 2) (hc : code < 59049) (hld : ld < 59049) : MUv l yX6_note cX6_note 7 none rmX6_note [.ref (a 0), .int (nI code)] D cA (mW a cA st im kp nx li isl mv so la cm ld us bl) (fun (uu_ : (Nat → Bool) × (Nat → Nat) × (Nat → Nat) × (Nat) × (Nat)) => (isl code = true → uu_.1 = isl ∧ uu_.2.1 = li ∧ uu_.2.2.1 = mv ∧ uu_.2.2.2.1 = ld ∧ uu_.2.2.2.2 = us) ∧ (isl code = false → uu_.1 = va_up isl code true ∧ uu_.2.1 = va_up li ld code ∧ uu_.2.2.1 = va_up mv code (mvC (st 0) (st 11) (rS st) bl code) ∧ uu_.2.2.2.1 = ld + 1 ∧ uu_.2.2.2.2 = us ||| usC (st 0) (st 11) (rS st) bl code (st 0))) (fun (uu_ : (Nat → Bool) × (Nat → Nat) × (Nat → Nat) × (Nat) × (Nat)) => mW a cA st im kp nx uu_.2.1 uu_.1 uu_.2.2.1 so la cm uu_.2.2.2.1 uu_.2.2.2.2 bl) 0 0 := by
  refine mu_void rfl (Nat.le_of_ble_eq_true rfl) ?_
  intro p e s m below meth cd Q ls A hx hb hml hown hname hts hP hK hN hD hA hl hret
  have hown : s.vm.findClass RX6 = some m.cls := hown
  have hS : va_S A s.heap s.heap [] := va_S.rf
  have hl : lv_has ls 7 [(0, .ref (a 0)), (1, .int (nI code))] := hl
  have hSc : stS (st 0) code < 1024 := stS_lt hn10 _
  have hct : ct (stS (st 0) code) 10 ≤ 10 := ct_le _ 10
  refine lv_aload_n hx hb dX6_note_0 rfl (lv_at hl 0 rfl) ?_
  refine va_get (D := D) (ci := 5) (v := .ref (a 7)) (C := RX6) (T := TX6) (N := 14) hx hb hts in_X6 hown hK hP 0 rfl xc5 7 (by decide) (hts _ q647) (fun _ h9 => h9) rfl dX6_note_1 ?_
  refine lv_iload_n hx hb dX6_note_4 rfl (lv_at hl 1 rfl) ?_
  refine rm_zld hx hb hK hP 7 rfl (by omega) (by decide) dX6_note_5 ?_
  refine rm_beq (tgt := 10) hx hb dX6_note_6 (by decide) (fun q6 => ?_) (fun q6 => ?_)
  · skip
    refine lv_aload_n hx hb dX6_note_10 rfl (lv_at hl 0 rfl) ?_
    refine va_get (D := D) (ci := 5) (v := .ref (a 7)) (C := RX6) (T := TX6) (N := 14) hx hb hts in_X6 hown hK hP 0 rfl xc5 7 (by decide) (hts _ q647) (fun _ h9 => h9) rfl dX6_note_11 ?_
    refine lv_iload_n hx hb dX6_note_14 rfl (lv_at hl 1 rfl) ?_
    refine lv_iconst (v := (bI true)) hx hb dX6_note_15 (by decide) ?_
    refine rm_zst hx hb hK hP hD hS 7 rfl (by omega) (by decide) (ws' := mW a cA st im kp nx li (va_up isl code true) mv so la cm ld us bl) rfl dX6_note_16 (fun H locs hP hD hS => ?_)
    refine lv_aload_n hx hb dX6_note_17 rfl (lv_at hl 0 rfl) ?_
    refine va_get (D := D) (ci := 5) (v := .ref (a 6)) (C := RX6) (T := TX6) (N := 14) hx hb hts in_X6 hown hK hP 0 rfl xc5 5 (by decide) (hts _ q645) (fun _ h9 => h9) rfl dX6_note_18 ?_
    refine lv_aload_n hx hb dX6_note_21 rfl (lv_at hl 0 rfl) ?_
    refine va_get (D := D) (ci := 5) (v := .int (nI ld)) (C := RX6) (T := TX6) (N := 14) hx hb hts in_X6 hown hK hP 0 rfl xc5 6 (by decide) (hts _ q646) (fun _ h9 => h9) rfl dX6_note_22 ?_
    refine lv_iload_n hx hb dX6_note_25 rfl (lv_at hl 1 rfl) ?_
    refine rm_nst hx hb hK hP hD hS 6 rfl (by omega) (by decide) (ws' := mW a cA st im kp nx (va_up li ld code) (va_up isl code true) mv so la cm ld us bl) rfl dX6_note_26 (fun H locs hP hD hS => ?_)
    refine lv_aload_n hx hb dX6_note_27 rfl (lv_at hl 0 rfl) ?_
    refine lv_dup hx hb dX6_note_28 rfl ?_
    refine va_get (D := D) (ci := 5) (v := .int (nI ld)) (C := RX6) (T := TX6) (N := 14) hx hb hts in_X6 hown hK hP 0 rfl xc5 6 (by decide) (hts _ q646) (fun _ h9 => h9) rfl dX6_note_29 ?_
    refine lv_iconst (v := (nI 1)) hx hb dX6_note_32 (by decide) ?_
    refine rm_iadd hx hb dX6_note_33 ?_
    refine va_put (D := D) (ci := 5) (v := .int (nI (ld + 1))) (ty := .int) (C := RX6) (T := TX6) (N := 14) hx hb hts in_X6 tyX6 tyX6_ok nmX6 hown hK hP hD hS 0 rfl xc5 6 (by decide) (hts _ q646) (fun _ h9 => h9) rfl (by decide +kernel) rfl rfl (Nat.le_of_ble_eq_true rfl) dX6_note_34 (fun H locs hP hD hS => ?_)
    have hP : va_P D xCl (mW a cA st im kp nx (va_up li ld code) (va_up isl code true) mv so la cm (ld + 1) us bl) H := hP
    have hD : va_D A (mW a cA st im kp nx (va_up li ld code) (va_up isl code true) mv so la cm (ld + 1) us bl) := hD
    refine lv_aload_n hx hb dX6_note_37 rfl (lv_at hl 0 rfl) ?_
    refine lv_iload_n hx hb dX6_note_38 rfl (lv_at hl 1 rfl) ?_
    refine rm_cV (ls := ls) (As := [.int (nI code)]) (rest := []) ⟨hx, hb, hml, hown, hts⟩ (metX6_standsOf l D cA a st im kp nx (va_up li ld code) (va_up isl code true) mv so la cm (ld + 1) us bl code (by first | assumption | omega) (by first | assumption | omega) (by omega)) (cwX6_standsOf_X6 hts ⟨Nat.le_of_ble_eq_true rfl, Nat.le_of_ble_eq_true rfl⟩) hP hK hN (va_recv hK hP xc5 (q0 := 0) rfl) rfl hl.1 rfl (Nat.le_of_ble_eq_true rfl) dX6_note_39 ⟨Nat.zero_le _, Nat.zero_le _⟩ ?_
    refine lv_istore_n (lv' := [(2, .int (nI (stS (st 0) code))), (0, .ref (a 0)), (1, .int (nI code))]) hx hb dX6_note_42 rfl hl (by decide) rfl (fun ls hl => ?_)
    refine lv_iconst (v := (nI 0)) hx hb dX6_note_43 (by decide) ?_
    refine lv_istore_n (lv' := [(3, .int (nI 0)), (2, .int (nI (stS (st 0) code))), (0, .ref (a 0)), (1, .int (nI code))]) hx hb dX6_note_44 rfl hl (by decide) rfl (fun ls hl => ?_)
    refine lv_iconst (v := (nI 0)) hx hb dX6_note_45 (by decide) ?_
    refine lv_istore (lv' := [(4, .int (nI 0)), (3, .int (nI 0)), (2, .int (nI (stS (st 0) code))), (0, .ref (a 0)), (1, .int (nI code))]) hx hb dX6_note_46 hl (by decide) rfl (fun ls hl => ?_)
    have loop48 : ∀ (N : Nat) (c : Nat) (u : Nat), st 0 - c < N → (c ≤ st 0) → (u = us ||| usC (st 0) (st 11) (rS st) bl code c) → ∀ (H : Heap) (locs : List Loc), va_P D xCl (mW a cA st im kp nx (va_up li ld code) (va_up isl code true) mv so la cm (ld + 1) u bl) H → va_D A (mW a cA st im kp nx (va_up li ld code) (va_up isl code true) mv so la cm (ld + 1) u bl) → va_S A s.heap H locs → ∀ (ls : Array Slot), lv_has ls 7 [(4, .int (nI c)), (3, .int (nI (sm (fun c => p3 c * mvD (st 0) (st 11) (rS st) bl code c) c))), (2, .int (nI (stS (st 0) code))), (0, .ref (a 0)), (1, .int (nI code))] → W p l e rmX6_note s m ([.ref (a 0), .int (nI code)] : List Value).toArray below meth cd H locs 0 0 Q (F0 m 48 ls []) := by
      intro N
      induction N with
      | zero => intro c u hm; exact absurd hm (Nat.not_lt_zero _)
      | succ N ih48 =>
        intro c u hm48 i48_0 i48_1 H locs hP hD hS ls hl
        refine lv_iload hx hb dX6_note_48 (lv_at hl 0 rfl) ?_
        refine lv_aload_n hx hb dX6_note_50 rfl (lv_at hl 3 rfl) ?_
        refine rm_cV (ls := ls) (As := []) (rest := [.int (nI c)]) ⟨hx, hb, hml, hown, hts⟩ (metX6_cells l D cA a st im kp nx (va_up li ld code) (va_up isl code true) mv so la cm (ld + 1) u bl  ) (cwX6_cells_X6 hts ⟨Nat.le_of_ble_eq_true rfl, Nat.le_of_ble_eq_true rfl⟩) hP hK hN (va_recv hK hP xc5 (q0 := 0) rfl) rfl hl.1 rfl (Nat.le_of_ble_eq_true rfl) dX6_note_51 ⟨Nat.zero_le _, Nat.zero_le _⟩ ?_
        refine rm_cge (tgt := 192) hx hb dX6_note_54 (by decide) (by first | omega | exact hst _) (by first | omega | exact hst _) (fun q54 => ?_) (fun q54 => ?_)
        · skip
          refine lv_aload_n hx hb dX6_note_192 rfl (lv_at hl 3 rfl) ?_
          refine va_get (D := D) (ci := 5) (v := .ref (a 8)) (C := RX6) (T := TX6) (N := 14) hx hb hts in_X6 hown hK hP 0 rfl xc5 8 (by decide) (hts _ q648) (fun _ h9 => h9) rfl dX6_note_193 ?_
          refine lv_iload_n hx hb dX6_note_196 rfl (lv_at hl 4 rfl) ?_
          have join210 : ∀ (H : Heap) (locs : List Loc), va_P D xCl (mW a cA st im kp nx (va_up li ld code) (va_up isl code true) mv so la cm (ld + 1) u bl) H → va_D A (mW a cA st im kp nx (va_up li ld code) (va_up isl code true) mv so la cm (ld + 1) u bl) → va_S A s.heap H locs → ∀ (ls : Array Slot), lv_has ls 7 [(4, .int (nI c)), (3, .int (nI (sm (fun c => p3 c * mvD (st 0) (st 11) (rS st) bl code c) c))), (2, .int (nI (stS (st 0) code))), (0, .ref (a 0)), (1, .int (nI code))] → W p l e rmX6_note s m ([.ref (a 0), .int (nI code)] : List Value).toArray below meth cd H locs 0 0 Q (F0 m 210 ls [.int (nI (mvC (st 0) (st 11) (rS st) bl code)), .int (nI code), .ref (a 8)]) := by
            intro   H locs hP hD hS ls hl
            refine rm_nst hx hb hK hP hD hS 8 rfl (by omega) (by decide) (ws' := mW a cA st im kp nx (va_up li ld code) (va_up isl code true) (va_up mv code (mvC (st 0) (st 11) (rS st) bl code)) so la cm (ld + 1) u bl) rfl dX6_note_210 (fun H locs hP hD hS => ?_)
            exact hret (va_up isl code true, va_up li ld code, va_up mv code (mvC (st 0) (st 11) (rS st) bl code), ld + 1, u) _ _ 211 ls ⟨fun h => absurd (q6.symm.trans h) (by decide), fun _ => ⟨rfl, rfl, rfl, rfl, by rw [i48_1, show c = st 0 by omega]⟩⟩ hP hD hS dX6_note_211
          refine lv_iload_n hx hb dX6_note_197 rfl (lv_at hl 2 rfl) ?_
          refine rm_cS (ls := ls) (As := [.int (nI (stS (st 0) code))]) (rest := [.int (nI code), .ref (a 8)]) ⟨hx, hb, hml, hown, hts⟩ (metX6_size l (stS (st 0) code) (by first | assumption | omega)) (cwX6_size_X6 hts ⟨Nat.le_of_ble_eq_true rfl, Nat.le_of_ble_eq_true rfl⟩) noB rfl hl.1 rfl (Nat.le_of_ble_eq_true rfl) dX6_note_198 ⟨Nat.zero_le _, Nat.zero_le _⟩ ?_
          refine lv_iconst (v := (nI 2)) hx hb dX6_note_201 (by decide) ?_
          refine rm_cge (tgt := 209) hx hb dX6_note_202 (by decide) (by first | omega | exact hst _) (by decide) (fun q202 => ?_) (fun q202 => ?_)
          · skip
            refine lv_iload_n hx hb dX6_note_209 rfl (lv_at hl 1 rfl) ?_
            refine rm_top (y := (nI (mvC (st 0) (st 11) (rS st) bl code))) (by unfold mvC; rw [if_neg (by omega), show c = st 0 by omega]) ?_
            exact join210   _ _ hP hD hS ls hl
          · skip
            refine lv_iconst (v := (nI 0)) hx hb dX6_note_205 (by decide) ?_
            refine lv_goto (tgt := 210) hx hb dX6_note_206 (by decide) ?_
            refine rm_top (y := (nI (mvC (st 0) (st 11) (rS st) bl code))) (by unfold mvC; rw [if_pos q202]) ?_
            exact join210   _ _ hP hD hS ls hl
        · skip
          have join186 : ∀ (u2 : Nat), (u2 = us ||| usC (st 0) (st 11) (rS st) bl code (c + 1)) → ∀ (H : Heap) (locs : List Loc), va_P D xCl (mW a cA st im kp nx (va_up li ld code) (va_up isl code true) mv so la cm (ld + 1) u2 bl) H → va_D A (mW a cA st im kp nx (va_up li ld code) (va_up isl code true) mv so la cm (ld + 1) u2 bl) → va_S A s.heap H locs → ∀ (ls : Array Slot), lv_has ls 7 [(3, .int (nI (sm (fun c => p3 c * mvD (st 0) (st 11) (rS st) bl code c) (c + 1)))), (4, .int (nI c)), (2, .int (nI (stS (st 0) code))), (0, .ref (a 0)), (1, .int (nI code))] → W p l e rmX6_note s m ([.ref (a 0), .int (nI code)] : List Value).toArray below meth cd H locs 0 0 Q (F0 m 186 ls []) := by
            intro u2 i186_0 H locs hP hD hS ls hl
            refine lv_iinc (v := (nI (c + 1))) (lv' := [(4, .int (nI (c + 1))), (3, .int (nI (sm (fun c => p3 c * mvD (st 0) (st 11) (rS st) bl code c) (c + 1)))), (2, .int (nI (stS (st 0) code))), (0, .ref (a 0)), (1, .int (nI code))]) hx hb dX6_note_186 hl (k := 1) rfl (rm_inc c 1) (by decide) rfl (fun ls hl => ?_)
            refine lv_goto (tgt := 48) hx hb dX6_note_189 (by decide) ?_
            exact ih48 (c + 1) _ (by omega) (by omega) i186_0 _ _ hP hD hS ls hl
          refine lv_iload_n hx hb dX6_note_57 rfl (lv_at hl 2 rfl) ?_
          refine lv_iload hx hb dX6_note_58 (lv_at hl 0 rfl) ?_
          refine rm_cS (ls := ls) (As := [.int (nI (stS (st 0) code)), .int (nI c)]) (rest := []) ⟨hx, hb, hml, hown, hts⟩ (metX6_has l (stS (st 0) code) c (by first | assumption | omega) (by first | assumption | omega)) (cwX6_has_X6 hts ⟨Nat.le_of_ble_eq_true rfl, Nat.le_of_ble_eq_true rfl⟩) noB rfl hl.1 rfl (Nat.le_of_ble_eq_true rfl) dX6_note_60 ⟨Nat.zero_le _, Nat.zero_le _⟩ ?_
          refine rm_beq (tgt := 186) hx hb dX6_note_63 (by decide) (fun q63 => ?_) (fun q63 => ?_)
          · skip
            have em : sm (fun c => p3 c * mvD (st 0) (st 11) (rS st) bl code c) c = sm (fun c => p3 c * mvD (st 0) (st 11) (rS st) bl code c) (c + 1) := by show _ = _ + p3 c * mvD (st 0) (st 11) (rS st) bl code c; unfold mvD; rw [if_neg (by rw [q63]; decide)]; rfl
            rw [em] at hl
            exact join186 _ (by rw [i48_1]; show _ = us ||| (_ ||| usD (st 0) (st 11) (rS st) bl code c); unfold usD; rw [if_neg (by rw [q63]; decide), Nat.or_zero]) _ _ hP hD hS ls (lv_sub hl [1, 0, 2, 3, 4] rfl)
          · skip
            have hne : ne_ (st 0) (stS (st 0) code) := ⟨c, q54, q63⟩
            refine lv_aload_n hx hb dX6_note_66 rfl (lv_at hl 3 rfl) ?_
            refine lv_iload_n hx hb dX6_note_67 rfl (lv_at hl 2 rfl) ?_
            refine lv_iload hx hb dX6_note_68 (lv_at hl 0 rfl) ?_
            have join97 : ∀ (H : Heap) (locs : List Loc), va_P D xCl (mW a cA st im kp nx (va_up li ld code) (va_up isl code true) mv so la cm (ld + 1) u bl) H → va_D A (mW a cA st im kp nx (va_up li ld code) (va_up isl code true) mv so la cm (ld + 1) u bl) → va_S A s.heap H locs → ∀ (ls : Array Slot), lv_has ls 7 [(4, .int (nI c)), (3, .int (nI (sm (fun c => p3 c * mvD (st 0) (st 11) (rS st) bl code c) c))), (2, .int (nI (stS (st 0) code))), (0, .ref (a 0)), (1, .int (nI code))] → W p l e rmX6_note s m ([.ref (a 0), .int (nI code)] : List Value).toArray below meth cd H locs 0 0 Q (F0 m 97 ls [.int (bI (twC bl code c)), .int (nI c), .int (nI (stS (st 0) code)), .ref (a 0)]) := by
              intro   H locs hP hD hS ls hl
              refine rm_cV (ls := ls) (As := [.int (nI (stS (st 0) code)), .int (nI c), .int (bI (twC bl code c))]) (rest := []) ⟨hx, hb, hml, hown, hts⟩ (metX6_ruleOf l D cA a st im kp nx (va_up li ld code) (va_up isl code true) mv so la cm (ld + 1) u bl (stS (st 0) code) c (twC bl code c) (by first | assumption | omega) (by first | assumption | omega) (by first | assumption | omega) (by first | assumption | omega) (by first | assumption | omega) (by first | assumption | omega) (by first | assumption | omega) (by first | assumption | omega)) (cwX6_ruleOf_X6 hts ⟨Nat.le_of_ble_eq_true rfl, Nat.le_of_ble_eq_true rfl⟩) hP hK hN (va_recv hK hP xc5 (q0 := 0) rfl) rfl hl.1 rfl (Nat.le_of_ble_eq_true rfl) dX6_note_97 ⟨Nat.zero_le _, Nat.zero_le _⟩ ?_
              refine rm_top (y := (oI (rlC (st 0) (st 11) (rS st) bl code c))) rfl ?_
              refine lv_istore (lv' := [(5, .int (oI (rlC (st 0) (st 11) (rS st) bl code c))), (4, .int (nI c)), (3, .int (nI (sm (fun c => p3 c * mvD (st 0) (st 11) (rS st) bl code c) c))), (2, .int (nI (stS (st 0) code))), (0, .ref (a 0)), (1, .int (nI code))]) hx hb dX6_note_100 hl (by decide) rfl (fun ls hl => ?_)
              have hrl : ∀ r, rlC (st 0) (st 11) (rS st) bl code c = some r → r < 10 := fun r h => Nat.lt_of_lt_of_le (rl_lt h) hm
              refine lv_aload_n hx hb dX6_note_102 rfl (lv_at hl 4 rfl) ?_
              refine lv_iload_n hx hb dX6_note_103 rfl (lv_at hl 3 rfl) ?_
              refine lv_iload hx hb dX6_note_104 (lv_at hl 1 rfl) ?_
              refine lv_aload_n hx hb dX6_note_106 rfl (lv_at hl 4 rfl) ?_
              refine lv_iload hx hb dX6_note_107 (lv_at hl 0 rfl) ?_
              refine rm_cV (ls := ls) (As := [.int (oI (rlC (st 0) (st 11) (rS st) bl code c))]) (rest := [.int (nI c), .int (nI (stS (st 0) code)), .ref (a 0)]) ⟨hx, hb, hml, hown, hts⟩ (metX6_doneBy l D cA a st im kp nx (va_up li ld code) (va_up isl code true) mv so la cm (ld + 1) u bl (rlC (st 0) (st 11) (rS st) bl code c) hrl) (cwX6_doneBy_X6 hts ⟨Nat.le_of_ble_eq_true rfl, Nat.le_of_ble_eq_true rfl⟩) hP hK hN (va_recv hK hP xc5 (q0 := 0) rfl) rfl hl.1 rfl (Nat.le_of_ble_eq_true rfl) dX6_note_109 ⟨Nat.zero_le _, Nat.zero_le _⟩ ?_
              refine rm_cV (ls := ls) (As := [.int (nI (stS (st 0) code)), .int (nI c), .int (nI (dn (rS st) (rlC (st 0) (st 11) (rS st) bl code c)))]) (rest := []) ⟨hx, hb, hml, hown, hts⟩ (metX6_behind l D cA a st im kp nx (va_up li ld code) (va_up isl code true) mv so la cm (ld + 1) u bl (stS (st 0) code) c (dn (rS st) (rlC (st 0) (st 11) (rS st) bl code c)) (by first | assumption | omega) (by first | assumption | omega) (by first | assumption | omega) (by first | assumption | omega) (by first | assumption | omega) (dn_lt hst _)) (cwX6_behind_X6 hts ⟨Nat.le_of_ble_eq_true rfl, Nat.le_of_ble_eq_true rfl⟩) hP hK hN (va_recv hK hP xc5 (q0 := 0) rfl) rfl hl.1 rfl (Nat.le_of_ble_eq_true rfl) dX6_note_112 ⟨Nat.zero_le _, Nat.zero_le _⟩ ?_
              refine rm_top (y := (nI (toC (st 0) (st 11) (rS st) bl code c))) rfl ?_
              refine lv_istore (lv' := [(6, .int (nI (toC (st 0) (st 11) (rS st) bl code c))), (5, .int (oI (rlC (st 0) (st 11) (rS st) bl code c))), (4, .int (nI c)), (3, .int (nI (sm (fun c => p3 c * mvD (st 0) (st 11) (rS st) bl code c) c))), (2, .int (nI (stS (st 0) code))), (0, .ref (a 0)), (1, .int (nI code))]) hx hb dX6_note_115 hl (by decide) rfl (fun ls hl => ?_)
              have hto : toC (st 0) (st 11) (rS st) bl code c < st 0 := gt_lt (by omega) q54
              refine lv_iload_n hx hb dX6_note_117 rfl (lv_at hl 3 rfl) ?_
              refine lv_aload_n hx hb dX6_note_118 rfl (lv_at hl 5 rfl) ?_
              refine va_get (D := D) (ci := 5) (v := .ref (a 4)) (C := RX6) (T := TX6) (N := 14) hx hb hts in_X6 hown hK hP 0 rfl xc5 3 (by decide) (hts _ q643) (fun _ h9 => h9) rfl dX6_note_119 ?_
              refine lv_iload hx hb dX6_note_122 (lv_at hl 2 rfl) ?_
              refine rm_nld hx hb hK hP 4 rfl (by omega) (by decide) dX6_note_124 ?_
              have join153 : ∀ (H : Heap) (locs : List Loc), va_P D xCl (mW a cA st im kp nx (va_up li ld code) (va_up isl code true) mv so la cm (ld + 1) u bl) H → va_D A (mW a cA st im kp nx (va_up li ld code) (va_up isl code true) mv so la cm (ld + 1) u bl) → va_S A s.heap H locs → ∀ (ls : Array Slot), lv_has ls 7 [(6, .int (nI (toC (st 0) (st 11) (rS st) bl code c))), (5, .int (oI (rlC (st 0) (st 11) (rS st) bl code c))), (4, .int (nI c)), (3, .int (nI (sm (fun c => p3 c * mvD (st 0) (st 11) (rS st) bl code c) c))), (2, .int (nI (stS (st 0) code))), (0, .ref (a 0)), (1, .int (nI code))] → W p l e rmX6_note s m ([.ref (a 0), .int (nI code)] : List Value).toArray below meth cd H locs 0 0 Q (F0 m 153 ls [.int (nI (mvD (st 0) (st 11) (rS st) bl code c)), .int (nI (p3 c)), .int (nI (sm (fun c => p3 c * mvD (st 0) (st 11) (rS st) bl code c) c))]) := by
                intro   H locs hP hD hS ls hl
                refine rm_imul hx hb dX6_note_153 ?_
                refine rm_iadd hx hb dX6_note_154 ?_
                refine lv_istore_n (lv' := [(3, .int (nI ((sm (fun c => p3 c * mvD (st 0) (st 11) (rS st) bl code c) c) + ((p3 c) * (mvD (st 0) (st 11) (rS st) bl code c))))), (6, .int (nI (toC (st 0) (st 11) (rS st) bl code c))), (5, .int (oI (rlC (st 0) (st 11) (rS st) bl code c))), (4, .int (nI c)), (2, .int (nI (stS (st 0) code))), (0, .ref (a 0)), (1, .int (nI code))]) hx hb dX6_note_155 rfl hl (by decide) rfl (fun ls hl => ?_)
                refine lv_aload_n hx hb dX6_note_156 rfl (lv_at hl 5 rfl) ?_
                refine lv_dup hx hb dX6_note_157 rfl ?_
                refine va_get (D := D) (ci := 5) (v := .int (nI u)) (C := RX6) (T := TX6) (N := 14) hx hb hts in_X6 hown hK hP 0 rfl xc5 11 (by decide) (hts _ q651) (fun _ h9 => h9) rfl dX6_note_158 ?_
                have join182 : ∀ (H : Heap) (locs : List Loc), va_P D xCl (mW a cA st im kp nx (va_up li ld code) (va_up isl code true) mv so la cm (ld + 1) u bl) H → va_D A (mW a cA st im kp nx (va_up li ld code) (va_up isl code true) mv so la cm (ld + 1) u bl) → va_S A s.heap H locs → ∀ (ls : Array Slot), lv_has ls 7 [(3, .int (nI ((sm (fun c => p3 c * mvD (st 0) (st 11) (rS st) bl code c) c) + ((p3 c) * (mvD (st 0) (st 11) (rS st) bl code c))))), (4, .int (nI c)), (2, .int (nI (stS (st 0) code))), (0, .ref (a 0)), (1, .int (nI code))] → W p l e rmX6_note s m ([.ref (a 0), .int (nI code)] : List Value).toArray below meth cd H locs 0 0 Q (F0 m 182 ls [.int (nI (usD (st 0) (st 11) (rS st) bl code c)), .int (nI u), .ref (a 0)]) := by
                  intro   H locs hP hD hS ls hl
                  refine rm_ior hx hb dX6_note_182 ?_
                  refine va_put (D := D) (ci := 5) (v := .int (nI (u ||| (usD (st 0) (st 11) (rS st) bl code c)))) (ty := .int) (C := RX6) (T := TX6) (N := 14) hx hb hts in_X6 tyX6 tyX6_ok nmX6 hown hK hP hD hS 0 rfl xc5 11 (by decide) (hts _ q651) (fun _ h9 => h9) rfl (by decide +kernel) rfl rfl (Nat.le_of_ble_eq_true rfl) dX6_note_183 (fun H locs hP hD hS => ?_)
                  have hP : va_P D xCl (mW a cA st im kp nx (va_up li ld code) (va_up isl code true) mv so la cm (ld + 1) (u ||| (usD (st 0) (st 11) (rS st) bl code c)) bl) H := hP
                  have hD : va_D A (mW a cA st im kp nx (va_up li ld code) (va_up isl code true) mv so la cm (ld + 1) (u ||| (usD (st 0) (st 11) (rS st) bl code c)) bl) := hD
                  exact join186 _ (by rw [i48_1, Nat.or_assoc]; rfl) _ _ hP hD hS ls hl
                refine lv_iload hx hb dX6_note_161 (lv_at hl 2 rfl) ?_
                refine rm_olt (tgt := 181) hx hb dX6_note_163 (by decide) (fun v h => Nat.lt_trans (hrl v h) (by decide)) (fun q163 => ?_) (fun q163 => ?_)
                · skip
                  refine lv_iconst (v := (nI 0)) hx hb dX6_note_181 (by decide) ?_
                  refine rm_top (y := (nI (usD (st 0) (st 11) (rS st) bl code c))) (by unfold usD; rw [if_pos q63, q163]) ?_
                  exact join182   _ _ hP hD hS ls (lv_sub hl [0, 3, 4, 5, 6] rfl)
                · skip
                  refine lv_iload_n hx hb dX6_note_166 rfl (lv_at hl 4 rfl) ?_
                  refine rm_cS (ls := ls) (As := [.int (nI (stS (st 0) code))]) (rest := [.int (nI u), .ref (a 0)]) ⟨hx, hb, hml, hown, hts⟩ (metX6_size l (stS (st 0) code) (by first | assumption | omega)) (cwX6_size_X6 hts ⟨Nat.le_of_ble_eq_true rfl, Nat.le_of_ble_eq_true rfl⟩) noB rfl hl.1 rfl (Nat.le_of_ble_eq_true rfl) dX6_note_167 ⟨Nat.zero_le _, Nat.zero_le _⟩ ?_
                  refine lv_iconst (v := (nI 1)) hx hb dX6_note_170 (by decide) ?_
                  refine rm_cle (tgt := 181) hx hb dX6_note_171 (by decide) (by first | omega | exact hst _) (by decide) (fun q171 => ?_) (fun q171 => ?_)
                  · skip
                    refine lv_iconst (v := (nI 0)) hx hb dX6_note_181 (by decide) ?_
                    refine rm_top (y := (nI (usD (st 0) (st 11) (rS st) bl code c))) (by obtain ⟨r, hr⟩ := q163; unfold usD; rw [if_pos q63, hr]; show _ = nI (if _ then _ else _); rw [if_neg (by omega)]) ?_
                    exact join182   _ _ hP hD hS ls (lv_sub hl [0, 3, 4, 5, 6] rfl)
                  · skip
                    obtain ⟨r, hr⟩ := q163
                    rw [hr] at hl
                    have hr10 := hrl r hr
                    have hl : lv_has ls 7 [(3, .int (nI ((sm (fun c => p3 c * mvD (st 0) (st 11) (rS st) bl code c) c) + ((p3 c) * (mvD (st 0) (st 11) (rS st) bl code c))))), (6, .int (nI (toC (st 0) (st 11) (rS st) bl code c))), (5, .int (nI r)), (4, .int (nI c)), (2, .int (nI (stS (st 0) code))), (0, .ref (a 0)), (1, .int (nI code))] := hl
                    refine lv_iconst (v := (nI 1)) hx hb dX6_note_174 (by decide) ?_
                    refine lv_iload hx hb dX6_note_175 (lv_at hl 2 rfl) ?_
                    refine rm_ishl1 hx hb dX6_note_177 (by omega) ?_
                    refine lv_goto (tgt := 182) hx hb dX6_note_178 (by decide) ?_
                    refine rm_top (y := (nI (usD (st 0) (st 11) (rS st) bl code c))) (by unfold usD; rw [if_pos q63, hr]; show _ = nI (if _ then _ else _); rw [if_pos q171]) ?_
                    exact join182   _ _ hP hD hS ls (lv_sub hl [0, 3, 4, 5, 6] rfl)
              refine lv_iload hx hb dX6_note_125 (lv_at hl 0 rfl) ?_
              refine lv_iload hx hb dX6_note_127 (lv_at hl 2 rfl) ?_
              refine rm_cne (tgt := 136) hx hb dX6_note_129 (by decide) (by omega) (by first | omega | exact hst _) (fun q129 => ?_) (fun q129 => ?_)
              · skip
                refine lv_iload hx hb dX6_note_136 (lv_at hl 0 rfl) ?_
                refine lv_aload_n hx hb dX6_note_138 rfl (lv_at hl 5 rfl) ?_
                refine lv_iload hx hb dX6_note_139 (lv_at hl 2 rfl) ?_
                refine lv_iconst (v := (nI 1)) hx hb dX6_note_141 (by decide) ?_
                refine rm_cV (ls := ls) (As := [.int (nI c), .int (nI 1)]) (rest := [.int (nI (toC (st 0) (st 11) (rS st) bl code c)), .int (nI (p3 c)), .int (nI (sm (fun c => p3 c * mvD (st 0) (st 11) (rS st) bl code c) c))]) ⟨hx, hb, hml, hown, hts⟩ (metX6_beside l D cA a st im kp nx (va_up li ld code) (va_up isl code true) mv so la cm (ld + 1) u bl c (nI 1) true 1 (by first | assumption | omega) (by first | assumption | omega) (by first | assumption | omega) (by first | assumption | omega) (by first | rfl | exact dI_1 _)) (cwX6_beside_X6 hts ⟨Nat.le_of_ble_eq_true rfl, Nat.le_of_ble_eq_true rfl⟩) hP hK hN (va_recv hK hP xc5 (q0 := 0) rfl) rfl hl.1 rfl (Nat.le_of_ble_eq_true rfl) dX6_note_142 ⟨Nat.zero_le _, Nat.zero_le _⟩ ?_
                refine rm_cne (tgt := 152) hx hb dX6_note_145 (by decide) (by omega) (Nat.lt_trans (it_lt (by omega) _ _ _) (by omega)) (fun q145 => ?_) (fun q145 => ?_)
                · skip
                  refine lv_iconst (v := (nI 2)) hx hb dX6_note_152 (by decide) ?_
                  refine rm_top (y := (nI (mvD (st 0) (st 11) (rS st) bl code c))) (by unfold mvD; rw [if_pos q63, if_neg q129, if_neg q145]) ?_
                  exact join153   _ _ hP hD hS ls hl
                · skip
                  refine lv_iconst (v := (nI 1)) hx hb dX6_note_148 (by decide) ?_
                  refine lv_goto (tgt := 153) hx hb dX6_note_149 (by decide) ?_
                  refine rm_top (y := (nI (mvD (st 0) (st 11) (rS st) bl code c))) (by unfold mvD; rw [if_pos q63, if_neg q129, if_pos q145]) ?_
                  exact join153   _ _ hP hD hS ls hl
              · skip
                refine lv_iconst (v := (nI 0)) hx hb dX6_note_132 (by decide) ?_
                refine lv_goto (tgt := 153) hx hb dX6_note_133 (by decide) ?_
                refine rm_top (y := (nI (mvD (st 0) (st 11) (rS st) bl code c))) (by unfold mvD; rw [if_pos q63, if_pos q129]) ?_
                exact join153   _ _ hP hD hS ls hl
            refine lv_aload_n hx hb dX6_note_70 rfl (lv_at hl 3 rfl) ?_
            refine va_get (D := D) (ci := 5) (v := .int (bI bl)) (C := RX6) (T := TX6) (N := 14) hx hb hts in_X6 hown hK hP 0 rfl xc5 12 (by decide) (hts _ q652) (fun _ h9 => h9) rfl dX6_note_71 ?_
            refine rm_bne (tgt := 96) hx hb dX6_note_74 (by decide) (fun q74 => ?_) (fun q74 => ?_)
            · skip
              refine lv_iconst (v := (nI 0)) hx hb dX6_note_96 (by decide) ?_
              refine rm_top (y := (bI (twC bl code c))) (by unfold twC; rw [q74]; rfl) ?_
              exact join97   _ _ hP hD hS ls hl
            · skip
              refine lv_iload_n hx hb dX6_note_77 rfl (lv_at hl 4 rfl) ?_
              refine lv_aload_n hx hb dX6_note_78 rfl (lv_at hl 3 rfl) ?_
              refine va_get (D := D) (ci := 5) (v := .ref (a 4)) (C := RX6) (T := TX6) (N := 14) hx hb hts in_X6 hown hK hP 0 rfl xc5 3 (by decide) (hts _ q643) (fun _ h9 => h9) rfl dX6_note_79 ?_
              refine lv_iload hx hb dX6_note_82 (lv_at hl 0 rfl) ?_
              refine rm_nld hx hb hK hP 4 rfl (by omega) (by decide) dX6_note_84 ?_
              refine rm_idiv hx hb dX6_note_85 (p3_pos c) (Nat.lt_of_le_of_lt (p3_le (by omega)) (by decide)) (by first | omega | exact hst _) ?_
              refine lv_iconst (v := (nI 3)) hx hb dX6_note_86 (by decide) ?_
              refine rm_irem hx hb dX6_note_87 (by decide) (by decide) (Nat.lt_of_le_of_lt (Nat.div_le_self _ _) (by omega)) ?_
              refine rm_top (y := (nI (tg code c))) rfl ?_
              refine lv_iconst (v := (nI 2)) hx hb dX6_note_88 (by decide) ?_
              refine rm_cne (tgt := 96) hx hb dX6_note_89 (by decide) (Nat.lt_trans (tg_lt code c) (by decide)) (by decide) (fun q89 => ?_) (fun q89 => ?_)
              · skip
                refine lv_iconst (v := (nI 0)) hx hb dX6_note_96 (by decide) ?_
                refine rm_top (y := (bI (twC bl code c))) (by unfold twC; rw [q74, decide_eq_false q89]; rfl) ?_
                exact join97   _ _ hP hD hS ls hl
              · skip
                refine lv_iconst (v := (nI 1)) hx hb dX6_note_92 (by decide) ?_
                refine lv_goto (tgt := 97) hx hb dX6_note_93 (by decide) ?_
                refine rm_top (y := (bI (twC bl code c))) (by unfold twC; rw [q74, decide_eq_true q89]; rfl) ?_
                exact join97   _ _ hP hD hS ls hl
    exact loop48 _ 0 us (Nat.lt_succ_self _) (by omega) (Nat.or_zero _).symm _ _ hP hD hS ls hl
  · skip
    exact hret (isl, li, mv, ld, us) _ _ 9 ls ⟨fun _ => ⟨rfl, rfl, rfl, rfl, rfl⟩, fun h => absurd (q6.symm.trans h) (by decide)⟩ hP hD hS dX6_note_9
theorem cwX6_note_X6 {R : Room} {s : State} {args : Array Value} (hts : ∀ w ∈ lw_all, w.before args s = true) (hR : (rmX6_note).frames + 1 ≤ R.frames ∧ 8 + (7 + 11) + (rmX6_note).locals ≤ R.locals) : CallW R s args RX6 RX6 148 yX6_note cX6_note 7 none (ws_ yX6_note cX6_note 7 none) rmX6_note 0 0 1 := cwV 1 hts (lw_V q831 q833 qs45 q63 q834) rfl rfl rfl (by decide +kernel) hR
abbrev rmX6_step : Room := { frames := 8, cells := 0, slots := 0, locals := 194 }
set_option maxHeartbeats 4000000 in
theorem metX6_step (l : Launch) (D : va_G) (cA : Nat → ClassId) (a : Nat → Nat) (st im : Nat → Nat) (kp : Nat → Bool) (nx li : Nat → Nat) (isl : Nat → Bool) (mv : Nat → Nat) (so la : Nat → Option Nat) (cm : Nat → Nat) (ld us : Nat) (bl : Bool) (v : Int32) (hn3 : 3 ≤ st 0) (hn10 : st 0 ≤ 10) (hst : ∀ j, st j < 2 ^ 31) (hm : st 11 ≤ 10) (hru : ∀ r, r < st 11 → rS st r 5 ≤ 2) (hsm : sm (fun c => st (1 + c)) 10 ≤ 5) : MUi l yX6_step cX6_step 5 (some .int) rmX6_step [.ref (a 0), .int v] D cA (mW a cA st im kp nx li isl mv so la cm ld us bl) (fun (res_ : Int32) (uu_ : (Nat → Nat) × (Nat → Nat)) => res_ = (stepR (st 0) (fun c => st (1 + c)) (st 11) (rS st) v) ∧ (∀ j, uu_.1 j = if stepB (SS (st 0) (fun c => st (1 + c))) v = true ∧ 1 ≤ j ∧ j ≤ 10 then stepW (st 0) (fun c => st (1 + c)) (st 11) (rS st) v.toNatClampNeg (j - 1) else st j)) (fun (uu_ : (Nat → Nat) × (Nat → Nat)) => mW a cA uu_.1 im kp uu_.2 li isl mv so la cm ld us bl) 0 0 := by
  refine mu_int rfl (Nat.le_of_ble_eq_true rfl) ?_
  intro p e s m below meth cd Q ls A hx hb hml hown hts hP hK hN hD hA hl hret
  have hown : s.vm.findClass RX6 = some m.cls := hown
  have hS : va_S A s.heap s.heap [] := va_S.rf
  have hl : lv_has ls 5 [(0, .ref (a 0)), (1, .int v)] := hl
  have hSc : SS (st 0) (fun c => st (1 + c)) < 1024 := SS_lt _ hn10
  refine lv_aload_n hx hb dX6_step_0 rfl (lv_at hl 0 rfl) ?_
  refine lv_aload_n hx hb dX6_step_1 rfl (lv_at hl 0 rfl) ?_
  refine rm_cV (ls := ls) (As := []) (rest := [.ref (a 0)]) ⟨hx, hb, hml, hown, hts⟩ (metX6_now l D cA a st im kp nx li isl mv so la cm ld us bl  (by first | assumption | omega) (by first | assumption | omega) (by first | assumption | omega)) (cwX6_now_X6 hts ⟨Nat.le_of_ble_eq_true rfl, Nat.le_of_ble_eq_true rfl⟩) hP hK hN (va_recv hK hP xc5 (q0 := 0) rfl) rfl hl.1 rfl (Nat.le_of_ble_eq_true rfl) dX6_step_2 ⟨Nat.zero_le _, Nat.zero_le _⟩ ?_
  refine rm_cV (ls := ls) (As := [.int (nI (cdw (fun c => st (1 + c)) (st 0)))]) (rest := []) ⟨hx, hb, hml, hown, hts⟩ (metX6_standsOf l D cA a st im kp nx li isl mv so la cm ld us bl (cdw (fun c => st (1 + c)) (st 0)) (by first | assumption | omega) (by first | assumption | omega) (SS_lt31 hn10 _)) (cwX6_standsOf_X6 hts ⟨Nat.le_of_ble_eq_true rfl, Nat.le_of_ble_eq_true rfl⟩) hP hK hN (va_recv hK hP xc5 (q0 := 0) rfl) rfl hl.1 rfl (Nat.le_of_ble_eq_true rfl) dX6_step_5 ⟨Nat.zero_le _, Nat.zero_le _⟩ ?_
  refine rm_top (y := (nI (SS (st 0) (fun c => st (1 + c))))) (by rw [stS_cdw]) ?_
  refine lv_istore_n (lv' := [(2, .int (nI (SS (st 0) (fun c => st (1 + c))))), (0, .ref (a 0)), (1, .int v)]) hx hb dX6_step_8 rfl hl (by decide) rfl (fun ls hl => ?_)
  refine lv_iload_n hx hb dX6_step_9 rfl (lv_at hl 2 rfl) ?_
  refine lv_if_lt (tgt := 21) hx hb dX6_step_10 (by decide) (fun q10 => ?_) (fun q10 => ?_)
  · skip
    refine lv_bipush (v := (-2)) hx hb dX6_step_21 (by decide) ?_
    exact hret _ (st, nx) _ _ 23 ls ⟨by unfold stepR; rw [if_neg (by unfold stepB; rw [decide_eq_false (show ¬ ¬ v < 0 from fun h => h q10), Bool.false_and]; decide)], fun j => by rw [if_neg (fun h => absurd h.1 (by unfold stepB; rw [decide_eq_false (show ¬ ¬ v < 0 from fun h => h q10), Bool.false_and]; decide))]⟩ hP hD hS dX6_step_23
  · skip
    refine lv_iload_n hx hb dX6_step_13 rfl (lv_at hl 2 rfl) ?_
    refine lv_iload_n hx hb dX6_step_14 rfl (lv_at hl 0 rfl) ?_
    refine lv_iconst (v := (-1)) hx hb dX6_step_15 (by decide) ?_
    refine lv_ixor hx hb dX6_step_16 ?_
    refine lv_iand hx hb dX6_step_17 ?_
    refine lv_if_eq (tgt := 24) hx hb dX6_step_18 (by decide) (fun q18 => ?_) (fun q18 => ?_)
    · skip
      have hB : stepB (SS (st 0) (fun c => st (1 + c))) v = true := by unfold stepB; rw [decide_eq_true q10, decide_eq_true q18]; rfl
      obtain ⟨z, hz, rfl⟩ := stepB_iff hSc hB
      refine lv_iconst (v := (nI 0)) hx hb dX6_step_24 (by decide) ?_
      refine lv_istore_n (lv' := [(3, .int (nI 0)), (2, .int (nI (SS (st 0) (fun c => st (1 + c))))), (0, .ref (a 0)), (1, .int (nI z))]) hx hb dX6_step_25 rfl hl (by decide) rfl (fun ls hl => ?_)
      have loop26 : ∀ (N : Nat) (c : Nat) (x1 : Nat → Nat), 10 - c < N → (c ≤ 10) → (∀ j, j < c → x1 j = 0) → ∀ (H : Heap) (locs : List Loc), va_P D xCl (mW a cA st im kp x1 li isl mv so la cm ld us bl) H → va_D A (mW a cA st im kp x1 li isl mv so la cm ld us bl) → va_S A s.heap H locs → ∀ (ls : Array Slot), lv_has ls 5 [(3, .int (nI c)), (2, .int (nI (SS (st 0) (fun c => st (1 + c))))), (0, .ref (a 0)), (1, .int (nI z))] → W p l e rmX6_step s m ([.ref (a 0), .int (nI z)] : List Value).toArray below meth cd H locs 0 0 Q (F0 m 26 ls []) := by
        intro N
        induction N with
        | zero => intro c x1 hm; exact absurd hm (Nat.not_lt_zero _)
        | succ N ih26 =>
          intro c x1 hm26 i26_0 i26_1 H locs hP hD hS ls hl
          refine lv_iload_n hx hb dX6_step_26 rfl (lv_at hl 0 rfl) ?_
          refine lv_bipush (v := (nI 10)) hx hb dX6_step_27 (by decide) ?_
          refine rm_cge (tgt := 45) hx hb dX6_step_29 (by decide) (by first | omega | exact hst _) (by decide) (fun q29 => ?_) (fun q29 => ?_)
          · skip
            refine lv_iconst (v := (nI 0)) hx hb dX6_step_45 (by decide) ?_
            refine lv_istore_n (lv' := [(3, .int (nI 0)), (2, .int (nI (SS (st 0) (fun c => st (1 + c))))), (0, .ref (a 0)), (1, .int (nI z))]) hx hb dX6_step_46 rfl hl (by decide) rfl (fun ls hl => ?_)
            have loop47 : ∀ (N : Nat) (c : Nat) (x2 : Nat → Nat), st 0 - c < N → (c ≤ st 0) → (∀ j, j < 10 → x2 j = stW (SS (st 0) (fun c => st (1 + c))) (fun c => st (1 + c)) (stT (st 0) (SS (st 0) (fun c => st (1 + c))) z (fun c => st (1 + c)) (st 11) (rS st)) c j) → ∀ (H : Heap) (locs : List Loc), va_P D xCl (mW a cA st im kp x2 li isl mv so la cm ld us bl) H → va_D A (mW a cA st im kp x2 li isl mv so la cm ld us bl) → va_S A s.heap H locs → ∀ (ls : Array Slot), lv_has ls 5 [(3, .int (nI c)), (2, .int (nI (SS (st 0) (fun c => st (1 + c))))), (0, .ref (a 0)), (1, .int (nI z))] → W p l e rmX6_step s m ([.ref (a 0), .int (nI z)] : List Value).toArray below meth cd H locs 0 0 Q (F0 m 47 ls []) := by
              intro N
              induction N with
              | zero => intro c x2 hm; exact absurd hm (Nat.not_lt_zero _)
              | succ N ih47 =>
                intro c x2 hm47 i47_0 i47_1 H locs hP hD hS ls hl
                refine lv_iload_n hx hb dX6_step_47 rfl (lv_at hl 0 rfl) ?_
                refine lv_aload_n hx hb dX6_step_48 rfl (lv_at hl 2 rfl) ?_
                refine rm_cV (ls := ls) (As := []) (rest := [.int (nI c)]) ⟨hx, hb, hml, hown, hts⟩ (metX6_cells l D cA a st im kp x2 li isl mv so la cm ld us bl  ) (cwX6_cells_X6 hts ⟨Nat.le_of_ble_eq_true rfl, Nat.le_of_ble_eq_true rfl⟩) hP hK hN (va_recv hK hP xc5 (q0 := 0) rfl) rfl hl.1 rfl (Nat.le_of_ble_eq_true rfl) dX6_step_49 ⟨Nat.zero_le _, Nat.zero_le _⟩ ?_
                refine rm_cge (tgt := 134) hx hb dX6_step_52 (by decide) (by first | omega | exact hst _) (by first | omega | exact hst _) (fun q52 => ?_) (fun q52 => ?_)
                · skip
                  have ecn : c = st 0 := by omega
                  rw [ecn] at i47_1
                  refine lv_iconst (v := (nI 0)) hx hb dX6_step_134 (by decide) ?_
                  refine lv_istore_n (lv' := [(3, .int (nI 0)), (2, .int (nI (SS (st 0) (fun c => st (1 + c))))), (0, .ref (a 0)), (1, .int (nI z))]) hx hb dX6_step_135 rfl hl (by decide) rfl (fun ls hl => ?_)
                  have loop136 : ∀ (N : Nat) (k : Nat) (s3 : Nat → Nat), 10 - k < N → (k ≤ 10) → (∀ j, s3 j = if 1 ≤ j ∧ j ≤ k then x2 (j - 1) else st j) → ∀ (H : Heap) (locs : List Loc), va_P D xCl (mW a cA s3 im kp x2 li isl mv so la cm ld us bl) H → va_D A (mW a cA s3 im kp x2 li isl mv so la cm ld us bl) → va_S A s.heap H locs → ∀ (ls : Array Slot), lv_has ls 5 [(3, .int (nI k)), (2, .int (nI (SS (st 0) (fun c => st (1 + c))))), (0, .ref (a 0)), (1, .int (nI z))] → W p l e rmX6_step s m ([.ref (a 0), .int (nI z)] : List Value).toArray below meth cd H locs 0 0 Q (F0 m 136 ls []) := by
                    intro N
                    induction N with
                    | zero => intro k s3 hm; exact absurd hm (Nat.not_lt_zero _)
                    | succ N ih136 =>
                      intro k s3 hm136 i136_0 i136_1 H locs hP hD hS ls hl
                      refine lv_iload_n hx hb dX6_step_136 rfl (lv_at hl 0 rfl) ?_
                      refine lv_bipush (v := (nI 10)) hx hb dX6_step_137 (by decide) ?_
                      refine rm_cge (tgt := 162) hx hb dX6_step_139 (by decide) (by first | omega | exact hst _) (by decide) (fun q139 => ?_) (fun q139 => ?_)
                      · skip
                        have e0 : s3 0 = st 0 := by rw [i136_1 0, if_neg (by omega)]
                        have hn3b : 3 ≤ s3 0 := by omega
                        have hn10b : s3 0 ≤ 10 := by omega
                        have ew : ∀ j, j < 10 → s3 (1 + j) = stepW (st 0) (fun c => st (1 + c)) (st 11) (rS st) z j := fun j h => by rw [i136_1 (1 + j), if_pos (by omega), show 1 + j - 1 = j by omega, i47_1 j h]; rfl
                        have hstb : ∀ j, s3 j < 2 ^ 31 := fun j => by rw [i136_1 j]; split; (have h1 := i47_1 (j - 1) (by omega); rw [h1]; exact Nat.lt_of_le_of_lt (stW_le _ _ _ _ _) (Nat.lt_of_le_of_lt (sm_mono _ hn10) (by omega))); exact hst _
                        refine lv_aload_n hx hb dX6_step_162 rfl (lv_at hl 2 rfl) ?_
                        refine lv_aload_n hx hb dX6_step_163 rfl (lv_at hl 2 rfl) ?_
                        refine rm_cV (ls := ls) (As := []) (rest := [.ref (a 0)]) ⟨hx, hb, hml, hown, hts⟩ (metX6_now l D cA a s3 im kp x2 li isl mv so la cm ld us bl  hn3b hn10b hstb) (cwX6_now_X6 hts ⟨Nat.le_of_ble_eq_true rfl, Nat.le_of_ble_eq_true rfl⟩) hP hK hN (va_recv hK hP xc5 (q0 := 0) rfl) rfl hl.1 rfl (Nat.le_of_ble_eq_true rfl) dX6_step_164 ⟨Nat.zero_le _, Nat.zero_le _⟩ ?_
                        refine rm_cV (ls := ls) (As := [.int (nI (cdw (fun c => s3 (1 + c)) (s3 0)))]) (rest := []) ⟨hx, hb, hml, hown, hts⟩ (metX6_standsOf l D cA a s3 im kp x2 li isl mv so la cm ld us bl (cdw (fun c => s3 (1 + c)) (s3 0)) hn3b hn10b (SS_lt31 hn10b _)) (cwX6_standsOf_X6 hts ⟨Nat.le_of_ble_eq_true rfl, Nat.le_of_ble_eq_true rfl⟩) hP hK hN (va_recv hK hP xc5 (q0 := 0) rfl) rfl hl.1 rfl (Nat.le_of_ble_eq_true rfl) dX6_step_167 ⟨Nat.zero_le _, Nat.zero_le _⟩ ?_
                        refine rm_top (y := (nI (SS (s3 0) (fun c => s3 (1 + c))))) (by rw [stS_cdw]) ?_
                        refine rm_cS (ls := ls) (As := [.int (nI (SS (s3 0) (fun c => s3 (1 + c))))]) (rest := []) ⟨hx, hb, hml, hown, hts⟩ (metX6_size l (SS (s3 0) (fun c => s3 (1 + c))) (SS_lt _ hn10b)) (cwX6_size_X6 hts ⟨Nat.le_of_ble_eq_true rfl, Nat.le_of_ble_eq_true rfl⟩) noB rfl hl.1 rfl (Nat.le_of_ble_eq_true rfl) dX6_step_170 ⟨Nat.zero_le _, Nat.zero_le _⟩ ?_
                        exact hret _ (s3, x2) _ _ 173 ls ⟨by unfold stepR; rw [if_pos hB, nI_clamp (by omega), e0, SS_congr (w := fun c => s3 (1 + c)) (fun c hc => ew c (by omega))], fun j => by show s3 j = _; rw [nI_clamp (by omega)]; by_cases h : 1 ≤ j ∧ j ≤ 10; (rw [if_pos ⟨hB, h⟩, ← ew (j - 1) (by omega), show 1 + (j - 1) = j by omega]); (rw [if_neg (fun q => h q.2), i136_1 j, if_neg (by omega)])⟩ hP hD hS dX6_step_173
                      · skip
                        refine lv_aload_n hx hb dX6_step_142 rfl (lv_at hl 2 rfl) ?_
                        refine va_get (D := D) (ci := 5) (v := .ref (a 1)) (C := RX6) (T := TX6) (N := 14) hx hb hts in_X6 hown hK hP 0 rfl xc5 0 (by decide) (hts _ q640) (fun _ h9 => h9) rfl dX6_step_143 ?_
                        refine lv_iconst (v := (nI 1)) hx hb dX6_step_146 (by decide) ?_
                        refine lv_iload_n hx hb dX6_step_147 rfl (lv_at hl 0 rfl) ?_
                        refine rm_iadd hx hb dX6_step_148 ?_
                        refine lv_aload_n hx hb dX6_step_149 rfl (lv_at hl 2 rfl) ?_
                        refine va_get (D := D) (ci := 5) (v := .ref (a 5)) (C := RX6) (T := TX6) (N := 14) hx hb hts in_X6 hown hK hP 0 rfl xc5 4 (by decide) (hts _ q644) (fun _ h9 => h9) rfl dX6_step_150 ?_
                        refine lv_iload_n hx hb dX6_step_153 rfl (lv_at hl 0 rfl) ?_
                        refine rm_nld hx hb hK hP 5 rfl (by omega) (by decide) dX6_step_154 ?_
                        refine rm_nst hx hb hK hP hD hS 1 rfl (by omega) (by decide) (ws' := mW a cA (va_up s3 (1 + k) (x2 k)) im kp x2 li isl mv so la cm ld us bl) rfl dX6_step_155 (fun H locs hP hD hS => ?_)
                        refine lv_iinc (v := (nI (k + 1))) (lv' := [(3, .int (nI (k + 1))), (2, .int (nI (SS (st 0) (fun c => st (1 + c))))), (0, .ref (a 0)), (1, .int (nI z))]) hx hb dX6_step_156 hl (k := 0) rfl (rm_inc k 1) (by decide) rfl (fun ls hl => ?_)
                        refine lv_goto (tgt := 136) hx hb dX6_step_159 (by decide) ?_
                        exact ih136 (k + 1) _ (by omega) (by omega) (fun j => by have q := i136_1 j; unfold va_up; grind) _ _ hP hD hS ls hl
                  exact loop136 _ 0 _ (Nat.lt_succ_self _) (by omega) (fun j => by rw [if_neg (by omega)]) _ _ hP hD hS ls hl
                · skip
                  have join128 : ∀ (x3 : Nat → Nat), (∀ j, j < 10 → x3 j = stW (SS (st 0) (fun c => st (1 + c))) (fun c => st (1 + c)) (stT (st 0) (SS (st 0) (fun c => st (1 + c))) z (fun c => st (1 + c)) (st 11) (rS st)) (c + 1) j) → ∀ (H : Heap) (locs : List Loc), va_P D xCl (mW a cA st im kp x3 li isl mv so la cm ld us bl) H → va_D A (mW a cA st im kp x3 li isl mv so la cm ld us bl) → va_S A s.heap H locs → ∀ (ls : Array Slot), lv_has ls 5 [(3, .int (nI c)), (2, .int (nI (SS (st 0) (fun c => st (1 + c))))), (0, .ref (a 0)), (1, .int (nI z))] → W p l e rmX6_step s m ([.ref (a 0), .int (nI z)] : List Value).toArray below meth cd H locs 0 0 Q (F0 m 128 ls []) := by
                    intro x3 i128_0 H locs hP hD hS ls hl
                    refine lv_iinc (v := (nI (c + 1))) (lv' := [(3, .int (nI (c + 1))), (2, .int (nI (SS (st 0) (fun c => st (1 + c))))), (0, .ref (a 0)), (1, .int (nI z))]) hx hb dX6_step_128 hl (k := 0) rfl (rm_inc c 1) (by decide) rfl (fun ls hl => ?_)
                    refine lv_goto (tgt := 47) hx hb dX6_step_131 (by decide) ?_
                    exact ih47 (c + 1) _ (by omega) (by omega) i128_0 _ _ hP hD hS ls hl
                  refine lv_iload_n hx hb dX6_step_55 rfl (lv_at hl 1 rfl) ?_
                  refine lv_iload_n hx hb dX6_step_56 rfl (lv_at hl 0 rfl) ?_
                  refine rm_cS (ls := ls) (As := [.int (nI (SS (st 0) (fun c => st (1 + c)))), .int (nI c)]) (rest := []) ⟨hx, hb, hml, hown, hts⟩ (metX6_has l (SS (st 0) (fun c => st (1 + c))) c (by first | assumption | omega) (by first | assumption | omega)) (cwX6_has_X6 hts ⟨Nat.le_of_ble_eq_true rfl, Nat.le_of_ble_eq_true rfl⟩) noB rfl hl.1 rfl (Nat.le_of_ble_eq_true rfl) dX6_step_57 ⟨Nat.zero_le _, Nat.zero_le _⟩ ?_
                  refine rm_beq (tgt := 128) hx hb dX6_step_60 (by decide) (fun q60 => ?_) (fun q60 => ?_)
                  · skip
                    exact join128 _ (fun j h => by rw [stW_succ_f q60]; exact i47_1 j h) _ _ hP hD hS ls hl
                  · skip
                    have join102 : ∀ (H : Heap) (locs : List Loc), va_P D xCl (mW a cA st im kp x2 li isl mv so la cm ld us bl) H → va_D A (mW a cA st im kp x2 li isl mv so la cm ld us bl) → va_S A s.heap H locs → ∀ (ls : Array Slot), lv_has ls 5 [(3, .int (nI c)), (2, .int (nI (SS (st 0) (fun c => st (1 + c))))), (0, .ref (a 0)), (1, .int (nI z))] → W p l e rmX6_step s m ([.ref (a 0), .int (nI z)] : List Value).toArray below meth cd H locs 0 0 Q (F0 m 102 ls [.int (nI (if Nat.testBit z c then dn (rS st) (rl (st 0) (SS (st 0) (fun c => st (1 + c))) c (decide (1 < st (1 + c))) (st 11) (rS st)) else 0))]) := by
                      intro   H locs hP hD hS ls hl
                      refine lv_istore (lv' := [(4, .int (nI (if Nat.testBit z c then dn (rS st) (rl (st 0) (SS (st 0) (fun c => st (1 + c))) c (decide (1 < st (1 + c))) (st 11) (rS st)) else 0))), (3, .int (nI c)), (2, .int (nI (SS (st 0) (fun c => st (1 + c))))), (0, .ref (a 0)), (1, .int (nI z))]) hx hb dX6_step_102 hl (by decide) rfl (fun ls hl => ?_)
                      have hne : ne_ (st 0) (SS (st 0) (fun c => st (1 + c))) := ⟨c, q52, q60⟩
                      refine lv_aload_n hx hb dX6_step_104 rfl (lv_at hl 3 rfl) ?_
                      refine va_get (D := D) (ci := 5) (v := .ref (a 5)) (C := RX6) (T := TX6) (N := 14) hx hb hts in_X6 hown hK hP 0 rfl xc5 4 (by decide) (hts _ q644) (fun _ h9 => h9) rfl dX6_step_105 ?_
                      refine lv_aload_n hx hb dX6_step_108 rfl (lv_at hl 3 rfl) ?_
                      refine lv_iload_n hx hb dX6_step_109 rfl (lv_at hl 2 rfl) ?_
                      refine lv_iload_n hx hb dX6_step_110 rfl (lv_at hl 1 rfl) ?_
                      refine lv_iload hx hb dX6_step_111 (lv_at hl 0 rfl) ?_
                      refine rm_cV (ls := ls) (As := [.int (nI (SS (st 0) (fun c => st (1 + c)))), .int (nI c), .int (nI (if Nat.testBit z c then dn (rS st) (rl (st 0) (SS (st 0) (fun c => st (1 + c))) c (decide (1 < st (1 + c))) (st 11) (rS st)) else 0))]) (rest := [.ref (a 5)]) ⟨hx, hb, hml, hown, hts⟩ (metX6_behind l D cA a st im kp x2 li isl mv so la cm ld us bl (SS (st 0) (fun c => st (1 + c))) c (if Nat.testBit z c then dn (rS st) (rl (st 0) (SS (st 0) (fun c => st (1 + c))) c (decide (1 < st (1 + c))) (st 11) (rS st)) else 0) (by first | assumption | omega) (by first | assumption | omega) (by first | assumption | omega) (by first | assumption | omega) (by first | assumption | omega) (by split <;> first | exact dn_lt hst _ | decide)) (cwX6_behind_X6 hts ⟨Nat.le_of_ble_eq_true rfl, Nat.le_of_ble_eq_true rfl⟩) hP hK hN (va_recv hK hP xc5 (q0 := 0) rfl) rfl hl.1 rfl (Nat.le_of_ble_eq_true rfl) dX6_step_113 ⟨Nat.zero_le _, Nat.zero_le _⟩ ?_
                      have hto : stT (st 0) (SS (st 0) (fun c => st (1 + c))) z (fun c => st (1 + c)) (st 11) (rS st) c < 10 := Nat.lt_of_lt_of_le (gt_lt (by omega) q52) hn10
                      refine rm_top (y := (nI (stT (st 0) (SS (st 0) (fun c => st (1 + c))) z (fun c => st (1 + c)) (st 11) (rS st) c))) rfl ?_
                      refine lv_dup2_11 hx hb dX6_step_116 rfl rfl ?_
                      refine rm_nld hx hb hK hP 5 rfl hto (by decide) dX6_step_117 ?_
                      refine lv_aload_n hx hb dX6_step_118 rfl (lv_at hl 3 rfl) ?_
                      refine va_get (D := D) (ci := 5) (v := .ref (a 1)) (C := RX6) (T := TX6) (N := 14) hx hb hts in_X6 hown hK hP 0 rfl xc5 0 (by decide) (hts _ q640) (fun _ h9 => h9) rfl dX6_step_119 ?_
                      refine lv_iconst (v := (nI 1)) hx hb dX6_step_122 (by decide) ?_
                      refine lv_iload_n hx hb dX6_step_123 rfl (lv_at hl 1 rfl) ?_
                      refine rm_iadd hx hb dX6_step_124 ?_
                      refine rm_nld hx hb hK hP 1 rfl (by omega) (by decide) dX6_step_125 ?_
                      refine rm_iadd hx hb dX6_step_126 ?_
                      refine rm_nst hx hb hK hP hD hS 5 rfl hto (by decide) (ws' := mW a cA st im kp (va_up x2 (stT (st 0) (SS (st 0) (fun c => st (1 + c))) z (fun c => st (1 + c)) (st 11) (rS st) c) ((x2 (stT (st 0) (SS (st 0) (fun c => st (1 + c))) z (fun c => st (1 + c)) (st 11) (rS st) c)) + (st (1 + c)))) li isl mv so la cm ld us bl) rfl dX6_step_127 (fun H locs hP hD hS => ?_)
                      exact join128 _ (fun j h => by rw [stW_succ_t q60]; have q := i47_1 j h; have q2 := i47_1 _ hto; unfold va_up; by_cases hj : j = stT (st 0) (SS (st 0) (fun c => st (1 + c))) z (fun c => st (1 + c)) (st 11) (rS st) c; (rw [if_pos hj, if_pos hj, q2]); (rw [if_neg hj, if_neg hj, q])) _ _ hP hD hS ls (lv_sub hl [1, 2, 3, 4] rfl)
                    have hne : ne_ (st 0) (SS (st 0) (fun c => st (1 + c))) := ⟨c, q52, q60⟩
                    refine lv_iload_n hx hb dX6_step_63 rfl (lv_at hl 3 rfl) ?_
                    refine lv_iload_n hx hb dX6_step_64 rfl (lv_at hl 0 rfl) ?_
                    refine rm_cS (ls := ls) (As := [.int (nI z), .int (nI c)]) (rest := []) ⟨hx, hb, hml, hown, hts⟩ (metX6_has l z c (by first | assumption | omega) (by first | assumption | omega)) (cwX6_has_X6 hts ⟨Nat.le_of_ble_eq_true rfl, Nat.le_of_ble_eq_true rfl⟩) noB rfl hl.1 rfl (Nat.le_of_ble_eq_true rfl) dX6_step_65 ⟨Nat.zero_le _, Nat.zero_le _⟩ ?_
                    refine rm_beq (tgt := 101) hx hb dX6_step_68 (by decide) (fun q68 => ?_) (fun q68 => ?_)
                    · skip
                      refine lv_iconst (v := (nI 0)) hx hb dX6_step_101 (by decide) ?_
                      refine rm_top (y := (nI (if Nat.testBit z c then dn (rS st) (rl (st 0) (SS (st 0) (fun c => st (1 + c))) c (decide (1 < st (1 + c))) (st 11) (rS st)) else 0))) (by rw [if_neg (by rw [q68]; decide)]) ?_
                      exact join102   _ _ hP hD hS ls hl
                    · skip
                      refine lv_aload_n hx hb dX6_step_71 rfl (lv_at hl 2 rfl) ?_
                      refine lv_aload_n hx hb dX6_step_72 rfl (lv_at hl 2 rfl) ?_
                      refine lv_iload_n hx hb dX6_step_73 rfl (lv_at hl 1 rfl) ?_
                      refine lv_iload_n hx hb dX6_step_74 rfl (lv_at hl 0 rfl) ?_
                      have join92 : ∀ (H : Heap) (locs : List Loc), va_P D xCl (mW a cA st im kp x2 li isl mv so la cm ld us bl) H → va_D A (mW a cA st im kp x2 li isl mv so la cm ld us bl) → va_S A s.heap H locs → ∀ (ls : Array Slot), lv_has ls 5 [(3, .int (nI c)), (2, .int (nI (SS (st 0) (fun c => st (1 + c))))), (0, .ref (a 0)), (1, .int (nI z))] → W p l e rmX6_step s m ([.ref (a 0), .int (nI z)] : List Value).toArray below meth cd H locs 0 0 Q (F0 m 92 ls [.int (bI (decide (1 < st (1 + c)))), .int (nI c), .int (nI (SS (st 0) (fun c => st (1 + c)))), .ref (a 0), .ref (a 0)]) := by
                        intro   H locs hP hD hS ls hl
                        refine rm_cV (ls := ls) (As := [.int (nI (SS (st 0) (fun c => st (1 + c)))), .int (nI c), .int (bI (decide (1 < st (1 + c))))]) (rest := [.ref (a 0)]) ⟨hx, hb, hml, hown, hts⟩ (metX6_ruleOf l D cA a st im kp x2 li isl mv so la cm ld us bl (SS (st 0) (fun c => st (1 + c))) c (decide (1 < st (1 + c))) (by first | assumption | omega) (by first | assumption | omega) (by first | assumption | omega) (by first | assumption | omega) (by first | assumption | omega) (by first | assumption | omega) (by first | assumption | omega) (by first | assumption | omega)) (cwX6_ruleOf_X6 hts ⟨Nat.le_of_ble_eq_true rfl, Nat.le_of_ble_eq_true rfl⟩) hP hK hN (va_recv hK hP xc5 (q0 := 0) rfl) rfl hl.1 rfl (Nat.le_of_ble_eq_true rfl) dX6_step_92 ⟨Nat.zero_le _, Nat.zero_le _⟩ ?_
                        refine rm_cV (ls := ls) (As := [.int (oI (rl (st 0) (SS (st 0) (fun c => st (1 + c))) c (decide (1 < st (1 + c))) (st 11) (rS st)))]) (rest := []) ⟨hx, hb, hml, hown, hts⟩ (metX6_doneBy l D cA a st im kp x2 li isl mv so la cm ld us bl (rl (st 0) (SS (st 0) (fun c => st (1 + c))) c (decide (1 < st (1 + c))) (st 11) (rS st)) (fun r h => Nat.lt_of_lt_of_le (rl_lt h) hm)) (cwX6_doneBy_X6 hts ⟨Nat.le_of_ble_eq_true rfl, Nat.le_of_ble_eq_true rfl⟩) hP hK hN (va_recv hK hP xc5 (q0 := 0) rfl) rfl hl.1 rfl (Nat.le_of_ble_eq_true rfl) dX6_step_95 ⟨Nat.zero_le _, Nat.zero_le _⟩ ?_
                        refine lv_goto (tgt := 102) hx hb dX6_step_98 (by decide) ?_
                        refine rm_top (y := (nI (if Nat.testBit z c then dn (rS st) (rl (st 0) (SS (st 0) (fun c => st (1 + c))) c (decide (1 < st (1 + c))) (st 11) (rS st)) else 0))) (by rw [if_pos q68]) ?_
                        exact join102   _ _ hP hD hS ls hl
                      refine lv_aload_n hx hb dX6_step_75 rfl (lv_at hl 2 rfl) ?_
                      refine va_get (D := D) (ci := 5) (v := .ref (a 1)) (C := RX6) (T := TX6) (N := 14) hx hb hts in_X6 hown hK hP 0 rfl xc5 0 (by decide) (hts _ q640) (fun _ h9 => h9) rfl dX6_step_76 ?_
                      refine lv_iconst (v := (nI 1)) hx hb dX6_step_79 (by decide) ?_
                      refine lv_iload_n hx hb dX6_step_80 rfl (lv_at hl 0 rfl) ?_
                      refine rm_iadd hx hb dX6_step_81 ?_
                      refine rm_nld hx hb hK hP 1 rfl (by omega) (by decide) dX6_step_82 ?_
                      refine lv_iconst (v := (nI 1)) hx hb dX6_step_83 (by decide) ?_
                      refine rm_cle (tgt := 91) hx hb dX6_step_84 (by decide) (by first | omega | exact hst _) (by decide) (fun q84 => ?_) (fun q84 => ?_)
                      · skip
                        refine lv_iconst (v := (nI 0)) hx hb dX6_step_91 (by decide) ?_
                        refine rm_top (y := (bI (decide (1 < st (1 + c))))) (by rw [decide_eq_false (by omega)]; rfl) ?_
                        exact join92   _ _ hP hD hS ls hl
                      · skip
                        refine lv_iconst (v := (nI 1)) hx hb dX6_step_87 (by decide) ?_
                        refine lv_goto (tgt := 92) hx hb dX6_step_88 (by decide) ?_
                        refine rm_top (y := (bI (decide (1 < st (1 + c))))) (by rw [decide_eq_true (by omega)]; rfl) ?_
                        exact join92   _ _ hP hD hS ls hl
            exact loop47 _ 0 _ (Nat.lt_succ_self _) (by omega) (fun j h => i26_1 j (by omega)) _ _ hP hD hS ls hl
          · skip
            refine lv_aload_n hx hb dX6_step_32 rfl (lv_at hl 2 rfl) ?_
            refine va_get (D := D) (ci := 5) (v := .ref (a 5)) (C := RX6) (T := TX6) (N := 14) hx hb hts in_X6 hown hK hP 0 rfl xc5 4 (by decide) (hts _ q644) (fun _ h9 => h9) rfl dX6_step_33 ?_
            refine lv_iload_n hx hb dX6_step_36 rfl (lv_at hl 0 rfl) ?_
            refine lv_iconst (v := (nI 0)) hx hb dX6_step_37 (by decide) ?_
            refine rm_nst hx hb hK hP hD hS 5 rfl (by omega) (by decide) (ws' := mW a cA st im kp (va_up x1 c 0) li isl mv so la cm ld us bl) rfl dX6_step_38 (fun H locs hP hD hS => ?_)
            refine lv_iinc (v := (nI (c + 1))) (lv' := [(3, .int (nI (c + 1))), (2, .int (nI (SS (st 0) (fun c => st (1 + c))))), (0, .ref (a 0)), (1, .int (nI z))]) hx hb dX6_step_39 hl (k := 0) rfl (rm_inc c 1) (by decide) rfl (fun ls hl => ?_)
            refine lv_goto (tgt := 26) hx hb dX6_step_42 (by decide) ?_
            exact ih26 (c + 1) _ (by omega) (by omega) (fun j h => by have q := i26_1 j; unfold va_up; grind) _ _ hP hD hS ls hl
      exact loop26 _ 0 _ (Nat.lt_succ_self _) (by omega) (fun j h => absurd h (by omega)) _ _ hP hD hS ls hl
    · skip
      refine lv_bipush (v := (-2)) hx hb dX6_step_21 (by decide) ?_
      exact hret _ (st, nx) _ _ 23 ls ⟨by unfold stepR; rw [if_neg (by unfold stepB; rw [decide_eq_false q18, Bool.and_false]; decide)], fun j => by rw [if_neg (fun h => absurd h.1 (by unfold stepB; rw [decide_eq_false q18, Bool.and_false]; decide))]⟩ hP hD hS dX6_step_23
theorem cwX6_step_L {R : Room} {s : State} {args : Array Value} (hts : ∀ w ∈ lw_all, w.before args s = true) (hR : (rmX6_step).frames + 1 ≤ R.frames ∧ 8 + (5 + 11) + (rmX6_step).locals ≤ R.locals) : CallW R s args "RingMeetsLaw" RX6 56 yX6_step cX6_step 5 (some .int) (ws_ yX6_step cX6_step 5 (some .int)) rmX6_step 0 0 1 := cwV 1 hts (lw_V q812 q813 q814 q63 q815) rfl rfl rfl (by decide +kernel) hR
