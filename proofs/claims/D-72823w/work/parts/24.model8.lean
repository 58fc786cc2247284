set_option maxRecDepth 100000

abbrev rmX6_layNow : Room := { frames := 10, cells := 0, slots := 0, locals := 245 }
set_option maxHeartbeats 4000000 in
theorem metX6_layNow (l : Launch) (D : va_G) (cA : Nat → ClassId) (a : Nat → Nat) (st im : Nat → Nat) (kp : Nat → Bool) (nx li : Nat → Nat) (isl : Nat → Bool) (mv : Nat → Nat) (so la : Nat → Option Nat) (cm : Nat → Nat) (ld us : Nat) (bl : Bool) (k : Nat) (blind : Bool) (hn3 : 3 ≤ st 0) (hn10 : st 0 ≤ 10) (hst : ∀ j, st j < 2 ^ 31) (hm : st 11 ≤ 10) (hru : ∀ r, r < st 11 → rS st r 5 ≤ 2) (hsm : sm (fun c => st (1 + c)) 10 ≤ 5) (hk : k < 3) (hmvB : ∀ c, mv c < 59049) (hso : ∀ c v, so c = some v → v < 2 ^ 31) (hla : ∀ c v, la c = some v → v < 2 ^ 31) : MUv l yX6_layNow cX6_layNow 3 none rmX6_layNow [.ref (a 0), .int (nI k), .int (bI blind)] D cA (mW a cA st im kp nx li isl mv so la cm ld us bl) (fun (uu_ : (Nat → Nat) × (Nat → Bool) × (Nat → Nat) × (Nat → Option Nat) × (Nat → Option Nat) × (Nat → Nat) × (Nat) × (Nat) × (Bool)) => (uu_.2.2.2.2.2.2.2.2 = blind) ∧ (∃ L, exF (sucs (st 0) (st 11) (rS st) blind k) [cdw (fun c => st (1 + c)) (st 0)] L ∧ MR (st 0) (st 11) (rS st) blind L uu_.1 uu_.2.1 uu_.2.2.1 uu_.2.2.2.2.2.2.1 uu_.2.2.2.2.2.2.2.1 ∧ SPs (sucs (st 0) (st 11) (rS st) blind k) (met (st 0)) L uu_.2.2.2.1 ∧ LPs (sucs (st 0) (st 11) (rS st) blind k) (met (st 0)) L uu_.2.2.2.2.1 ∧ (∀ c, uu_.2.2.1 c < 59049) ∧ (∀ c v, uu_.2.2.2.1 c = some v → v < 2 ^ 31) ∧ (∀ c v, uu_.2.2.2.2.1 c = some v → v < 2 ^ 31))) (fun (uu_ : (Nat → Nat) × (Nat → Bool) × (Nat → Nat) × (Nat → Option Nat) × (Nat → Option Nat) × (Nat → Nat) × (Nat) × (Nat) × (Bool)) => mW a cA st im kp nx uu_.1 uu_.2.1 uu_.2.2.1 uu_.2.2.2.1 uu_.2.2.2.2.1 uu_.2.2.2.2.2.1 uu_.2.2.2.2.2.2.1 uu_.2.2.2.2.2.2.2.1 uu_.2.2.2.2.2.2.2.2) 0 0 := by
  refine mu_void rfl (Nat.le_of_ble_eq_true rfl) ?_
  intro p e s m below meth cd Q ls A hx hb hml hown hname hts hP hK hN hD hA hl hret
  have hown : s.vm.findClass RX6 = some m.cls := hown
  have hS : va_S A s.heap s.heap [] := va_S.rf
  have hl : lv_has ls 3 [(0, .ref (a 0)), (1, .int (nI k)), (2, .int (bI blind))] := hl
  have hco : okc (st 0) (cdw (fun c => st (1 + c)) (st 0)) := okc_cdw hn10 hsm
  have hc5 := okc_lt hn10 hco
  refine lv_aload_n hx hb dX6_layNow_0 rfl (lv_at hl 0 rfl) ?_
  refine lv_iload_n hx hb dX6_layNow_1 rfl (lv_at hl 2 rfl) ?_
  refine mu_aVv (ls := ls) (As := [.int (bI blind)]) (rest := []) ⟨hx, hb, hml, hown, hts⟩ (metX6_begin l D cA a st im kp nx li isl mv so la cm ld us bl blind ) (cwX6_begin_X6 hts ⟨Nat.le_of_ble_eq_true rfl, Nat.le_of_ble_eq_true rfl⟩) hP hD hS hA hK hN (va_recv hK hP xc5 (q0 := 0) rfl) rfl hl.1 rfl (Nat.le_of_ble_eq_true rfl) dX6_layNow_2 ⟨Nat.zero_le _, Nat.zero_le _⟩ (fun u1 H locs w1 hP hD hS => ?_)
  obtain ⟨isl_1, ld_1, us_1, bl_1⟩ := u1
  try dsimp only at w1
  have hP : va_P D xCl (mW a cA st im kp nx li isl_1 mv so la cm ld_1 us_1 bl_1) H := hP
  have hD : va_D A (mW a cA st im kp nx li isl_1 mv so la cm ld_1 us_1 bl_1) := hD
  obtain ⟨e1a, e1b, e1c, e1d⟩ := w1
  subst e1d
  refine lv_aload_n hx hb dX6_layNow_5 rfl (lv_at hl 0 rfl) ?_
  refine lv_aload_n hx hb dX6_layNow_6 rfl (lv_at hl 0 rfl) ?_
  refine rm_cV (ls := ls) (As := []) (rest := [.ref (a 0)]) ⟨hx, hb, hml, hown, hts⟩ (metX6_now l D cA a st im kp nx li isl_1 mv so la cm ld_1 us_1 bl_1  (by first | assumption | omega) (by first | assumption | omega) (by first | assumption | omega)) (cwX6_now_X6 hts ⟨Nat.le_of_ble_eq_true rfl, Nat.le_of_ble_eq_true rfl⟩) hP hK hN (va_recv hK hP xc5 (q0 := 0) rfl) rfl hl.1 rfl (Nat.le_of_ble_eq_true rfl) dX6_layNow_7 ⟨Nat.zero_le _, Nat.zero_le _⟩ ?_
  refine mu_aVv (ls := ls) (As := [.int (nI (cdw (fun c => st (1 + c)) (st 0)))]) (rest := []) ⟨hx, hb, hml, hown, hts⟩ (metX6_note l D cA a st im kp nx li isl_1 mv so la cm ld_1 us_1 bl_1 (cdw (fun c => st (1 + c)) (st 0)) (by first | assumption | omega) (by first | assumption | omega) (by first | assumption | omega) (by first | assumption | omega) (by first | assumption | omega) hc5 (by rw [e1b]; decide)) (cwX6_note_X6 hts ⟨Nat.le_of_ble_eq_true rfl, Nat.le_of_ble_eq_true rfl⟩) hP hD hS hA hK hN (va_recv hK hP xc5 (q0 := 0) rfl) rfl hl.1 rfl (Nat.le_of_ble_eq_true rfl) dX6_layNow_10 ⟨Nat.zero_le _, Nat.zero_le _⟩ (fun u2 H locs w2 hP hD hS => ?_)
  obtain ⟨isl_2, li_2, mv_2, ld_2, us_2⟩ := u2
  try dsimp only at w2
  have hP : va_P D xCl (mW a cA st im kp nx li_2 isl_2 mv_2 so la cm ld_2 us_2 bl_1) H := hP
  have hD : va_D A (mW a cA st im kp nx li_2 isl_2 mv_2 so la cm ld_2 us_2 bl_1) := hD
  have hMR5 : MR (st 0) (st 11) (rS st) bl_1 [cdw (fun c => st (1 + c)) (st 0)] li_2 isl_2 mv_2 ld_2 us_2 := MR_note (L := []) (by rw [e1b, e1c]; exact MR_nil e1a) hc5 w2.1 w2.2
  have hmv5 := note_mv hn10 hmvB w2.1 w2.2
  refine lv_aload_n hx hb dX6_layNow_13 rfl (lv_at hl 0 rfl) ?_
  refine lv_iload_n hx hb dX6_layNow_14 rfl (lv_at hl 1 rfl) ?_
  refine mu_aVv (ls := ls) (As := [.int (nI k)]) (rest := []) ⟨hx, hb, hml, hown, hts⟩ (metX6_listAll l D cA a st im kp nx li_2 isl_2 mv_2 so la cm ld_2 us_2 bl_1 k ([cdw (fun c => st (1 + c)) (st 0)]) (by first | assumption | omega) (by first | assumption | omega) (by first | assumption | omega) (by first | assumption | omega) (by first | assumption | omega) (by first | assumption | omega) hMR5 (by simp) (fun c hc => by rw [List.mem_singleton.mp hc]; exact hco) hmv5 (by first | assumption | omega) (by first | assumption | omega)) (cwX6_listAll_X6 hts ⟨Nat.le_of_ble_eq_true rfl, Nat.le_of_ble_eq_true rfl⟩) hP hD hS hA hK hN (va_recv hK hP xc5 (q0 := 0) rfl) rfl hl.1 rfl (Nat.le_of_ble_eq_true rfl) dX6_layNow_15 ⟨Nat.zero_le _, Nat.zero_le _⟩ (fun u3 H locs w3 hP hD hS => ?_)
  obtain ⟨li_3, isl_3, mv_3, so_3, la_3, cm_3, ld_3, us_3⟩ := u3
  try dsimp only at w3
  have hP : va_P D xCl (mW a cA st im kp nx li_3 isl_3 mv_3 so_3 la_3 cm_3 ld_3 us_3 bl_1) H := hP
  have hD : va_D A (mW a cA st im kp nx li_3 isl_3 mv_3 so_3 la_3 cm_3 ld_3 us_3 bl_1) := hD
  exact hret (li_3, isl_3, mv_3, so_3, la_3, cm_3, ld_3, us_3, bl_1) _ _ 18 ls ⟨rfl, w3⟩ hP hD hS dX6_layNow_18
theorem cwX6_layNow_X6 {R : Room} {s : State} {args : Array Value} (hts : ∀ w ∈ lw_all, w.before args s = true) (hR : (rmX6_layNow).frames + 1 ≤ R.frames ∧ 8 + (3 + 11) + (rmX6_layNow).locals ≤ R.locals) : CallW R s args RX6 RX6 171 yX6_layNow cX6_layNow 3 none (ws_ yX6_layNow cX6_layNow 3 none) rmX6_layNow 0 0 2 := cwV 2 hts (lw_V q823 q825 qs43 q63 q826) rfl rfl rfl (by decide +kernel) hR
abbrev rmX6_meets : Room := { frames := 11, cells := 0, slots := 0, locals := 267 }
set_option maxHeartbeats 4000000 in
theorem metX6_meets (l : Launch) (D : va_G) (cA : Nat → ClassId) (a : Nat → Nat) (st im : Nat → Nat) (kp : Nat → Bool) (nx li : Nat → Nat) (isl : Nat → Bool) (mv : Nat → Nat) (so la : Nat → Option Nat) (cm : Nat → Nat) (ld us : Nat) (bl : Bool) (v what : Int32) (hn3 : 3 ≤ st 0) (hn10 : st 0 ≤ 10) (hst : ∀ j, st j < 2 ^ 31) (hm : st 11 ≤ 10) (hru : ∀ r, r < st 11 → rS st r 5 ≤ 2) (hsm : sm (fun c => st (1 + c)) 10 ≤ 5) (hmvB : ∀ c, mv c < 59049) (hso : ∀ c v, so c = some v → v < 2 ^ 31) (hla : ∀ c v, la c = some v → v < 2 ^ 31) : MUi l yX6_meets cX6_meets 4 (some .int) rmX6_meets [.ref (a 0), .int v, .int what] D cA (mW a cA st im kp nx li isl mv so la cm ld us bl) (fun (res_ : Int32) (uu_ : (Nat → Nat) × (Nat → Bool) × (Nat → Nat) × (Nat → Option Nat) × (Nat → Option Nat) × (Nat → Nat) × (Nat) × (Nat) × (Bool)) => (MeP (st 0) (fun c => st (1 + c)) (st 11) (rS st) v what res_) ∧ (∀ c, uu_.2.2.1 c < 59049) ∧ (∀ c v, uu_.2.2.2.1 c = some v → v < 2 ^ 31) ∧ (∀ c v, uu_.2.2.2.2.1 c = some v → v < 2 ^ 31)) (fun (uu_ : (Nat → Nat) × (Nat → Bool) × (Nat → Nat) × (Nat → Option Nat) × (Nat → Option Nat) × (Nat → Nat) × (Nat) × (Nat) × (Bool)) => mW a cA st im kp nx uu_.1 uu_.2.1 uu_.2.2.1 uu_.2.2.2.1 uu_.2.2.2.2.1 uu_.2.2.2.2.2.1 uu_.2.2.2.2.2.2.1 uu_.2.2.2.2.2.2.2.1 uu_.2.2.2.2.2.2.2.2) 0 0 := by
  refine mu_int rfl (Nat.le_of_ble_eq_true rfl) ?_
  intro p e s m below meth cd Q ls A hx hb hml hown hts hP hK hN hD hA hl hret
  have hown : s.vm.findClass RX6 = some m.cls := hown
  have hS : va_S A s.heap s.heap [] := va_S.rf
  have hl : lv_has ls 4 [(0, .ref (a 0)), (1, .int v), (2, .int what)] := hl
  have hco : okc (st 0) (cdw (fun c => st (1 + c)) (st 0)) := okc_cdw hn10 hsm
  have hc5 := okc_lt hn10 hco
  refine lv_iload_n hx hb dX6_meets_0 rfl (lv_at hl 1 rfl) ?_
  refine rm_cS (ls := ls) (As := [.int v]) (rest := []) ⟨hx, hb, hml, hown, hts⟩ (metX6_isSchedule l v ) (cwX6_isSchedule_X6 hts ⟨Nat.le_of_ble_eq_true rfl, Nat.le_of_ble_eq_true rfl⟩) noB rfl hl.1 rfl (Nat.le_of_ble_eq_true rfl) dX6_meets_1 ⟨Nat.zero_le _, Nat.zero_le _⟩ ?_
  refine rm_beq (tgt := 16) hx hb dX6_meets_4 (by decide) (fun q4 => ?_) (fun q4 => ?_)
  · skip
    refine lv_bipush (v := (-2)) hx hb dX6_meets_16 (by decide) ?_
    exact hret _ (li, isl, mv, so, la, cm, ld, us, bl) _ _ 18 ls ⟨⟨fun _ => rfl, fun h => absurd h (by rw [show inI 0 2 v = false from q4]; simp)⟩, hmvB, hso, hla⟩ hP hD hS dX6_meets_18
  · skip
    refine lv_iload_n hx hb dX6_meets_7 rfl (lv_at hl 2 rfl) ?_
    refine lv_iconst (v := (nI 0)) hx hb dX6_meets_8 (by decide) ?_
    refine lv_iconst (v := (nI 4)) hx hb dX6_meets_9 (by decide) ?_
    refine rm_cS (ls := ls) (As := [.int what, .int (nI 0), .int (nI 4)]) (rest := []) ⟨hx, hb, hml, hown, hts⟩ (metX6_in l what (nI 0) (nI 4) ) (cwX6_in_X6 hts ⟨Nat.le_of_ble_eq_true rfl, Nat.le_of_ble_eq_true rfl⟩) noB rfl hl.1 rfl (Nat.le_of_ble_eq_true rfl) dX6_meets_10 ⟨Nat.zero_le _, Nat.zero_le _⟩ ?_
    refine rm_bne (tgt := 19) hx hb dX6_meets_13 (by decide) (fun q13 => ?_) (fun q13 => ?_)
    · skip
      have hB : (inI 0 2 v && inI 0 4 what) = true := by rw [show inI 0 2 v = true from q4, show inI 0 4 what = true from q13]; rfl
      obtain ⟨k, hk0, hk2, rfl⟩ := (inI_iff (lo := 0) (hi := 2) (by decide) (by decide)).mp q4
      refine lv_aload_n hx hb dX6_meets_19 rfl (lv_at hl 0 rfl) ?_
      refine rm_cV (ls := ls) (As := []) (rest := []) ⟨hx, hb, hml, hown, hts⟩ (metX6_now l D cA a st im kp nx li isl mv so la cm ld us bl  (by first | assumption | omega) (by first | assumption | omega) (by first | assumption | omega)) (cwX6_now_X6 hts ⟨Nat.le_of_ble_eq_true rfl, Nat.le_of_ble_eq_true rfl⟩) hP hK hN (va_recv hK hP xc5 (q0 := 0) rfl) rfl hl.1 rfl (Nat.le_of_ble_eq_true rfl) dX6_meets_20 ⟨Nat.zero_le _, Nat.zero_le _⟩ ?_
      refine lv_istore_n (lv' := [(3, .int (nI (cdw (fun c => st (1 + c)) (st 0)))), (0, .ref (a 0)), (1, .int (nI k)), (2, .int what)]) hx hb dX6_meets_23 rfl hl (by decide) rfl (fun ls hl => ?_)
      refine lv_iload_n hx hb dX6_meets_24 rfl (lv_at hl 0 rfl) ?_
      refine rm_ine (tgt := 31) hx hb dX6_meets_25 (by decide) (by omega) (fun q25 => ?_) (fun q25 => ?_)
      · skip
        refine lv_aload_n hx hb dX6_meets_31 rfl (lv_at hl 1 rfl) ?_
        refine lv_iload_n hx hb dX6_meets_32 rfl (lv_at hl 2 rfl) ?_
        refine lv_iconst (v := (bI false)) hx hb dX6_meets_33 (by decide) ?_
        refine mu_aVv (ls := ls) (As := [.int (nI k), .int (bI false)]) (rest := []) ⟨hx, hb, hml, hown, hts⟩ (metX6_layNow l D cA a st im kp nx li isl mv so la cm ld us bl k false (by first | assumption | omega) (by first | assumption | omega) (by first | assumption | omega) (by first | assumption | omega) (by first | assumption | omega) (by first | assumption | omega) (by omega) (by first | assumption | omega) (by first | assumption | omega) (by first | assumption | omega)) (cwX6_layNow_X6 hts ⟨Nat.le_of_ble_eq_true rfl, Nat.le_of_ble_eq_true rfl⟩) hP hD hS hA hK hN (va_recv hK hP xc5 (q0 := 0) rfl) rfl hl.1 rfl (Nat.le_of_ble_eq_true rfl) dX6_meets_34 ⟨Nat.zero_le _, Nat.zero_le _⟩ (fun u1 H locs w1 hP hD hS => ?_)
        obtain ⟨li_1, isl_1, mv_1, so_1, la_1, cm_1, ld_1, us_1, bl_1⟩ := u1
        try dsimp only at w1
        have hP : va_P D xCl (mW a cA st im kp nx li_1 isl_1 mv_1 so_1 la_1 cm_1 ld_1 us_1 bl_1) H := hP
        have hD : va_D A (mW a cA st im kp nx li_1 isl_1 mv_1 so_1 la_1 cm_1 ld_1 us_1 bl_1) := hD
        obtain ⟨ebl, L, hF, hMR, hSP, hLP, hmv5, hso5, hla5⟩ := w1
        have hL : cdw (fun c => st (1 + c)) (st 0) ∈ L := (exF_pre hF).subset (List.mem_singleton.mpr rfl)
        have hmc : mv_1 (cdw (fun c => st (1 + c)) (st 0)) = mvC (st 0) (st 11) (rS st) false (cdw (fun c => st (1 + c)) (st 0)) := hMR.2.2.2.1 _ hL
        have hlen : L.length ≤ 4000 := okc_len hn10 (exF_ok hF (by simp) (fun c hc => by rw [List.mem_singleton.mp hc]; exact hco) (sucs_okc (by omega))).1 (exF_ok hF (by simp) (fun c hc => by rw [List.mem_singleton.mp hc]; exact hco) (sucs_okc (by omega))).2
        have hLok := (exF_ok (P := okc (st 0)) hF (by simp) (fun c hc => by rw [List.mem_singleton.mp hc]; exact hco) (sucs_okc (by omega))).2
        have hld := hMR.1
        refine lv_iload_n hx hb dX6_meets_37 rfl (lv_at hl 3 rfl) ?_
        by_cases hsw38 : inI 0 3 what = true
        · obtain ⟨ksw, hk0, hkh, esw⟩ := (inI_iff (by decide) (by decide)).mp hsw38
          have hk : ksw = 0 ∨ ksw = 1 ∨ ksw = 2 ∨ ksw = 3 := by omega
          rcases hk with rfl | rfl | rfl | rfl
          · skip
            subst esw
            refine lv_tableIn (off := 30) (tgt := 68) hx hb dX6_meets_38 (by decide) (by decide) (by decide) (by decide) ?_
            refine lv_aload_n hx hb dX6_meets_68 rfl (lv_at hl 1 rfl) ?_
            refine va_get (D := D) (ci := 5) (v := .ref (a 9)) (C := RX6) (T := TX6) (N := 14) hx hb hts in_X6 hown hK hP 0 rfl xc5 9 (by decide) (hts _ q649) (fun _ h9 => h9) rfl dX6_meets_69 ?_
            refine lv_iload_n hx hb dX6_meets_72 rfl (lv_at hl 0 rfl) ?_
            refine rm_old hx hb hK hP 9 rfl (by omega) (by decide) dX6_meets_73 ?_
            exact hret _ (li_1, isl_1, mv_1, so_1, la_1, cm_1, ld_1, us_1, bl_1) _ _ 74 ls ⟨⟨fun h => absurd (hB.symm.trans h) (by decide), fun _ => ⟨fun h => absurd h (by omega), fun _ => by rw [nI_clamp (by omega)]; exact ⟨L, so_1, la_1, hF, hSP, hLP, rfl⟩⟩⟩, hmv5, hso5, hla5⟩ hP hD hS dX6_meets_74
          · skip
            subst esw
            refine lv_tableIn (off := 37) (tgt := 75) hx hb dX6_meets_38 (by decide) (by decide) (by decide) (by decide) ?_
            refine lv_aload_n hx hb dX6_meets_75 rfl (lv_at hl 1 rfl) ?_
            refine va_get (D := D) (ci := 5) (v := .ref (a 10)) (C := RX6) (T := TX6) (N := 14) hx hb hts in_X6 hown hK hP 0 rfl xc5 10 (by decide) (hts _ q650) (fun _ h9 => h9) rfl dX6_meets_76 ?_
            refine lv_iload_n hx hb dX6_meets_79 rfl (lv_at hl 0 rfl) ?_
            refine rm_old hx hb hK hP 10 rfl (by omega) (by decide) dX6_meets_80 ?_
            exact hret _ (li_1, isl_1, mv_1, so_1, la_1, cm_1, ld_1, us_1, bl_1) _ _ 81 ls ⟨⟨fun h => absurd (hB.symm.trans h) (by decide), fun _ => ⟨fun h => absurd h (by omega), fun _ => by rw [nI_clamp (by omega)]; exact ⟨L, so_1, la_1, hF, hSP, hLP, rfl⟩⟩⟩, hmv5, hso5, hla5⟩ hP hD hS dX6_meets_81
          · skip
            subst esw
            refine lv_tableIn (off := 44) (tgt := 82) hx hb dX6_meets_38 (by decide) (by decide) (by decide) (by decide) ?_
            refine lv_aload_n hx hb dX6_meets_82 rfl (lv_at hl 1 rfl) ?_
            refine lv_iload_n hx hb dX6_meets_83 rfl (lv_at hl 0 rfl) ?_
            refine rm_cV (ls := ls) (As := [.int (nI (cdw (fun c => st (1 + c)) (st 0)))]) (rest := []) ⟨hx, hb, hml, hown, hts⟩ (metX6_kindOf l D cA a st im kp nx li_1 isl_1 mv_1 so_1 la_1 cm_1 ld_1 us_1 bl_1 (cdw (fun c => st (1 + c)) (st 0)) (by first | assumption | omega) (by first | assumption | omega) hc5 (hla5 _) (hso5 _)) (cwX6_kindOf_X6 hts ⟨Nat.le_of_ble_eq_true rfl, Nat.le_of_ble_eq_true rfl⟩) hP hK hN (va_recv hK hP xc5 (q0 := 0) rfl) rfl hl.1 rfl (Nat.le_of_ble_eq_true rfl) dX6_meets_84 ⟨Nat.zero_le _, Nat.zero_le _⟩ ?_
            exact hret _ (li_1, isl_1, mv_1, so_1, la_1, cm_1, ld_1, us_1, bl_1) _ _ 87 ls ⟨⟨fun h => absurd (hB.symm.trans h) (by decide), fun _ => ⟨fun h => absurd h (by omega), fun _ => by rw [nI_clamp (by omega)]; exact ⟨L, so_1, la_1, hF, hSP, hLP, rfl⟩⟩⟩, hmv5, hso5, hla5⟩ hP hD hS dX6_meets_87
          · skip
            subst esw
            refine lv_tableIn (off := 50) (tgt := 88) hx hb dX6_meets_38 (by decide) (by decide) (by decide) (by decide) ?_
            refine lv_aload_n hx hb dX6_meets_88 rfl (lv_at hl 1 rfl) ?_
            refine va_get (D := D) (ci := 5) (v := .int (nI ld_1)) (C := RX6) (T := TX6) (N := 14) hx hb hts in_X6 hown hK hP 0 rfl xc5 6 (by decide) (hts _ q646) (fun _ h9 => h9) rfl dX6_meets_89 ?_
            exact hret _ (li_1, isl_1, mv_1, so_1, la_1, cm_1, ld_1, us_1, bl_1) _ _ 92 ls ⟨⟨fun h => absurd (hB.symm.trans h) (by decide), fun _ => ⟨fun h => absurd h (by omega), fun _ => by rw [nI_clamp (by omega)]; exact ⟨L, so_1, la_1, hF, hSP, hLP, by show nI ld_1 = nI _; rw [hld]⟩⟩⟩, hmv5, hso5, hla5⟩ hP hD hS dX6_meets_92
        · skip
          refine lv_tableOut (tgt := 93) hx hb dX6_meets_38 (sw_out (by decide) (by decide) hsw38) (by decide) ?_
          obtain ⟨t, ht0, ht4, rfl⟩ := (inI_iff (lo := 0) (hi := 4) (by decide) (by decide)).mp q13
          have ht : t = 4 := by rcases Nat.lt_or_ge t 4 with q | q; exact absurd (inI_nI (by decide) (by decide) (Nat.zero_le _) (by omega)) hsw38; omega
          subst ht
          refine lv_aload_n hx hb dX6_meets_93 rfl (lv_at hl 1 rfl) ?_
          refine rm_cV (ls := ls) (As := []) (rest := []) ⟨hx, hb, hml, hown, hts⟩ (metX6_stuck l D cA a st im kp nx li_1 isl_1 mv_1 so_1 la_1 cm_1 ld_1 us_1 bl_1  (by first | assumption | omega) (by first | assumption | omega) (by omega) (fun i hi => by rw [hMR.2.1 i (by omega)]; exact okc_lt hn10 (hLok _ (getD_mem (by omega)))) (fun c => Nat.lt_trans (hmv5 c) (by decide))) (cwX6_stuck_X6 hts ⟨Nat.le_of_ble_eq_true rfl, Nat.le_of_ble_eq_true rfl⟩) hP hK hN (va_recv hK hP xc5 (q0 := 0) rfl) rfl hl.1 rfl (Nat.le_of_ble_eq_true rfl) dX6_meets_94 ⟨Nat.zero_le _, Nat.zero_le _⟩ ?_
          exact hret _ (li_1, isl_1, mv_1, so_1, la_1, cm_1, ld_1, us_1, bl_1) _ _ 97 ls ⟨⟨fun h => absurd (hB.symm.trans h) (by decide), fun _ => ⟨fun h => absurd h (by omega), fun _ => by rw [nI_clamp (by omega)]; exact ⟨L, so_1, la_1, hF, hSP, hLP, by show nI (ctP _ ld_1) = nI _; rw [hld]; congr 1; apply ctP_congr; intro i hi; show (!(met (st 0) (li_1 i)) && _) = _; rw [hMR.2.1 i hi, hMR.2.2.2.1 _ (getD_mem hi)]; rfl⟩⟩⟩, hmv5, hso5, hla5⟩ hP hD hS dX6_meets_97
      · skip
        refine lv_bipush (v := (-3)) hx hb dX6_meets_28 (by decide) ?_
        exact hret _ (li, isl, mv, so, la, cm, ld, us, bl) _ _ 30 ls ⟨⟨fun h => absurd (hB.symm.trans h) (by decide), fun _ => ⟨fun _ => rfl, fun h => absurd q25 h⟩⟩, hmvB, hso, hla⟩ hP hD hS dX6_meets_30
    · skip
      refine lv_bipush (v := (-2)) hx hb dX6_meets_16 (by decide) ?_
      exact hret _ (li, isl, mv, so, la, cm, ld, us, bl) _ _ 18 ls ⟨⟨fun _ => rfl, fun h => absurd h (by rw [show inI 0 4 what = false from q13]; simp)⟩, hmvB, hso, hla⟩ hP hD hS dX6_meets_18
theorem cwX6_meets_L {R : Room} {s : State} {args : Array Value} (hts : ∀ w ∈ lw_all, w.before args s = true) (hR : (rmX6_meets).frames + 1 ≤ R.frames ∧ 8 + (4 + 11) + (rmX6_meets).locals ≤ R.locals) : CallW R s args "RingMeetsLaw" RX6 60 yX6_meets cX6_meets 4 (some .int) (ws_ yX6_meets cX6_meets 4 (some .int)) rmX6_meets 0 0 2 := cwV 2 hts (lw_V q816 q817 q818 q63 q819) rfl rfl rfl (by decide +kernel) hR
abbrev rmX6_blind : Room := { frames := 11, cells := 0, slots := 0, locals := 267 }
set_option maxHeartbeats 4000000 in
theorem metX6_blind (l : Launch) (D : va_G) (cA : Nat → ClassId) (a : Nat → Nat) (st im : Nat → Nat) (kp : Nat → Bool) (nx li : Nat → Nat) (isl : Nat → Bool) (mv : Nat → Nat) (so la : Nat → Option Nat) (cm : Nat → Nat) (ld us : Nat) (bl : Bool) (v : Int32) (hn3 : 3 ≤ st 0) (hn10 : st 0 ≤ 10) (hst : ∀ j, st j < 2 ^ 31) (hm : st 11 ≤ 10) (hru : ∀ r, r < st 11 → rS st r 5 ≤ 2) (hsm : sm (fun c => st (1 + c)) 10 ≤ 5) (hmvB : ∀ c, mv c < 59049) (hso : ∀ c v, so c = some v → v < 2 ^ 31) (hla : ∀ c v, la c = some v → v < 2 ^ 31) : MUi l yX6_blind cX6_blind 3 (some .int) rmX6_blind [.ref (a 0), .int v] D cA (mW a cA st im kp nx li isl mv so la cm ld us bl) (fun (res_ : Int32) (uu_ : (Nat → Nat) × (Nat → Bool) × (Nat → Nat) × (Nat → Option Nat) × (Nat → Option Nat) × (Nat → Nat) × (Nat) × (Nat) × (Bool)) => (BlP (st 0) (fun c => st (1 + c)) (st 11) (rS st) v res_) ∧ (∀ c, uu_.2.2.1 c < 59049) ∧ (∀ c v, uu_.2.2.2.1 c = some v → v < 2 ^ 31) ∧ (∀ c v, uu_.2.2.2.2.1 c = some v → v < 2 ^ 31)) (fun (uu_ : (Nat → Nat) × (Nat → Bool) × (Nat → Nat) × (Nat → Option Nat) × (Nat → Option Nat) × (Nat → Nat) × (Nat) × (Nat) × (Bool)) => mW a cA st im kp nx uu_.1 uu_.2.1 uu_.2.2.1 uu_.2.2.2.1 uu_.2.2.2.2.1 uu_.2.2.2.2.2.1 uu_.2.2.2.2.2.2.1 uu_.2.2.2.2.2.2.2.1 uu_.2.2.2.2.2.2.2.2) 0 0 := by
  refine mu_int rfl (Nat.le_of_ble_eq_true rfl) ?_
  intro p e s m below meth cd Q ls A hx hb hml hown hts hP hK hN hD hA hl hret
  have hown : s.vm.findClass RX6 = some m.cls := hown
  have hS : va_S A s.heap s.heap [] := va_S.rf
  have hl : lv_has ls 3 [(0, .ref (a 0)), (1, .int v)] := hl
  have hco : okc (st 0) (cdw (fun c => st (1 + c)) (st 0)) := okc_cdw hn10 hsm
  have hc5 := okc_lt hn10 hco
  refine lv_iload_n hx hb dX6_blind_0 rfl (lv_at hl 1 rfl) ?_
  refine rm_cS (ls := ls) (As := [.int v]) (rest := []) ⟨hx, hb, hml, hown, hts⟩ (metX6_isSchedule l v ) (cwX6_isSchedule_X6 hts ⟨Nat.le_of_ble_eq_true rfl, Nat.le_of_ble_eq_true rfl⟩) noB rfl hl.1 rfl (Nat.le_of_ble_eq_true rfl) dX6_blind_1 ⟨Nat.zero_le _, Nat.zero_le _⟩ ?_
  refine rm_bne (tgt := 10) hx hb dX6_blind_4 (by decide) (fun q4 => ?_) (fun q4 => ?_)
  · skip
    have hB : inI 0 2 v = true := q4
    obtain ⟨k, hk0, hk2, rfl⟩ := (inI_iff (lo := 0) (hi := 2) (by decide) (by decide)).mp q4
    refine lv_aload_n hx hb dX6_blind_10 rfl (lv_at hl 0 rfl) ?_
    refine rm_cV (ls := ls) (As := []) (rest := []) ⟨hx, hb, hml, hown, hts⟩ (metX6_now l D cA a st im kp nx li isl mv so la cm ld us bl  (by first | assumption | omega) (by first | assumption | omega) (by first | assumption | omega)) (cwX6_now_X6 hts ⟨Nat.le_of_ble_eq_true rfl, Nat.le_of_ble_eq_true rfl⟩) hP hK hN (va_recv hK hP xc5 (q0 := 0) rfl) rfl hl.1 rfl (Nat.le_of_ble_eq_true rfl) dX6_blind_11 ⟨Nat.zero_le _, Nat.zero_le _⟩ ?_
    refine lv_istore_n (lv' := [(2, .int (nI (cdw (fun c => st (1 + c)) (st 0)))), (0, .ref (a 0)), (1, .int (nI k))]) hx hb dX6_blind_14 rfl hl (by decide) rfl (fun ls hl => ?_)
    refine lv_iload_n hx hb dX6_blind_15 rfl (lv_at hl 0 rfl) ?_
    refine rm_ine (tgt := 22) hx hb dX6_blind_16 (by decide) (by omega) (fun q16 => ?_) (fun q16 => ?_)
    · skip
      refine lv_aload_n hx hb dX6_blind_22 rfl (lv_at hl 1 rfl) ?_
      refine lv_iload_n hx hb dX6_blind_23 rfl (lv_at hl 2 rfl) ?_
      refine lv_iconst (v := (bI true)) hx hb dX6_blind_24 (by decide) ?_
      refine mu_aVv (ls := ls) (As := [.int (nI k), .int (bI true)]) (rest := []) ⟨hx, hb, hml, hown, hts⟩ (metX6_layNow l D cA a st im kp nx li isl mv so la cm ld us bl k true (by first | assumption | omega) (by first | assumption | omega) (by first | assumption | omega) (by first | assumption | omega) (by first | assumption | omega) (by first | assumption | omega) (by omega) (by first | assumption | omega) (by first | assumption | omega) (by first | assumption | omega)) (cwX6_layNow_X6 hts ⟨Nat.le_of_ble_eq_true rfl, Nat.le_of_ble_eq_true rfl⟩) hP hD hS hA hK hN (va_recv hK hP xc5 (q0 := 0) rfl) rfl hl.1 rfl (Nat.le_of_ble_eq_true rfl) dX6_blind_25 ⟨Nat.zero_le _, Nat.zero_le _⟩ (fun u1 H locs w1 hP hD hS => ?_)
      obtain ⟨li_1, isl_1, mv_1, so_1, la_1, cm_1, ld_1, us_1, bl_1⟩ := u1
      try dsimp only at w1
      have hP : va_P D xCl (mW a cA st im kp nx li_1 isl_1 mv_1 so_1 la_1 cm_1 ld_1 us_1 bl_1) H := hP
      have hD : va_D A (mW a cA st im kp nx li_1 isl_1 mv_1 so_1 la_1 cm_1 ld_1 us_1 bl_1) := hD
      obtain ⟨ebl, L, hF, hMR, hSP, hLP, hmv5, hso5, hla5⟩ := w1
      have hL : cdw (fun c => st (1 + c)) (st 0) ∈ L := (exF_pre hF).subset (List.mem_singleton.mpr rfl)
      have hmc : mv_1 (cdw (fun c => st (1 + c)) (st 0)) = mvC (st 0) (st 11) (rS st) true (cdw (fun c => st (1 + c)) (st 0)) := hMR.2.2.2.1 _ hL
      have hlen : L.length ≤ 4000 := okc_len hn10 (exF_ok hF (by simp) (fun c hc => by rw [List.mem_singleton.mp hc]; exact hco) (sucs_okc (by omega))).1 (exF_ok hF (by simp) (fun c hc => by rw [List.mem_singleton.mp hc]; exact hco) (sucs_okc (by omega))).2
      have hLok := (exF_ok (P := okc (st 0)) hF (by simp) (fun c hc => by rw [List.mem_singleton.mp hc]; exact hco) (sucs_okc (by omega))).2
      have hld := hMR.1
      refine lv_aload_n hx hb dX6_blind_28 rfl (lv_at hl 1 rfl) ?_
      refine lv_iload_n hx hb dX6_blind_29 rfl (lv_at hl 0 rfl) ?_
      refine rm_cV (ls := ls) (As := [.int (nI (cdw (fun c => st (1 + c)) (st 0)))]) (rest := []) ⟨hx, hb, hml, hown, hts⟩ (metX6_kindOf l D cA a st im kp nx li_1 isl_1 mv_1 so_1 la_1 cm_1 ld_1 us_1 bl_1 (cdw (fun c => st (1 + c)) (st 0)) (by first | assumption | omega) (by first | assumption | omega) hc5 (hla5 _) (hso5 _)) (cwX6_kindOf_X6 hts ⟨Nat.le_of_ble_eq_true rfl, Nat.le_of_ble_eq_true rfl⟩) hP hK hN (va_recv hK hP xc5 (q0 := 0) rfl) rfl hl.1 rfl (Nat.le_of_ble_eq_true rfl) dX6_blind_30 ⟨Nat.zero_le _, Nat.zero_le _⟩ ?_
      exact hret _ (li_1, isl_1, mv_1, so_1, la_1, cm_1, ld_1, us_1, bl_1) _ _ 33 ls ⟨⟨fun h => absurd (hB.symm.trans h) (by decide), fun _ => ⟨fun h => absurd h (by omega), fun _ => by rw [nI_clamp (by omega)]; exact ⟨L, so_1, la_1, hF, hSP, hLP, rfl⟩⟩⟩, hmv5, hso5, hla5⟩ hP hD hS dX6_blind_33
    · skip
      refine lv_bipush (v := (-3)) hx hb dX6_blind_19 (by decide) ?_
      exact hret _ (li, isl, mv, so, la, cm, ld, us, bl) _ _ 21 ls ⟨⟨fun h => absurd (hB.symm.trans h) (by decide), fun _ => ⟨fun _ => rfl, fun h => absurd q16 h⟩⟩, hmvB, hso, hla⟩ hP hD hS dX6_blind_21
  · skip
    refine lv_bipush (v := (-2)) hx hb dX6_blind_7 (by decide) ?_
    exact hret _ (li, isl, mv, so, la, cm, ld, us, bl) _ _ 9 ls ⟨⟨fun _ => rfl, fun h => absurd (h.symm.trans q4) (by decide)⟩, hmvB, hso, hla⟩ hP hD hS dX6_blind_9
theorem cwX6_blind_L {R : Room} {s : State} {args : Array Value} (hts : ∀ w ∈ lw_all, w.before args s = true) (hR : (rmX6_blind).frames + 1 ≤ R.frames ∧ 8 + (3 + 11) + (rmX6_blind).locals ≤ R.locals) : CallW R s args "RingMeetsLaw" RX6 68 yX6_blind cX6_blind 3 (some .int) (ws_ yX6_blind cX6_blind 3 (some .int)) rmX6_blind 0 0 1 := cwV 1 hts (lw_V q874 q875 q876 q63 q877) rfl rfl rfl (by decide +kernel) hR
abbrev rmX6_used : Room := { frames := 11, cells := 0, slots := 0, locals := 267 }
set_option maxHeartbeats 4000000 in
theorem metX6_used (l : Launch) (D : va_G) (cA : Nat → ClassId) (a : Nat → Nat) (st im : Nat → Nat) (kp : Nat → Bool) (nx li : Nat → Nat) (isl : Nat → Bool) (mv : Nat → Nat) (so la : Nat → Option Nat) (cm : Nat → Nat) (ld us : Nat) (bl : Bool) (v : Int32) (hn3 : 3 ≤ st 0) (hn10 : st 0 ≤ 10) (hst : ∀ j, st j < 2 ^ 31) (hm : st 11 ≤ 10) (hru : ∀ r, r < st 11 → rS st r 5 ≤ 2) (hsm : sm (fun c => st (1 + c)) 10 ≤ 5) (hmvB : ∀ c, mv c < 59049) (hso : ∀ c v, so c = some v → v < 2 ^ 31) (hla : ∀ c v, la c = some v → v < 2 ^ 31) : MUi l yX6_used cX6_used 2 (some .int) rmX6_used [.ref (a 0), .int v] D cA (mW a cA st im kp nx li isl mv so la cm ld us bl) (fun (res_ : Int32) (uu_ : (Nat → Nat) × (Nat → Bool) × (Nat → Nat) × (Nat → Option Nat) × (Nat → Option Nat) × (Nat → Nat) × (Nat) × (Nat) × (Bool)) => (UsP (st 0) (fun c => st (1 + c)) (st 11) (rS st) v res_) ∧ (∀ c, uu_.2.2.1 c < 59049) ∧ (∀ c v, uu_.2.2.2.1 c = some v → v < 2 ^ 31) ∧ (∀ c v, uu_.2.2.2.2.1 c = some v → v < 2 ^ 31)) (fun (uu_ : (Nat → Nat) × (Nat → Bool) × (Nat → Nat) × (Nat → Option Nat) × (Nat → Option Nat) × (Nat → Nat) × (Nat) × (Nat) × (Bool)) => mW a cA st im kp nx uu_.1 uu_.2.1 uu_.2.2.1 uu_.2.2.2.1 uu_.2.2.2.2.1 uu_.2.2.2.2.2.1 uu_.2.2.2.2.2.2.1 uu_.2.2.2.2.2.2.2.1 uu_.2.2.2.2.2.2.2.2) 0 0 := by
  refine mu_int rfl (Nat.le_of_ble_eq_true rfl) ?_
  intro p e s m below meth cd Q ls A hx hb hml hown hts hP hK hN hD hA hl hret
  have hown : s.vm.findClass RX6 = some m.cls := hown
  have hS : va_S A s.heap s.heap [] := va_S.rf
  have hl : lv_has ls 2 [(0, .ref (a 0)), (1, .int v)] := hl
  have hco : okc (st 0) (cdw (fun c => st (1 + c)) (st 0)) := okc_cdw hn10 hsm
  have hc5 := okc_lt hn10 hco
  refine lv_iload_n hx hb dX6_used_0 rfl (lv_at hl 1 rfl) ?_
  refine rm_cS (ls := ls) (As := [.int v]) (rest := []) ⟨hx, hb, hml, hown, hts⟩ (metX6_isSchedule l v ) (cwX6_isSchedule_X6 hts ⟨Nat.le_of_ble_eq_true rfl, Nat.le_of_ble_eq_true rfl⟩) noB rfl hl.1 rfl (Nat.le_of_ble_eq_true rfl) dX6_used_1 ⟨Nat.zero_le _, Nat.zero_le _⟩ ?_
  refine rm_bne (tgt := 10) hx hb dX6_used_4 (by decide) (fun q4 => ?_) (fun q4 => ?_)
  · skip
    have hB : inI 0 2 v = true := q4
    obtain ⟨k, hk0, hk2, rfl⟩ := (inI_iff (lo := 0) (hi := 2) (by decide) (by decide)).mp q4
    refine lv_aload_n hx hb dX6_used_10 rfl (lv_at hl 0 rfl) ?_
    refine rm_cV (ls := ls) (As := []) (rest := []) ⟨hx, hb, hml, hown, hts⟩ (metX6_now l D cA a st im kp nx li isl mv so la cm ld us bl  (by first | assumption | omega) (by first | assumption | omega) (by first | assumption | omega)) (cwX6_now_X6 hts ⟨Nat.le_of_ble_eq_true rfl, Nat.le_of_ble_eq_true rfl⟩) hP hK hN (va_recv hK hP xc5 (q0 := 0) rfl) rfl hl.1 rfl (Nat.le_of_ble_eq_true rfl) dX6_used_11 ⟨Nat.zero_le _, Nat.zero_le _⟩ ?_
    refine rm_ine (tgt := 20) hx hb dX6_used_14 (by decide) (by omega) (fun q14 => ?_) (fun q14 => ?_)
    · skip
      refine lv_aload_n hx hb dX6_used_20 rfl (lv_at hl 0 rfl) ?_
      refine lv_iload_n hx hb dX6_used_21 rfl (lv_at hl 1 rfl) ?_
      refine lv_iconst (v := (bI false)) hx hb dX6_used_22 (by decide) ?_
      refine mu_aVv (ls := ls) (As := [.int (nI k), .int (bI false)]) (rest := []) ⟨hx, hb, hml, hown, hts⟩ (metX6_layNow l D cA a st im kp nx li isl mv so la cm ld us bl k false (by first | assumption | omega) (by first | assumption | omega) (by first | assumption | omega) (by first | assumption | omega) (by first | assumption | omega) (by first | assumption | omega) (by omega) (by first | assumption | omega) (by first | assumption | omega) (by first | assumption | omega)) (cwX6_layNow_X6 hts ⟨Nat.le_of_ble_eq_true rfl, Nat.le_of_ble_eq_true rfl⟩) hP hD hS hA hK hN (va_recv hK hP xc5 (q0 := 0) rfl) rfl hl.1 rfl (Nat.le_of_ble_eq_true rfl) dX6_used_23 ⟨Nat.zero_le _, Nat.zero_le _⟩ (fun u1 H locs w1 hP hD hS => ?_)
      obtain ⟨li_1, isl_1, mv_1, so_1, la_1, cm_1, ld_1, us_1, bl_1⟩ := u1
      try dsimp only at w1
      have hP : va_P D xCl (mW a cA st im kp nx li_1 isl_1 mv_1 so_1 la_1 cm_1 ld_1 us_1 bl_1) H := hP
      have hD : va_D A (mW a cA st im kp nx li_1 isl_1 mv_1 so_1 la_1 cm_1 ld_1 us_1 bl_1) := hD
      obtain ⟨ebl, L, hF, hMR, hSP, hLP, hmv5, hso5, hla5⟩ := w1
      have hL : cdw (fun c => st (1 + c)) (st 0) ∈ L := (exF_pre hF).subset (List.mem_singleton.mpr rfl)
      have hmc : mv_1 (cdw (fun c => st (1 + c)) (st 0)) = mvC (st 0) (st 11) (rS st) false (cdw (fun c => st (1 + c)) (st 0)) := hMR.2.2.2.1 _ hL
      have hlen : L.length ≤ 4000 := okc_len hn10 (exF_ok hF (by simp) (fun c hc => by rw [List.mem_singleton.mp hc]; exact hco) (sucs_okc (by omega))).1 (exF_ok hF (by simp) (fun c hc => by rw [List.mem_singleton.mp hc]; exact hco) (sucs_okc (by omega))).2
      have hLok := (exF_ok (P := okc (st 0)) hF (by simp) (fun c hc => by rw [List.mem_singleton.mp hc]; exact hco) (sucs_okc (by omega))).2
      have hld := hMR.1
      refine lv_aload_n hx hb dX6_used_26 rfl (lv_at hl 0 rfl) ?_
      refine va_get (D := D) (ci := 5) (v := .int (nI us_1)) (C := RX6) (T := TX6) (N := 14) hx hb hts in_X6 hown hK hP 0 rfl xc5 11 (by decide) (hts _ q651) (fun _ h9 => h9) rfl dX6_used_27 ?_
      exact hret _ (li_1, isl_1, mv_1, so_1, la_1, cm_1, ld_1, us_1, bl_1) _ _ 30 ls ⟨⟨fun h => absurd (hB.symm.trans h) (by decide), fun _ => ⟨fun h => absurd h (by omega), fun _ => by rw [nI_clamp (by omega)]; exact ⟨L, hF, by rw [hMR.2.2.2.2]; rfl⟩⟩⟩, hmv5, hso5, hla5⟩ hP hD hS dX6_used_30
    · skip
      refine lv_bipush (v := (-3)) hx hb dX6_used_17 (by decide) ?_
      exact hret _ (li, isl, mv, so, la, cm, ld, us, bl) _ _ 19 ls ⟨⟨fun h => absurd (hB.symm.trans h) (by decide), fun _ => ⟨fun _ => rfl, fun h => absurd q14 h⟩⟩, hmvB, hso, hla⟩ hP hD hS dX6_used_19
  · skip
    refine lv_bipush (v := (-2)) hx hb dX6_used_7 (by decide) ?_
    exact hret _ (li, isl, mv, so, la, cm, ld, us, bl) _ _ 9 ls ⟨⟨fun _ => rfl, fun h => absurd (h.symm.trans q4) (by decide)⟩, hmvB, hso, hla⟩ hP hD hS dX6_used_9
theorem cwX6_used_L {R : Room} {s : State} {args : Array Value} (hts : ∀ w ∈ lw_all, w.before args s = true) (hR : (rmX6_used).frames + 1 ≤ R.frames ∧ 8 + (2 + 11) + (rmX6_used).locals ≤ R.locals) : CallW R s args "RingMeetsLaw" RX6 72 yX6_used cX6_used 2 (some .int) (ws_ yX6_used cX6_used 2 (some .int)) rmX6_used 0 0 1 := cwV 1 hts (lw_V q878 q879 q880 q63 q881) rfl rfl rfl (by decide +kernel) hR
abbrev rmX6_first : Room := { frames := 11, cells := 0, slots := 0, locals := 267 }
set_option maxHeartbeats 4000000 in
theorem metX6_first (l : Launch) (D : va_G) (cA : Nat → ClassId) (a : Nat → Nat) (st im : Nat → Nat) (kp : Nat → Bool) (nx li : Nat → Nat) (isl : Nat → Bool) (mv : Nat → Nat) (so la : Nat → Option Nat) (cm : Nat → Nat) (ld us : Nat) (bl : Bool) (v : Int32) (hn3 : 3 ≤ st 0) (hn10 : st 0 ≤ 10) (hst : ∀ j, st j < 2 ^ 31) (hm : st 11 ≤ 10) (hru : ∀ r, r < st 11 → rS st r 5 ≤ 2) (hsm : sm (fun c => st (1 + c)) 10 ≤ 5) (hmvB : ∀ c, mv c < 59049) (hso : ∀ c v, so c = some v → v < 2 ^ 31) (hla : ∀ c v, la c = some v → v < 2 ^ 31) : MUi l yX6_first cX6_first 5 (some .int) rmX6_first [.ref (a 0), .int v] D cA (mW a cA st im kp nx li isl mv so la cm ld us bl) (fun (res_ : Int32) (uu_ : (Nat → Nat) × (Nat → Bool) × (Nat → Nat) × (Nat → Option Nat) × (Nat → Option Nat) × (Nat → Nat) × (Nat) × (Nat) × (Bool)) => (FiP (st 0) (fun c => st (1 + c)) (st 11) (rS st) v res_) ∧ (∀ c, uu_.2.2.1 c < 59049) ∧ (∀ c v, uu_.2.2.2.1 c = some v → v < 2 ^ 31) ∧ (∀ c v, uu_.2.2.2.2.1 c = some v → v < 2 ^ 31)) (fun (uu_ : (Nat → Nat) × (Nat → Bool) × (Nat → Nat) × (Nat → Option Nat) × (Nat → Option Nat) × (Nat → Nat) × (Nat) × (Nat) × (Bool)) => mW a cA st im kp nx uu_.1 uu_.2.1 uu_.2.2.1 uu_.2.2.2.1 uu_.2.2.2.2.1 uu_.2.2.2.2.2.1 uu_.2.2.2.2.2.2.1 uu_.2.2.2.2.2.2.2.1 uu_.2.2.2.2.2.2.2.2) 0 0 := by
  refine mu_int rfl (Nat.le_of_ble_eq_true rfl) ?_
  intro p e s m below meth cd Q ls A hx hb hml hown hts hP hK hN hD hA hl hret
  have hown : s.vm.findClass RX6 = some m.cls := hown
  have hS : va_S A s.heap s.heap [] := va_S.rf
  have hl : lv_has ls 5 [(0, .ref (a 0)), (1, .int v)] := hl
  have hco : okc (st 0) (cdw (fun c => st (1 + c)) (st 0)) := okc_cdw hn10 hsm
  have hc5 := okc_lt hn10 hco
  refine lv_iload_n hx hb dX6_first_0 rfl (lv_at hl 1 rfl) ?_
  refine rm_cS (ls := ls) (As := [.int v]) (rest := []) ⟨hx, hb, hml, hown, hts⟩ (metX6_isSchedule l v ) (cwX6_isSchedule_X6 hts ⟨Nat.le_of_ble_eq_true rfl, Nat.le_of_ble_eq_true rfl⟩) noB rfl hl.1 rfl (Nat.le_of_ble_eq_true rfl) dX6_first_1 ⟨Nat.zero_le _, Nat.zero_le _⟩ ?_
  refine rm_bne (tgt := 10) hx hb dX6_first_4 (by decide) (fun q4 => ?_) (fun q4 => ?_)
  · skip
    have hB : inI 0 2 v = true := q4
    obtain ⟨k, hk0, hk2, rfl⟩ := (inI_iff (lo := 0) (hi := 2) (by decide) (by decide)).mp q4
    refine lv_aload_n hx hb dX6_first_10 rfl (lv_at hl 0 rfl) ?_
    refine rm_cV (ls := ls) (As := []) (rest := []) ⟨hx, hb, hml, hown, hts⟩ (metX6_now l D cA a st im kp nx li isl mv so la cm ld us bl  (by first | assumption | omega) (by first | assumption | omega) (by first | assumption | omega)) (cwX6_now_X6 hts ⟨Nat.le_of_ble_eq_true rfl, Nat.le_of_ble_eq_true rfl⟩) hP hK hN (va_recv hK hP xc5 (q0 := 0) rfl) rfl hl.1 rfl (Nat.le_of_ble_eq_true rfl) dX6_first_11 ⟨Nat.zero_le _, Nat.zero_le _⟩ ?_
    refine lv_istore_n (lv' := [(2, .int (nI (cdw (fun c => st (1 + c)) (st 0)))), (0, .ref (a 0)), (1, .int (nI k))]) hx hb dX6_first_14 rfl hl (by decide) rfl (fun ls hl => ?_)
    refine lv_iload_n hx hb dX6_first_15 rfl (lv_at hl 0 rfl) ?_
    refine rm_ine (tgt := 22) hx hb dX6_first_16 (by decide) (by omega) (fun q16 => ?_) (fun q16 => ?_)
    · skip
      refine lv_aload_n hx hb dX6_first_22 rfl (lv_at hl 1 rfl) ?_
      refine lv_iload_n hx hb dX6_first_23 rfl (lv_at hl 2 rfl) ?_
      refine lv_iconst (v := (bI false)) hx hb dX6_first_24 (by decide) ?_
      refine mu_aVv (ls := ls) (As := [.int (nI k), .int (bI false)]) (rest := []) ⟨hx, hb, hml, hown, hts⟩ (metX6_layNow l D cA a st im kp nx li isl mv so la cm ld us bl k false (by first | assumption | omega) (by first | assumption | omega) (by first | assumption | omega) (by first | assumption | omega) (by first | assumption | omega) (by first | assumption | omega) (by omega) (by first | assumption | omega) (by first | assumption | omega) (by first | assumption | omega)) (cwX6_layNow_X6 hts ⟨Nat.le_of_ble_eq_true rfl, Nat.le_of_ble_eq_true rfl⟩) hP hD hS hA hK hN (va_recv hK hP xc5 (q0 := 0) rfl) rfl hl.1 rfl (Nat.le_of_ble_eq_true rfl) dX6_first_25 ⟨Nat.zero_le _, Nat.zero_le _⟩ (fun u1 H locs w1 hP hD hS => ?_)
      obtain ⟨li_1, isl_1, mv_1, so_1, la_1, cm_1, ld_1, us_1, bl_1⟩ := u1
      try dsimp only at w1
      have hP : va_P D xCl (mW a cA st im kp nx li_1 isl_1 mv_1 so_1 la_1 cm_1 ld_1 us_1 bl_1) H := hP
      have hD : va_D A (mW a cA st im kp nx li_1 isl_1 mv_1 so_1 la_1 cm_1 ld_1 us_1 bl_1) := hD
      obtain ⟨ebl, L, hF, hMR, hSP, hLP, hmv5, hso5, hla5⟩ := w1
      have hL : cdw (fun c => st (1 + c)) (st 0) ∈ L := (exF_pre hF).subset (List.mem_singleton.mpr rfl)
      have hmc : mv_1 (cdw (fun c => st (1 + c)) (st 0)) = mvC (st 0) (st 11) (rS st) false (cdw (fun c => st (1 + c)) (st 0)) := hMR.2.2.2.1 _ hL
      have hlen : L.length ≤ 4000 := okc_len hn10 (exF_ok hF (by simp) (fun c hc => by rw [List.mem_singleton.mp hc]; exact hco) (sucs_okc (by omega))).1 (exF_ok hF (by simp) (fun c hc => by rw [List.mem_singleton.mp hc]; exact hco) (sucs_okc (by omega))).2
      have hLok := (exF_ok (P := okc (st 0)) hF (by simp) (fun c hc => by rw [List.mem_singleton.mp hc]; exact hco) (sucs_okc (by omega))).2
      have hld := hMR.1
      refine lv_aload_n hx hb dX6_first_28 rfl (lv_at hl 1 rfl) ?_
      refine lv_iload_n hx hb dX6_first_29 rfl (lv_at hl 0 rfl) ?_
      refine rm_cV (ls := ls) (As := [.int (nI (cdw (fun c => st (1 + c)) (st 0)))]) (rest := []) ⟨hx, hb, hml, hown, hts⟩ (metX6_movers l D cA a st im kp nx li_1 isl_1 mv_1 so_1 la_1 cm_1 ld_1 us_1 bl_1 (cdw (fun c => st (1 + c)) (st 0)) (by first | assumption | omega) (by first | assumption | omega) hc5 (Nat.lt_trans (hmv5 _) (by decide))) (cwX6_movers_X6 hts ⟨Nat.le_of_ble_eq_true rfl, Nat.le_of_ble_eq_true rfl⟩) hP hK hN (va_recv hK hP xc5 (q0 := 0) rfl) rfl hl.1 rfl (Nat.le_of_ble_eq_true rfl) dX6_first_30 ⟨Nat.zero_le _, Nat.zero_le _⟩ ?_
      have hM : mvS (st 0) (st 11) (rS st) false (cdw (fun c => st (1 + c)) (st 0)) < 1024 := stS_lt hn10 _
      refine rm_top (y := (nI (mvS (st 0) (st 11) (rS st) false (cdw (fun c => st (1 + c)) (st 0))))) (by rw [hmc]; rfl) ?_
      refine lv_istore_n (lv' := [(3, .int (nI (mvS (st 0) (st 11) (rS st) false (cdw (fun c => st (1 + c)) (st 0))))), (2, .int (nI (cdw (fun c => st (1 + c)) (st 0)))), (0, .ref (a 0)), (1, .int (nI k))]) hx hb dX6_first_33 rfl hl (by decide) rfl (fun ls hl => ?_)
      refine lv_iload_n hx hb dX6_first_34 rfl (lv_at hl 0 rfl) ?_
      refine lv_ineg hx hb dX6_first_35 ?_
      refine lv_iload_n hx hb dX6_first_36 rfl (lv_at hl 0 rfl) ?_
      refine lv_iand hx hb dX6_first_37 ?_
      refine rm_top (y := (nI (nxs (mvS (st 0) (st 11) (rS st) false (cdw (fun c => st (1 + c)) (st 0))) 0))) (nxs_neg hM) ?_
      refine lv_istore (lv' := [(4, .int (nI (nxs (mvS (st 0) (st 11) (rS st) false (cdw (fun c => st (1 + c)) (st 0))) 0))), (3, .int (nI (mvS (st 0) (st 11) (rS st) false (cdw (fun c => st (1 + c)) (st 0))))), (2, .int (nI (cdw (fun c => st (1 + c)) (st 0)))), (0, .ref (a 0)), (1, .int (nI k))]) hx hb dX6_first_38 hl (by decide) rfl (fun ls hl => ?_)
      have loop40 : ∀ (N : Nat) (f : Nat) (z : Nat) (cm2 : Nat → Nat), f < N → (z < 1024) → (sbk (mvS (st 0) (st 11) (rS st) false (cdw (fun c => st (1 + c)) (st 0))) f z = true) → (∀ x, so_1 (cdw (fun c => st (1 + c)) (st 0)) = some (x + 1) → (((sbs (mvS (st 0) (st 11) (rS st) false (cdw (fun c => st (1 + c)) (st 0))) f z).filter (fun z => mb k z (mvS (st 0) (st 11) (rS st) false (cdw (fun c => st (1 + c)) (st 0))))).find? (fun z => decide (so_1 (bstep (st 0) (cdw (fun c => st (1 + c)) (st 0)) (mvC (st 0) (st 11) (rS st) false (cdw (fun c => st (1 + c)) (st 0))) z) = some x))) = (sets k (mvS (st 0) (st 11) (rS st) false (cdw (fun c => st (1 + c)) (st 0)))).find? (fun z => decide (so_1 (bstep (st 0) (cdw (fun c => st (1 + c)) (st 0)) (mvC (st 0) (st 11) (rS st) false (cdw (fun c => st (1 + c)) (st 0))) z) = some x))) → ∀ (H : Heap) (locs : List Loc), va_P D xCl (mW a cA st im kp nx li_1 isl_1 mv_1 so_1 la_1 cm2 ld_1 us_1 bl_1) H → va_D A (mW a cA st im kp nx li_1 isl_1 mv_1 so_1 la_1 cm2 ld_1 us_1 bl_1) → va_S A s.heap H locs → ∀ (ls : Array Slot), lv_has ls 5 [(4, .int (nI z)), (3, .int (nI (mvS (st 0) (st 11) (rS st) false (cdw (fun c => st (1 + c)) (st 0))))), (2, .int (nI (cdw (fun c => st (1 + c)) (st 0)))), (0, .ref (a 0)), (1, .int (nI k))] → W p l e rmX6_first s m ([.ref (a 0), .int (nI k)] : List Value).toArray below meth cd H locs 0 0 Q (F0 m 40 ls []) := by
        intro N
        induction N with
        | zero => intro f z cm2 hm; exact absurd hm (Nat.not_lt_zero _)
        | succ N ih40 =>
          intro f z cm2 hm40 i40_0 i40_1 i40_2 H locs hP hD hS ls hl
          refine lv_iload hx hb dX6_first_40 (lv_at hl 0 rfl) ?_
          refine rm_ieq (tgt := 101) hx hb dX6_first_42 (by decide) (by omega) (fun q42 => ?_) (fun q42 => ?_)
          · skip
            refine lv_bipush (v := (-6)) hx hb dX6_first_101 (by decide) ?_
            exact hret _ (li_1, isl_1, mv_1, so_1, la_1, cm2, ld_1, us_1, bl_1) _ _ 103 ls ⟨⟨fun h => absurd (hB.symm.trans h) (by decide), fun _ => ⟨fun h => absurd h (by omega), fun _ => by rw [nI_clamp (by omega)]; exact ⟨L, so_1, hF, hSP, by unfold fiF; cases hq : so_1 (cdw (fun c => st (1 + c)) (st 0)) with | none => rfl | some y => (cases y with | zero => rfl | succ y => (show _ = oI _; rw [← i40_2 y hq, q42, sbs_0]; rfl))⟩⟩⟩, hmv5, hso5, hla5⟩ hP hD hS dX6_first_103
          · skip
            obtain ⟨g, hg1, hg2, hg3⟩ := sbk_next i40_1 q42
            refine lv_aload_n hx hb dX6_first_45 rfl (lv_at hl 3 rfl) ?_
            refine va_get (D := D) (ci := 5) (v := .ref (a 9)) (C := RX6) (T := TX6) (N := 14) hx hb hts in_X6 hown hK hP 0 rfl xc5 9 (by decide) (hts _ q649) (fun _ h9 => h9) rfl dX6_first_46 ?_
            refine lv_iload_n hx hb dX6_first_49 rfl (lv_at hl 2 rfl) ?_
            refine rm_old hx hb hK hP 9 rfl (by omega) (by decide) dX6_first_50 ?_
            refine lv_if_le (tgt := 101) hx hb dX6_first_51 (by decide) (fun q51 => ?_) (fun q51 => ?_)
            · skip
              refine lv_bipush (v := (-6)) hx hb dX6_first_101 (by decide) ?_
              exact hret _ (li_1, isl_1, mv_1, so_1, la_1, cm2, ld_1, us_1, bl_1) _ _ 103 ls ⟨⟨fun h => absurd (hB.symm.trans h) (by decide), fun _ => ⟨fun h => absurd h (by omega), fun _ => by rw [nI_clamp (by omega)]; exact ⟨L, so_1, hF, hSP, by unfold fiF; cases hq : so_1 (cdw (fun c => st (1 + c)) (st 0)) with | none => rfl | some y => (cases y with | zero => rfl | succ y => (exfalso; rw [hq] at q51; exact absurd ((nI_leI (b := 0) (hso5 _ _ hq) (by decide)).mp q51) (by omega)))⟩⟩⟩, hmv5, hso5, hla5⟩ hP hD hS dX6_first_103
            · skip
              have join90 : ∀ (cm3 : Nat → Nat), (∀ x, so_1 (cdw (fun c => st (1 + c)) (st 0)) = some (x + 1) → (((sbs (mvS (st 0) (st 11) (rS st) false (cdw (fun c => st (1 + c)) (st 0))) g (nxs (mvS (st 0) (st 11) (rS st) false (cdw (fun c => st (1 + c)) (st 0))) z)).filter (fun z => mb k z (mvS (st 0) (st 11) (rS st) false (cdw (fun c => st (1 + c)) (st 0))))).find? (fun z => decide (so_1 (bstep (st 0) (cdw (fun c => st (1 + c)) (st 0)) (mvC (st 0) (st 11) (rS st) false (cdw (fun c => st (1 + c)) (st 0))) z) = some x))) = (sets k (mvS (st 0) (st 11) (rS st) false (cdw (fun c => st (1 + c)) (st 0)))).find? (fun z => decide (so_1 (bstep (st 0) (cdw (fun c => st (1 + c)) (st 0)) (mvC (st 0) (st 11) (rS st) false (cdw (fun c => st (1 + c)) (st 0))) z) = some x))) → ∀ (H : Heap) (locs : List Loc), va_P D xCl (mW a cA st im kp nx li_1 isl_1 mv_1 so_1 la_1 cm3 ld_1 us_1 bl_1) H → va_D A (mW a cA st im kp nx li_1 isl_1 mv_1 so_1 la_1 cm3 ld_1 us_1 bl_1) → va_S A s.heap H locs → ∀ (ls : Array Slot), lv_has ls 5 [(4, .int (nI z)), (3, .int (nI (mvS (st 0) (st 11) (rS st) false (cdw (fun c => st (1 + c)) (st 0))))), (2, .int (nI (cdw (fun c => st (1 + c)) (st 0)))), (0, .ref (a 0)), (1, .int (nI k))] → W p l e rmX6_first s m ([.ref (a 0), .int (nI k)] : List Value).toArray below meth cd H locs 0 0 Q (F0 m 90 ls []) := by
                intro cm3 i90_0 H locs hP hD hS ls hl
                refine lv_iload hx hb dX6_first_90 (lv_at hl 0 rfl) ?_
                refine lv_iload_n hx hb dX6_first_92 rfl (lv_at hl 1 rfl) ?_
                refine lv_isub hx hb dX6_first_93 ?_
                refine lv_iload_n hx hb dX6_first_94 rfl (lv_at hl 1 rfl) ?_
                refine lv_iand hx hb dX6_first_95 ?_
                refine rm_top (y := (nI (nxs (mvS (st 0) (st 11) (rS st) false (cdw (fun c => st (1 + c)) (st 0))) z))) (nxs_I hM) ?_
                refine lv_istore (lv' := [(4, .int (nI (nxs (mvS (st 0) (st 11) (rS st) false (cdw (fun c => st (1 + c)) (st 0))) z))), (3, .int (nI (mvS (st 0) (st 11) (rS st) false (cdw (fun c => st (1 + c)) (st 0))))), (2, .int (nI (cdw (fun c => st (1 + c)) (st 0)))), (0, .ref (a 0)), (1, .int (nI k))]) hx hb dX6_first_96 hl (by decide) rfl (fun ls hl => ?_)
                refine lv_goto (tgt := 40) hx hb dX6_first_98 (by decide) ?_
                exact ih40 g _ _ (by omega) (Nat.lt_of_le_of_lt (nxs_le _ z) hM) hg2 i90_0 _ _ hP hD hS ls hl
              obtain ⟨x, hx1, hx0⟩ : ∃ x, so_1 (cdw (fun c => st (1 + c)) (st 0)) = some (x + 1) ∧ x + 1 < 2 ^ 31 := by cases hq : so_1 (cdw (fun c => st (1 + c)) (st 0)) with | none => (rw [hq] at q51; exact absurd (by decide) q51) | some y => (cases y with | zero => (rw [hq] at q51; exact absurd (by decide) q51) | succ y => exact ⟨y, rfl, hso5 _ _ hq⟩)
              refine lv_iload_n hx hb dX6_first_54 rfl (lv_at hl 4 rfl) ?_
              refine lv_iload hx hb dX6_first_55 (lv_at hl 0 rfl) ?_
              refine lv_iload_n hx hb dX6_first_57 rfl (lv_at hl 1 rfl) ?_
              refine rm_cS (ls := ls) (As := [.int (nI k), .int (nI z), .int (nI (mvS (st 0) (st 11) (rS st) false (cdw (fun c => st (1 + c)) (st 0))))]) (rest := []) ⟨hx, hb, hml, hown, hts⟩ (metX6_mayBe l k z (mvS (st 0) (st 11) (rS st) false (cdw (fun c => st (1 + c)) (st 0))) (by first | assumption | omega) (by first | assumption | omega) (by first | assumption | omega) (by first | assumption | omega)) (cwX6_mayBe_X6 hts ⟨Nat.le_of_ble_eq_true rfl, Nat.le_of_ble_eq_true rfl⟩) noB rfl hl.1 rfl (Nat.le_of_ble_eq_true rfl) dX6_first_58 ⟨Nat.zero_le _, Nat.zero_le _⟩ ?_
              refine rm_beq (tgt := 90) hx hb dX6_first_61 (by decide) (fun q61 => ?_) (fun q61 => ?_)
              · skip
                exact join90 _ (fun x h => by rw [← i40_2 x h, hg3, List.filter_cons, if_neg (by rw [q61]; decide)]) _ _ hP hD hS ls hl
              · skip
                refine lv_aload_n hx hb dX6_first_64 rfl (lv_at hl 3 rfl) ?_
                refine va_get (D := D) (ci := 5) (v := .ref (a 9)) (C := RX6) (T := TX6) (N := 14) hx hb hts in_X6 hown hK hP 0 rfl xc5 9 (by decide) (hts _ q649) (fun _ h9 => h9) rfl dX6_first_65 ?_
                refine lv_aload_n hx hb dX6_first_68 rfl (lv_at hl 3 rfl) ?_
                refine lv_iload_n hx hb dX6_first_69 rfl (lv_at hl 2 rfl) ?_
                refine lv_iload hx hb dX6_first_70 (lv_at hl 0 rfl) ?_
                refine mu_aVi (ls := ls) (As := [.int (nI (cdw (fun c => st (1 + c)) (st 0))), .int (nI z)]) (rest := [.ref (a 9)]) ⟨hx, hb, hml, hown, hts⟩ (metX6_behindStep l D cA a st im kp nx li_1 isl_1 mv_1 so_1 la_1 cm2 ld_1 us_1 bl_1 (cdw (fun c => st (1 + c)) (st 0)) z (by first | assumption | omega) (by first | assumption | omega) hc5 (by first | assumption | omega) (Nat.lt_trans (hmv5 _) (by decide))) (cwX6_behindStep_X6 hts ⟨Nat.le_of_ble_eq_true rfl, Nat.le_of_ble_eq_true rfl⟩) hP hD hS hA hK hN (va_recv hK hP xc5 (q0 := 0) rfl) rfl hl.1 rfl (Nat.le_of_ble_eq_true rfl) dX6_first_72 ⟨Nat.zero_le _, Nat.zero_le _⟩ (fun r72_2 u2 H locs w2 hP hD hS => ?_)
                obtain ⟨cm_2, e2⟩ : ∃ z, z = u2 := ⟨_, rfl⟩
                subst e2
                have hP : va_P D xCl (mW a cA st im kp nx li_1 isl_1 mv_1 so_1 la_1 cm_2 ld_1 us_1 bl_1) H := hP
                have hD : va_D A (mW a cA st im kp nx li_1 isl_1 mv_1 so_1 la_1 cm_2 ld_1 us_1 bl_1) := hD
                have er2 := w2
                subst er2
                have hto : bstep (st 0) (cdw (fun c => st (1 + c)) (st 0)) (mv_1 (cdw (fun c => st (1 + c)) (st 0))) z < 59049 := Nat.lt_of_lt_of_le (bstep_lt _ _ _ _) (p3_le hn10)
                refine rm_old hx hb hK hP 9 rfl hto (by decide) dX6_first_75 ?_
                refine lv_aload_n hx hb dX6_first_76 rfl (lv_at hl 3 rfl) ?_
                refine va_get (D := D) (ci := 5) (v := .ref (a 9)) (C := RX6) (T := TX6) (N := 14) hx hb hts in_X6 hown hK hP 0 rfl xc5 9 (by decide) (hts _ q649) (fun _ h9 => h9) rfl dX6_first_77 ?_
                refine lv_iload_n hx hb dX6_first_80 rfl (lv_at hl 2 rfl) ?_
                refine rm_old hx hb hK hP 9 rfl (by omega) (by decide) dX6_first_81 ?_
                refine rm_top (y := (nI (x + 1))) (by rw [hx1]; rfl) ?_
                refine lv_iconst (v := (nI 1)) hx hb dX6_first_82 (by decide) ?_
                refine rm_isub hx hb dX6_first_83 (by omega) ?_
                refine lv_icmp_ne (tgt := 90) hx hb dX6_first_84 (by decide) (fun q84 => ?_) (fun q84 => ?_)
                · skip
                  exact join90 _ (fun y h => by rw [← i40_2 y h, hg3, List.filter_cons, if_pos q61, List.find?_cons_of_neg]; rw [decide_eq_true_iff]; intro e; apply q84; rw [hmc]; have e9 : y = x := (by rw [hx1] at h; have h9 := Option.some.inj h; omega); rw [← e9]; exact (oI_eqn (hso5 _) (by omega)).mpr e) _ _ hP hD hS ls hl
                · skip
                  refine lv_iload hx hb dX6_first_87 (lv_at hl 0 rfl) ?_
                  exact hret _ (li_1, isl_1, mv_1, so_1, la_1, cm_2, ld_1, us_1, bl_1) _ _ 89 ls ⟨⟨fun h => absurd (hB.symm.trans h) (by decide), fun _ => ⟨fun h => absurd h (by omega), fun _ => by rw [nI_clamp (by omega)]; exact ⟨L, so_1, hF, hSP, by unfold fiF; rw [hx1]; show _ = oI _; rw [← i40_2 x hx1, hg3, List.filter_cons, if_pos q61, List.find?_cons_of_pos]; rfl; rw [decide_eq_true_iff, ← hmc]; exact (oI_eqn (hso5 _) (by omega)).mp q84⟩⟩⟩, hmv5, hso5, hla5⟩ hP hD hS dX6_first_89
      exact loop40 _ 1024 _ _ (Nat.lt_succ_self _) (Nat.lt_of_le_of_lt (nxs_le _ 0) hM) (sbk_all _ hM) (fun x _ => rfl) _ _ hP hD hS ls hl
    · skip
      refine lv_bipush (v := (-3)) hx hb dX6_first_19 (by decide) ?_
      exact hret _ (li, isl, mv, so, la, cm, ld, us, bl) _ _ 21 ls ⟨⟨fun h => absurd (hB.symm.trans h) (by decide), fun _ => ⟨fun _ => rfl, fun h => absurd q16 h⟩⟩, hmvB, hso, hla⟩ hP hD hS dX6_first_21
  · skip
    refine lv_bipush (v := (-2)) hx hb dX6_first_7 (by decide) ?_
    exact hret _ (li, isl, mv, so, la, cm, ld, us, bl) _ _ 9 ls ⟨⟨fun _ => rfl, fun h => absurd (h.symm.trans q4) (by decide)⟩, hmvB, hso, hla⟩ hP hD hS dX6_first_9
theorem cwX6_first_L {R : Room} {s : State} {args : Array Value} (hts : ∀ w ∈ lw_all, w.before args s = true) (hR : (rmX6_first).frames + 1 ≤ R.frames ∧ 8 + (5 + 11) + (rmX6_first).locals ≤ R.locals) : CallW R s args "RingMeetsLaw" RX6 64 yX6_first cX6_first 5 (some .int) (ws_ yX6_first cX6_first 5 (some .int)) rmX6_first 0 0 1 := cwV 1 hts (lw_V q870 q871 q872 q63 q873) rfl rfl rfl (by decide +kernel) hR
abbrev rmX6_all : Room := { frames := 10, cells := 0, slots := 0, locals := 245 }
set_option maxHeartbeats 4000000 in
theorem metX6_all (l : Launch) (D : va_G) (cA : Nat → ClassId) (a : Nat → Nat) (st im : Nat → Nat) (kp : Nat → Bool) (nx li : Nat → Nat) (isl : Nat → Bool) (mv : Nat → Nat) (so la : Nat → Option Nat) (cm : Nat → Nat) (ld us : Nat) (bl : Bool) (m0 v w0 : Int32) (hn3 : 3 ≤ st 0) (hn10 : st 0 ≤ 10) (hst : ∀ j, st j < 2 ^ 31) (hm : st 11 ≤ 10) (hru : ∀ r, r < st 11 → rS st r 5 ≤ 2) (hmvB : ∀ c, mv c < 59049) (hso : ∀ c v, so c = some v → v < 2 ^ 31) (hla : ∀ c v, la c = some v → v < 2 ^ 31) : MUi l yX6_all cX6_all 6 (some .int) rmX6_all [.ref (a 0), .int m0, .int v, .int w0] D cA (mW a cA st im kp nx li isl mv so la cm ld us bl) (fun (res_ : Int32) (uu_ : (Nat → Nat) × (Nat → Bool) × (Nat → Nat) × (Nat → Option Nat) × (Nat → Option Nat) × (Nat → Nat) × (Nat) × (Nat) × (Bool)) => (AlP (st 0) (st 11) (rS st) m0 v w0 res_) ∧ (∀ c, uu_.2.2.1 c < 59049) ∧ (∀ c v, uu_.2.2.2.1 c = some v → v < 2 ^ 31) ∧ (∀ c v, uu_.2.2.2.2.1 c = some v → v < 2 ^ 31)) (fun (uu_ : (Nat → Nat) × (Nat → Bool) × (Nat → Nat) × (Nat → Option Nat) × (Nat → Option Nat) × (Nat → Nat) × (Nat) × (Nat) × (Bool)) => mW a cA st im kp nx uu_.1 uu_.2.1 uu_.2.2.1 uu_.2.2.2.1 uu_.2.2.2.2.1 uu_.2.2.2.2.2.1 uu_.2.2.2.2.2.2.1 uu_.2.2.2.2.2.2.2.1 uu_.2.2.2.2.2.2.2.2) 0 0 := by
  refine mu_int rfl (Nat.le_of_ble_eq_true rfl) ?_
  intro p e s m below meth cd Q ls A hx hb hml hown hts hP hK hN hD hA hl hret
  have hown : s.vm.findClass RX6 = some m.cls := hown
  have hS : va_S A s.heap s.heap [] := va_S.rf
  have hl : lv_has ls 6 [(0, .ref (a 0)), (1, .int m0), (2, .int v), (3, .int w0)] := hl
  have hp2 : 2 ^ st 0 ≤ 1024 := Nat.pow_le_pow_right (n := 2) (by decide) hn10
  refine lv_iload_n hx hb dX6_all_0 rfl (lv_at hl 1 rfl) ?_
  refine lv_iconst (v := (nI 1)) hx hb dX6_all_1 (by decide) ?_
  refine lv_iconst (v := (nI 5)) hx hb dX6_all_2 (by decide) ?_
  refine rm_cS (ls := ls) (As := [.int m0, .int (nI 1), .int (nI 5)]) (rest := []) ⟨hx, hb, hml, hown, hts⟩ (metX6_in l m0 (nI 1) (nI 5) ) (cwX6_in_X6 hts ⟨Nat.le_of_ble_eq_true rfl, Nat.le_of_ble_eq_true rfl⟩) noB rfl hl.1 rfl (Nat.le_of_ble_eq_true rfl) dX6_all_3 ⟨Nat.zero_le _, Nat.zero_le _⟩ ?_
  refine rm_beq (tgt := 33) hx hb dX6_all_6 (by decide) (fun q6 => ?_) (fun q6 => ?_)
  · skip
    refine lv_bipush (v := (-2)) hx hb dX6_all_33 (by decide) ?_
    exact hret _ (li, isl, mv, so, la, cm, ld, us, bl) _ _ 35 ls ⟨⟨fun _ => rfl, fun h => absurd h (by unfold alB; rw [show inI 1 5 m0 = false from q6]; simp)⟩, hmvB, hso, hla⟩ hP hD hS dX6_all_35
  · skip
    refine lv_iload_n hx hb dX6_all_9 rfl (lv_at hl 1 rfl) ?_
    refine lv_aload_n hx hb dX6_all_10 rfl (lv_at hl 0 rfl) ?_
    refine rm_cV (ls := ls) (As := []) (rest := [.int m0]) ⟨hx, hb, hml, hown, hts⟩ (metX6_cells l D cA a st im kp nx li isl mv so la cm ld us bl  ) (cwX6_cells_X6 hts ⟨Nat.le_of_ble_eq_true rfl, Nat.le_of_ble_eq_true rfl⟩) hP hK hN (va_recv hK hP xc5 (q0 := 0) rfl) rfl hl.1 rfl (Nat.le_of_ble_eq_true rfl) dX6_all_11 ⟨Nat.zero_le _, Nat.zero_le _⟩ ?_
    refine lv_icmp_gt (tgt := 33) hx hb dX6_all_14 (by decide) (fun q14 => ?_) (fun q14 => ?_)
    · skip
      refine lv_bipush (v := (-2)) hx hb dX6_all_33 (by decide) ?_
      exact hret _ (li, isl, mv, so, la, cm, ld, us, bl) _ _ 35 ls ⟨⟨fun _ => rfl, fun h => absurd h (by unfold alB; rw [decide_eq_false (Int32.not_le.mpr q14)]; simp)⟩, hmvB, hso, hla⟩ hP hD hS dX6_all_35
    · skip
      refine lv_iload_n hx hb dX6_all_17 rfl (lv_at hl 2 rfl) ?_
      refine rm_cS (ls := ls) (As := [.int v]) (rest := []) ⟨hx, hb, hml, hown, hts⟩ (metX6_isSchedule l v ) (cwX6_isSchedule_X6 hts ⟨Nat.le_of_ble_eq_true rfl, Nat.le_of_ble_eq_true rfl⟩) noB rfl hl.1 rfl (Nat.le_of_ble_eq_true rfl) dX6_all_18 ⟨Nat.zero_le _, Nat.zero_le _⟩ ?_
      refine rm_beq (tgt := 33) hx hb dX6_all_21 (by decide) (fun q21 => ?_) (fun q21 => ?_)
      · skip
        refine lv_bipush (v := (-2)) hx hb dX6_all_33 (by decide) ?_
        exact hret _ (li, isl, mv, so, la, cm, ld, us, bl) _ _ 35 ls ⟨⟨fun _ => rfl, fun h => absurd h (by unfold alB; rw [show inI 0 2 v = false from q21]; simp)⟩, hmvB, hso, hla⟩ hP hD hS dX6_all_35
      · skip
        refine lv_iload_n hx hb dX6_all_24 rfl (lv_at hl 3 rfl) ?_
        refine lv_iconst (v := (nI 0)) hx hb dX6_all_25 (by decide) ?_
        refine lv_iconst (v := (nI 3)) hx hb dX6_all_26 (by decide) ?_
        refine rm_cS (ls := ls) (As := [.int w0, .int (nI 0), .int (nI 3)]) (rest := []) ⟨hx, hb, hml, hown, hts⟩ (metX6_in l w0 (nI 0) (nI 3) ) (cwX6_in_X6 hts ⟨Nat.le_of_ble_eq_true rfl, Nat.le_of_ble_eq_true rfl⟩) noB rfl hl.1 rfl (Nat.le_of_ble_eq_true rfl) dX6_all_27 ⟨Nat.zero_le _, Nat.zero_le _⟩ ?_
        refine rm_bne (tgt := 36) hx hb dX6_all_30 (by decide) (fun q30 => ?_) (fun q30 => ?_)
        · skip
          have hle : m0 ≤ nI (st 0) := Int32.not_lt.mp q14
          have hB : alB (st 0) m0 v w0 = true := by unfold alB; rw [show inI 1 5 m0 = true from q6, decide_eq_true hle, show inI 0 2 v = true from q21, show inI 0 3 w0 = true from q30]; rfl
          obtain ⟨x, hx1, hx5, rfl⟩ := (inI_iff (lo := 1) (hi := 5) (by decide) (by decide)).mp q6
          obtain ⟨k, hk0, hk2, rfl⟩ := (inI_iff (lo := 0) (hi := 2) (by decide) (by decide)).mp q21
          obtain ⟨t, ht0, ht2, rfl⟩ := (inI_iff (lo := 0) (hi := 3) (by decide) (by decide)).mp q30
          have hal0 : alS x 0 = false := decide_eq_false (show ¬ ct 0 10 = x from fun h => absurd (show 0 = x from h) (by omega))
          refine lv_aload_n hx hb dX6_all_36 rfl (lv_at hl 0 rfl) ?_
          refine lv_iconst (v := (bI false)) hx hb dX6_all_37 (by decide) ?_
          refine mu_aVv (ls := ls) (As := [.int (bI false)]) (rest := []) ⟨hx, hb, hml, hown, hts⟩ (metX6_begin l D cA a st im kp nx li isl mv so la cm ld us bl false ) (cwX6_begin_X6 hts ⟨Nat.le_of_ble_eq_true rfl, Nat.le_of_ble_eq_true rfl⟩) hP hD hS hA hK hN (va_recv hK hP xc5 (q0 := 0) rfl) rfl hl.1 rfl (Nat.le_of_ble_eq_true rfl) dX6_all_38 ⟨Nat.zero_le _, Nat.zero_le _⟩ (fun u1 H locs w1 hP hD hS => ?_)
          obtain ⟨isl_1, ld_1, us_1, bl_1⟩ := u1
          try dsimp only at w1
          have hP : va_P D xCl (mW a cA st im kp nx li isl_1 mv so la cm ld_1 us_1 bl_1) H := hP
          have hD : va_D A (mW a cA st im kp nx li isl_1 mv so la cm ld_1 us_1 bl_1) := hD
          obtain ⟨e1a, e1b, e1c, e1d⟩ := w1
          subst e1d
          have hP : va_P D xCl (mW a cA st im kp nx li isl_1 mv so la cm ld_1 us_1 false) H := hP
          have hD : va_D A (mW a cA st im kp nx li isl_1 mv so la cm ld_1 us_1 false) := hD
          refine lv_iconst (v := (nI 1)) hx hb dX6_all_41 (by decide) ?_
          refine lv_istore (lv' := [(4, .int (nI 1)), (0, .ref (a 0)), (1, .int (nI x)), (2, .int (nI k)), (3, .int (nI t))]) hx hb dX6_all_42 hl (by decide) rfl (fun ls hl => ?_)
          have loop44 : ∀ (N : Nat) (S : Nat) (li2 : Nat → Nat) (isl2 : Nat → Bool) (mv2 : Nat → Nat) (ld2 : Nat) (us2 : Nat), 2 ^ (st 0) - S < N → (1 ≤ S) → (S ≤ 2 ^ (st 0)) → (MR (st 0) (st 11) (rS st) false (alL (st 0) x S) li2 isl2 mv2 ld2 us2) → (∀ c, mv2 c < 59049) → ∀ (H : Heap) (locs : List Loc), va_P D xCl (mW a cA st im kp nx li2 isl2 mv2 so la cm ld2 us2 false) H → va_D A (mW a cA st im kp nx li2 isl2 mv2 so la cm ld2 us2 false) → va_S A s.heap H locs → ∀ (ls : Array Slot), lv_has ls 6 [(4, .int (nI S)), (0, .ref (a 0)), (1, .int (nI x)), (2, .int (nI k)), (3, .int (nI t))] → W p l e rmX6_all s m ([.ref (a 0), .int (nI x), .int (nI k), .int (nI t)] : List Value).toArray below meth cd H locs 0 0 Q (F0 m 44 ls []) := by
            intro N
            induction N with
            | zero => intro S li2 isl2 mv2 ld2 us2 hm; exact absurd hm (Nat.not_lt_zero _)
            | succ N ih44 =>
              intro S li2 isl2 mv2 ld2 us2 hm44 i44_0 i44_1 i44_2 i44_3 H locs hP hD hS ls hl
              refine lv_iload hx hb dX6_all_44 (lv_at hl 0 rfl) ?_
              refine lv_iconst (v := (nI 1)) hx hb dX6_all_46 (by decide) ?_
              refine lv_aload_n hx hb dX6_all_47 rfl (lv_at hl 1 rfl) ?_
              refine rm_cV (ls := ls) (As := []) (rest := [.int (nI 1), .int (nI S)]) ⟨hx, hb, hml, hown, hts⟩ (metX6_cells l D cA a st im kp nx li2 isl2 mv2 so la cm ld2 us2 false  ) (cwX6_cells_X6 hts ⟨Nat.le_of_ble_eq_true rfl, Nat.le_of_ble_eq_true rfl⟩) hP hK hN (va_recv hK hP xc5 (q0 := 0) rfl) rfl hl.1 rfl (Nat.le_of_ble_eq_true rfl) dX6_all_48 ⟨Nat.zero_le _, Nat.zero_le _⟩ ?_
              refine rm_ishl1 hx hb dX6_all_51 (by omega) ?_
              refine rm_cge (tgt := 80) hx hb dX6_all_52 (by decide) (by first | omega | exact hst _) (Nat.lt_of_le_of_lt hp2 (by decide)) (fun q52 => ?_) (fun q52 => ?_)
              · skip
                have eS : S = 2 ^ st 0 := by omega
                rw [eS] at i44_2
                have hokL : ∀ c ∈ alL (st 0) x (2 ^ st 0), okc (st 0) c := fun c hc => by obtain ⟨T, hT1, hT2, rfl⟩ := alL_mem.mp hc; exact okc_sgl hn10 (by have := of_decide_eq_true hT2; omega)
                refine lv_aload_n hx hb dX6_all_80 rfl (lv_at hl 1 rfl) ?_
                refine lv_iload_n hx hb dX6_all_81 rfl (lv_at hl 3 rfl) ?_
                refine mu_aVv (ls := ls) (As := [.int (nI k)]) (rest := []) ⟨hx, hb, hml, hown, hts⟩ (metX6_listAll l D cA a st im kp nx li2 isl2 mv2 so la cm ld2 us2 false k (alL (st 0) x (2 ^ (st 0))) (by first | assumption | omega) (by first | assumption | omega) (by first | assumption | omega) (by first | assumption | omega) (by first | assumption | omega) (by omega) i44_2 (alL_nodup (Nat.le_refl _)) hokL i44_3 (by first | assumption | omega) (by first | assumption | omega)) (cwX6_listAll_X6 hts ⟨Nat.le_of_ble_eq_true rfl, Nat.le_of_ble_eq_true rfl⟩) hP hD hS hA hK hN (va_recv hK hP xc5 (q0 := 0) rfl) rfl hl.1 rfl (Nat.le_of_ble_eq_true rfl) dX6_all_82 ⟨Nat.zero_le _, Nat.zero_le _⟩ (fun u2 H locs w2 hP hD hS => ?_)
                obtain ⟨li_2, isl_2, mv_2, so_2, la_2, cm_2, ld_2, us_2⟩ := u2
                try dsimp only at w2
                have hP : va_P D xCl (mW a cA st im kp nx li_2 isl_2 mv_2 so_2 la_2 cm_2 ld_2 us_2 false) H := hP
                have hD : va_D A (mW a cA st im kp nx li_2 isl_2 mv_2 so_2 la_2 cm_2 ld_2 us_2 false) := hD
                obtain ⟨L, hF, hMR, hSP, hLP, hmv5, hso5, hla5⟩ := w2
                refine lv_iconst (v := (nI 0)) hx hb dX6_all_85 (by decide) ?_
                refine lv_istore (lv' := [(4, .int (nI 0)), (0, .ref (a 0)), (1, .int (nI x)), (2, .int (nI k)), (3, .int (nI t))]) hx hb dX6_all_86 hl (by decide) rfl (fun ls hl => ?_)
                refine lv_iconst (v := (nI 1)) hx hb dX6_all_88 (by decide) ?_
                refine lv_istore (lv' := [(5, .int (nI 1)), (4, .int (nI 0)), (0, .ref (a 0)), (1, .int (nI x)), (2, .int (nI k)), (3, .int (nI t))]) hx hb dX6_all_89 hl (by decide) rfl (fun ls hl => ?_)
                have loop91 : ∀ (N : Nat) (S : Nat), 2 ^ (st 0) - S < N → (1 ≤ S) → (S ≤ 2 ^ (st 0)) → ∀ (H : Heap) (locs : List Loc), va_P D xCl (mW a cA st im kp nx li_2 isl_2 mv_2 so_2 la_2 cm_2 ld_2 us_2 false) H → va_D A (mW a cA st im kp nx li_2 isl_2 mv_2 so_2 la_2 cm_2 ld_2 us_2 false) → va_S A s.heap H locs → ∀ (ls : Array Slot), lv_has ls 6 [(5, .int (nI S)), (4, .int (nI (ctP (fun S => alS x S && decide (kd (met (st 0) (sgl (st 0) S)) (la_2 (sgl (st 0) S)) (so_2 (sgl (st 0) S)) = t)) S))), (0, .ref (a 0)), (1, .int (nI x)), (2, .int (nI k)), (3, .int (nI t))] → W p l e rmX6_all s m ([.ref (a 0), .int (nI x), .int (nI k), .int (nI t)] : List Value).toArray below meth cd H locs 0 0 Q (F0 m 91 ls []) := by
                  intro N
                  induction N with
                  | zero => intro S hm; exact absurd hm (Nat.not_lt_zero _)
                  | succ N ih91 =>
                    intro S hm91 i91_0 i91_1 H locs hP hD hS ls hl
                    refine lv_iload hx hb dX6_all_91 (lv_at hl 0 rfl) ?_
                    refine lv_iconst (v := (nI 1)) hx hb dX6_all_93 (by decide) ?_
                    refine lv_aload_n hx hb dX6_all_94 rfl (lv_at hl 2 rfl) ?_
                    refine rm_cV (ls := ls) (As := []) (rest := [.int (nI 1), .int (nI S)]) ⟨hx, hb, hml, hown, hts⟩ (metX6_cells l D cA a st im kp nx li_2 isl_2 mv_2 so_2 la_2 cm_2 ld_2 us_2 false  ) (cwX6_cells_X6 hts ⟨Nat.le_of_ble_eq_true rfl, Nat.le_of_ble_eq_true rfl⟩) hP hK hN (va_recv hK hP xc5 (q0 := 0) rfl) rfl hl.1 rfl (Nat.le_of_ble_eq_true rfl) dX6_all_95 ⟨Nat.zero_le _, Nat.zero_le _⟩ ?_
                    refine rm_ishl1 hx hb dX6_all_98 (by omega) ?_
                    refine rm_cge (tgt := 141) hx hb dX6_all_99 (by decide) (by first | omega | exact hst _) (Nat.lt_of_le_of_lt hp2 (by decide)) (fun q99 => ?_) (fun q99 => ?_)
                    · skip
                      refine lv_iload hx hb dX6_all_141 (lv_at hl 1 rfl) ?_
                      exact hret _ (li_2, isl_2, mv_2, so_2, la_2, cm_2, ld_2, us_2, false) _ _ 143 ls ⟨⟨fun h => absurd (hB.symm.trans h) (by decide), fun _ => by rw [nI_clamp (by omega), nI_clamp (by omega), nI_clamp (by omega)]; exact ⟨L, so_2, la_2, hF, hSP, hLP, by rw [show S = 2 ^ st 0 by omega]⟩⟩, hmv5, hso5, hla5⟩ hP hD hS dX6_all_143
                    · skip
                      have hS4b : S < 1024 := by omega
                      refine lv_iload hx hb dX6_all_102 (lv_at hl 1 rfl) ?_
                      have join132 : ∀ (H : Heap) (locs : List Loc), va_P D xCl (mW a cA st im kp nx li_2 isl_2 mv_2 so_2 la_2 cm_2 ld_2 us_2 false) H → va_D A (mW a cA st im kp nx li_2 isl_2 mv_2 so_2 la_2 cm_2 ld_2 us_2 false) → va_S A s.heap H locs → ∀ (ls : Array Slot), lv_has ls 6 [(5, .int (nI S)), (4, .int (nI (ctP (fun S => alS x S && decide (kd (met (st 0) (sgl (st 0) S)) (la_2 (sgl (st 0) S)) (so_2 (sgl (st 0) S)) = t)) S))), (0, .ref (a 0)), (1, .int (nI x)), (2, .int (nI k)), (3, .int (nI t))] → W p l e rmX6_all s m ([.ref (a 0), .int (nI x), .int (nI k), .int (nI t)] : List Value).toArray below meth cd H locs 0 0 Q (F0 m 132 ls [.int (nI ((alS x S && decide (kd (met (st 0) (sgl (st 0) S)) (la_2 (sgl (st 0) S)) (so_2 (sgl (st 0) S)) = t)).toNat)), .int (nI (ctP (fun S => alS x S && decide (kd (met (st 0) (sgl (st 0) S)) (la_2 (sgl (st 0) S)) (so_2 (sgl (st 0) S)) = t)) S))]) := by
                        intro   H locs hP hD hS ls hl
                        refine rm_iadd hx hb dX6_all_132 ?_
                        refine lv_istore (lv' := [(4, .int (nI ((ctP (fun S => alS x S && decide (kd (met (st 0) (sgl (st 0) S)) (la_2 (sgl (st 0) S)) (so_2 (sgl (st 0) S)) = t)) S) + ((alS x S && decide (kd (met (st 0) (sgl (st 0) S)) (la_2 (sgl (st 0) S)) (so_2 (sgl (st 0) S)) = t)).toNat)))), (5, .int (nI S)), (0, .ref (a 0)), (1, .int (nI x)), (2, .int (nI k)), (3, .int (nI t))]) hx hb dX6_all_133 hl (by decide) rfl (fun ls hl => ?_)
                        refine lv_iinc (v := (nI (S + 1))) (lv' := [(5, .int (nI (S + 1))), (4, .int (nI ((ctP (fun S => alS x S && decide (kd (met (st 0) (sgl (st 0) S)) (la_2 (sgl (st 0) S)) (so_2 (sgl (st 0) S)) = t)) S) + ((alS x S && decide (kd (met (st 0) (sgl (st 0) S)) (la_2 (sgl (st 0) S)) (so_2 (sgl (st 0) S)) = t)).toNat)))), (0, .ref (a 0)), (1, .int (nI x)), (2, .int (nI k)), (3, .int (nI t))]) hx hb dX6_all_135 hl (k := 1) rfl (rm_inc S 1) (by decide) rfl (fun ls hl => ?_)
                        refine lv_goto (tgt := 91) hx hb dX6_all_138 (by decide) ?_
                        exact ih91 (S + 1) (by omega) (by omega) (by omega) _ _ hP hD hS ls hl
                      refine lv_iload hx hb dX6_all_104 (lv_at hl 0 rfl) ?_
                      refine rm_cS (ls := ls) (As := [.int (nI S)]) (rest := [.int (nI (ctP (fun S => alS x S && decide (kd (met (st 0) (sgl (st 0) S)) (la_2 (sgl (st 0) S)) (so_2 (sgl (st 0) S)) = t)) S))]) ⟨hx, hb, hml, hown, hts⟩ (metX6_size l S (by first | assumption | omega)) (cwX6_size_X6 hts ⟨Nat.le_of_ble_eq_true rfl, Nat.le_of_ble_eq_true rfl⟩) noB rfl hl.1 rfl (Nat.le_of_ble_eq_true rfl) dX6_all_106 ⟨Nat.zero_le _, Nat.zero_le _⟩ ?_
                      refine lv_iload_n hx hb dX6_all_109 rfl (lv_at hl 3 rfl) ?_
                      refine rm_cne (tgt := 131) hx hb dX6_all_110 (by decide) (Nat.lt_of_le_of_lt (ct_le S 10) (by decide)) (by first | omega | exact hst _) (fun q110 => ?_) (fun q110 => ?_)
                      · skip
                        refine lv_iconst (v := (nI 0)) hx hb dX6_all_131 (by decide) ?_
                        refine rm_top (y := (nI ((alS x S && decide (kd (met (st 0) (sgl (st 0) S)) (la_2 (sgl (st 0) S)) (so_2 (sgl (st 0) S)) = t)).toNat))) (by rw [show alS x S = false from decide_eq_false q110]; rfl) ?_
                        exact join132   _ _ hP hD hS ls hl
                      · skip
                        have hsg2 := okc_lt hn10 (okc_sgl hn10 (show ct S 10 ≤ 5 by omega))
                        refine lv_aload_n hx hb dX6_all_113 rfl (lv_at hl 2 rfl) ?_
                        refine lv_aload_n hx hb dX6_all_114 rfl (lv_at hl 2 rfl) ?_
                        refine lv_iload hx hb dX6_all_115 (lv_at hl 0 rfl) ?_
                        refine rm_cV (ls := ls) (As := [.int (nI S)]) (rest := [.ref (a 0), .int (nI (ctP (fun S => alS x S && decide (kd (met (st 0) (sgl (st 0) S)) (la_2 (sgl (st 0) S)) (so_2 (sgl (st 0) S)) = t)) S))]) ⟨hx, hb, hml, hown, hts⟩ (metX6_singles l D cA a st im kp nx li_2 isl_2 mv_2 so_2 la_2 cm_2 ld_2 us_2 false S (by first | assumption | omega) (by first | assumption | omega) (by first | assumption | omega)) (cwX6_singles_X6 hts ⟨Nat.le_of_ble_eq_true rfl, Nat.le_of_ble_eq_true rfl⟩) hP hK hN (va_recv hK hP xc5 (q0 := 0) rfl) rfl hl.1 rfl (Nat.le_of_ble_eq_true rfl) dX6_all_117 ⟨Nat.zero_le _, Nat.zero_le _⟩ ?_
                        refine rm_cV (ls := ls) (As := [.int (nI (sgl (st 0) S))]) (rest := [.int (nI (ctP (fun S => alS x S && decide (kd (met (st 0) (sgl (st 0) S)) (la_2 (sgl (st 0) S)) (so_2 (sgl (st 0) S)) = t)) S))]) ⟨hx, hb, hml, hown, hts⟩ (metX6_kindOf l D cA a st im kp nx li_2 isl_2 mv_2 so_2 la_2 cm_2 ld_2 us_2 false (sgl (st 0) S) (by first | assumption | omega) (by first | assumption | omega) hsg2 (hla5 _) (hso5 _)) (cwX6_kindOf_X6 hts ⟨Nat.le_of_ble_eq_true rfl, Nat.le_of_ble_eq_true rfl⟩) hP hK hN (va_recv hK hP xc5 (q0 := 0) rfl) rfl hl.1 rfl (Nat.le_of_ble_eq_true rfl) dX6_all_120 ⟨Nat.zero_le _, Nat.zero_le _⟩ ?_
                        refine lv_iload_n hx hb dX6_all_123 rfl (lv_at hl 5 rfl) ?_
                        refine rm_cne (tgt := 131) hx hb dX6_all_124 (by decide) (by unfold kd; split; decide; split; decide; split <;> decide) (by first | omega | exact hst _) (fun q124 => ?_) (fun q124 => ?_)
                        · skip
                          refine lv_iconst (v := (nI 0)) hx hb dX6_all_131 (by decide) ?_
                          refine rm_top (y := (nI ((alS x S && decide (kd (met (st 0) (sgl (st 0) S)) (la_2 (sgl (st 0) S)) (so_2 (sgl (st 0) S)) = t)).toNat))) (by rw [decide_eq_false q124, Bool.and_false]; rfl) ?_
                          exact join132   _ _ hP hD hS ls hl
                        · skip
                          refine lv_iconst (v := (nI 1)) hx hb dX6_all_127 (by decide) ?_
                          refine lv_goto (tgt := 132) hx hb dX6_all_128 (by decide) ?_
                          refine rm_top (y := (nI ((alS x S && decide (kd (met (st 0) (sgl (st 0) S)) (la_2 (sgl (st 0) S)) (so_2 (sgl (st 0) S)) = t)).toNat))) (by rw [show alS x S = true from decide_eq_true q110, decide_eq_true q124]; rfl) ?_
                          exact join132   _ _ hP hD hS ls hl
                have e0 : nI 0 = nI (ctP (fun S => alS x S && decide (kd (met (st 0) (sgl (st 0) S)) (la_2 (sgl (st 0) S)) (so_2 (sgl (st 0) S)) = t)) 1) := by show nI 0 = nI (0 + (alS x 0 && _).toNat); rw [hal0]; rfl
                rw [e0] at hl
                exact loop91 _ 1 (Nat.lt_succ_self _) (Nat.le_refl 1) (Nat.pow_pos (by decide)) _ _ hP hD hS ls hl
              · skip
                have join74 : ∀ (li4 : Nat → Nat) (isl4 : Nat → Bool) (mv4 : Nat → Nat) (ld4 : Nat) (us4 : Nat), (MR (st 0) (st 11) (rS st) false (alL (st 0) x (S + 1)) li4 isl4 mv4 ld4 us4) → (∀ c, mv4 c < 59049) → ∀ (H : Heap) (locs : List Loc), va_P D xCl (mW a cA st im kp nx li4 isl4 mv4 so la cm ld4 us4 false) H → va_D A (mW a cA st im kp nx li4 isl4 mv4 so la cm ld4 us4 false) → va_S A s.heap H locs → ∀ (ls : Array Slot), lv_has ls 6 [(4, .int (nI S)), (0, .ref (a 0)), (1, .int (nI x)), (2, .int (nI k)), (3, .int (nI t))] → W p l e rmX6_all s m ([.ref (a 0), .int (nI x), .int (nI k), .int (nI t)] : List Value).toArray below meth cd H locs 0 0 Q (F0 m 74 ls []) := by
                  intro li4 isl4 mv4 ld4 us4 i74_0 i74_1 H locs hP hD hS ls hl
                  refine lv_iinc (v := (nI (S + 1))) (lv' := [(4, .int (nI (S + 1))), (0, .ref (a 0)), (1, .int (nI x)), (2, .int (nI k)), (3, .int (nI t))]) hx hb dX6_all_74 hl (k := 0) rfl (rm_inc S 1) (by decide) rfl (fun ls hl => ?_)
                  refine lv_goto (tgt := 44) hx hb dX6_all_77 (by decide) ?_
                  exact ih44 (S + 1) _ _ _ _ _ (by omega) (by omega) (by omega) i74_0 i74_1 _ _ hP hD hS ls hl
                have hS4 : S < 1024 := by omega
                refine lv_iload hx hb dX6_all_55 (lv_at hl 0 rfl) ?_
                refine rm_cS (ls := ls) (As := [.int (nI S)]) (rest := []) ⟨hx, hb, hml, hown, hts⟩ (metX6_size l S (by first | assumption | omega)) (cwX6_size_X6 hts ⟨Nat.le_of_ble_eq_true rfl, Nat.le_of_ble_eq_true rfl⟩) noB rfl hl.1 rfl (Nat.le_of_ble_eq_true rfl) dX6_all_57 ⟨Nat.zero_le _, Nat.zero_le _⟩ ?_
                refine lv_iload_n hx hb dX6_all_60 rfl (lv_at hl 2 rfl) ?_
                refine rm_cne (tgt := 74) hx hb dX6_all_61 (by decide) (Nat.lt_of_le_of_lt (ct_le S 10) (by decide)) (by first | omega | exact hst _) (fun q61 => ?_) (fun q61 => ?_)
                · skip
                  exact join74 _ _ _ _ _ (by rw [alL_skip (show alS x S = false from decide_eq_false q61)]; exact i44_2) i44_3 _ _ hP hD hS ls hl
                · skip
                  have hal : alS x S = true := decide_eq_true q61
                  have hokL : ∀ c ∈ alL (st 0) x S, okc (st 0) c := fun c hc => by obtain ⟨T, hT1, hT2, rfl⟩ := alL_mem.mp hc; exact okc_sgl hn10 (by have := of_decide_eq_true hT2; omega)
                  have hlL := okc_len hn10 (alL_nodup (n := st 0) (m := x) (B := S) (by omega)) hokL
                  have hldL := i44_2.1
                  have hsg := okc_sgl hn10 (show ct S 10 ≤ 5 by omega)
                  refine lv_aload_n hx hb dX6_all_64 rfl (lv_at hl 1 rfl) ?_
                  refine lv_aload_n hx hb dX6_all_65 rfl (lv_at hl 1 rfl) ?_
                  refine lv_iload hx hb dX6_all_66 (lv_at hl 0 rfl) ?_
                  refine rm_cV (ls := ls) (As := [.int (nI S)]) (rest := [.ref (a 0)]) ⟨hx, hb, hml, hown, hts⟩ (metX6_singles l D cA a st im kp nx li2 isl2 mv2 so la cm ld2 us2 false S (by first | assumption | omega) (by first | assumption | omega) (by first | assumption | omega)) (cwX6_singles_X6 hts ⟨Nat.le_of_ble_eq_true rfl, Nat.le_of_ble_eq_true rfl⟩) hP hK hN (va_recv hK hP xc5 (q0 := 0) rfl) rfl hl.1 rfl (Nat.le_of_ble_eq_true rfl) dX6_all_68 ⟨Nat.zero_le _, Nat.zero_le _⟩ ?_
                  refine mu_aVv (ls := ls) (As := [.int (nI (sgl (st 0) S))]) (rest := []) ⟨hx, hb, hml, hown, hts⟩ (metX6_note l D cA a st im kp nx li2 isl2 mv2 so la cm ld2 us2 false (sgl (st 0) S) (by first | assumption | omega) (by first | assumption | omega) (by first | assumption | omega) (by first | assumption | omega) (by first | assumption | omega) (okc_lt hn10 hsg) (by omega)) (cwX6_note_X6 hts ⟨Nat.le_of_ble_eq_true rfl, Nat.le_of_ble_eq_true rfl⟩) hP hD hS hA hK hN (va_recv hK hP xc5 (q0 := 0) rfl) rfl hl.1 rfl (Nat.le_of_ble_eq_true rfl) dX6_all_71 ⟨Nat.zero_le _, Nat.zero_le _⟩ (fun u3 H locs w3 hP hD hS => ?_)
                  obtain ⟨isl_3, li_3, mv_3, ld_3, us_3⟩ := u3
                  try dsimp only at w3
                  have hP : va_P D xCl (mW a cA st im kp nx li_3 isl_3 mv_3 so la cm ld_3 us_3 false) H := hP
                  have hD : va_D A (mW a cA st im kp nx li_3 isl_3 mv_3 so la cm ld_3 us_3 false) := hD
                  have hMR5 := MR_note i44_2 (okc_lt hn10 hsg) w3.1 w3.2
                  rw [alL_note (by omega) hal] at hMR5
                  have hmv5 := note_mv hn10 i44_3 w3.1 w3.2
                  exact join74 _ _ _ _ _ hMR5 hmv5 _ _ hP hD hS ls hl
          exact loop44 _ 1 _ _ _ _ _ (Nat.lt_succ_self _) (Nat.le_refl 1) (Nat.pow_pos (by decide)) (by rw [e1b, e1c, show alL (st 0) x 1 = [] from alL_skip (n := st 0) (B := 0) hal0]; exact MR_nil e1a) hmvB _ _ hP hD hS ls hl
        · skip
          refine lv_bipush (v := (-2)) hx hb dX6_all_33 (by decide) ?_
          exact hret _ (li, isl, mv, so, la, cm, ld, us, bl) _ _ 35 ls ⟨⟨fun _ => rfl, fun h => absurd h (by unfold alB; rw [show inI 0 3 w0 = false from q30]; simp)⟩, hmvB, hso, hla⟩ hP hD hS dX6_all_35
theorem cwX6_all_L {R : Room} {s : State} {args : Array Value} (hts : ∀ w ∈ lw_all, w.before args s = true) (hR : (rmX6_all).frames + 1 ≤ R.frames ∧ 8 + (6 + 11) + (rmX6_all).locals ≤ R.locals) : CallW R s args "RingMeetsLaw" RX6 76 yX6_all cX6_all 6 (some .int) (ws_ yX6_all cX6_all 6 (some .int)) rmX6_all 0 0 3 := cwV 3 hts (lw_V q882 q883 q884 q63 q885) rfl rfl rfl (by decide +kernel) hR
