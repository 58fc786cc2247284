set_option maxRecDepth 100000

/-- the reference's cells: the object, its arrays -/
def mW (a : Nat → Nat) (cA : Nat → ClassId) (st im : Nat → Nat) (kp : Nat → Bool) (nx li : Nat → Nat) (isl : Nat → Bool) (mv : Nat → Nat) (so la : Nat → Option Nat) (cm : Nat → Nat) (ld us : Nat) (bl : Bool) : va_W :=
  [(a 0, .inr (5, [.ref (a 1), .ref (a 2), .ref (a 3), .ref (a 4), .ref (a 5), .ref (a 6), .int (nI ld), .ref (a 7), .ref (a 8), .ref (a 9), .ref (a 10), .int (nI us), .int (bI bl), .ref (a 11)])),
   (a 1, .inl (cA 0, 72, .inl (nA st))), (a 2, .inl (cA 0, 144, .inl (nA im))), (a 3, .inl (cA 1, 2, .inl (bA kp))), (a 4, .inl (cA 0, 11, .inl (nA p3))), (a 5, .inl (cA 0, 10, .inl (nA nx))), (a 6, .inl (cA 0, 59049, .inl (nA li))), (a 7, .inl (cA 1, 59049, .inl (bA isl))), (a 8, .inl (cA 0, 59049, .inl (nA mv))), (a 9, .inl (cA 0, 59049, .inl (oA so))), (a 10, .inl (cA 0, 59049, .inl (oA la))), (a 11, .inl (cA 0, 10, .inl (nA cm)))]
abbrev rmX6_in : Room := { frames := 0, cells := 0, slots := 0, locals := 0 }
set_option maxHeartbeats 4000000 in
theorem metX6_in (l : Launch) (v lo hi : Int32)  : RO l yX6_in cX6_in 3 (some .boolean) rmX6_in [.int v, .int lo, .int hi] (fun _ => True) (bI (decide (lo ≤ v) && decide (v ≤ hi))) := by
  refine ro_bool rfl (Nat.le_of_ble_eq_true rfl) ?_
  intro p e s m below meth cd Q ls hx hb hml hown hts hB hl hret
  have hown : s.vm.findClass RX6 = some m.cls := hown
  have hl : lv_has ls 3 [(0, .int v), (1, .int lo), (2, .int hi)] := hl
  refine lv_iload_n hx hb dX6_in_0 rfl (lv_at hl 0 rfl) ?_
  refine lv_iload_n hx hb dX6_in_1 rfl (lv_at hl 1 rfl) ?_
  refine lv_icmp_lt (tgt := 14) hx hb dX6_in_2 (by decide) (fun q2 => ?_) (fun q2 => ?_)
  · skip
    refine lv_iconst (v := (nI 0)) hx hb dX6_in_14 (by decide) ?_
    exact hret _ 15 ls (by rw [decide_eq_false (Int32.not_le.mpr q2)]; rfl) dX6_in_15
  · skip
    refine lv_iload_n hx hb dX6_in_5 rfl (lv_at hl 0 rfl) ?_
    refine lv_iload_n hx hb dX6_in_6 rfl (lv_at hl 2 rfl) ?_
    refine lv_icmp_gt (tgt := 14) hx hb dX6_in_7 (by decide) (fun q7 => ?_) (fun q7 => ?_)
    · skip
      refine lv_iconst (v := (nI 0)) hx hb dX6_in_14 (by decide) ?_
      exact hret _ 15 ls (by rw [decide_eq_false (Int32.not_le.mpr q7), Bool.and_false]; rfl) dX6_in_15
    · skip
      refine lv_iconst (v := (nI 1)) hx hb dX6_in_10 (by decide) ?_
      refine lv_goto (tgt := 15) hx hb dX6_in_11 (by decide) ?_
      exact hret _ 15 ls (by rw [decide_eq_true (Int32.not_lt.mp q2), decide_eq_true (Int32.not_lt.mp q7)]; rfl) dX6_in_15
theorem cwX6_in_X6 {R : Room} {s : State} {args : Array Value} (hts : ∀ w ∈ lw_all, w.before args s = true) (hR : (rmX6_in).frames + 1 ≤ R.frames ∧ 8 + (3 + 11) + (rmX6_in).locals ≤ R.locals) : CallB R s args RX6 49 yX6_in cX6_in 3 (some .boolean) (ws_ yX6_in cX6_in 3 (some .boolean)) rmX6_in 0 0 3 ∧ (Cond.static yX6_in).before args s = true := va_cwS 3 hts (lw_S q687 q688 q63 q689) rfl rfl rfl (by decide +kernel) hR
abbrev rmX6_cells : Room := { frames := 0, cells := 0, slots := 0, locals := 0 }
set_option maxHeartbeats 4000000 in
theorem metX6_cells (l : Launch) (D : va_G) (cA : Nat → ClassId) (a : Nat → Nat) (st im : Nat → Nat) (kp : Nat → Bool) (nx li : Nat → Nat) (isl : Nat → Bool) (mv : Nat → Nat) (so la : Nat → Option Nat) (cm : Nat → Nat) (ld us : Nat) (bl : Bool)   : RO l yX6_cells cX6_cells 1 (some .int) rmX6_cells [.ref (a 0)] (wB D cA (mW a cA st im kp nx li isl mv so la cm ld us bl)) ((nI (st 0))) := by
  refine ro_int rfl (Nat.le_of_ble_eq_true rfl) ?_
  intro p e s m below meth cd Q ls hx hb hml hown hts hB hl hret
  obtain ⟨hP, hK, hN⟩ := hB
  have hown : s.vm.findClass RX6 = some m.cls := hown
  have hl : lv_has ls 1 [(0, .ref (a 0))] := hl
  refine lv_aload_n hx hb dX6_cells_0 rfl (lv_at hl 0 rfl) ?_
  refine va_get (D := D) (ci := 5) (v := .ref (a 1)) (C := RX6) (T := TX6) (N := 14) hx hb hts in_X6 hown hK hP 0 rfl xc5 0 (by decide) (hts _ q640) (fun _ h9 => h9) rfl dX6_cells_1 ?_
  refine lv_iconst (v := (nI 0)) hx hb dX6_cells_4 (by decide) ?_
  refine rm_nld hx hb hK hP 1 rfl (by omega) (by decide) dX6_cells_5 ?_
  exact hret _ 6 ls rfl dX6_cells_6
theorem cwX6_cells_X6 {R : Room} {s : State} {args : Array Value} (hts : ∀ w ∈ lw_all, w.before args s = true) (hR : (rmX6_cells).frames + 1 ≤ R.frames ∧ 8 + (1 + 11) + (rmX6_cells).locals ≤ R.locals) : CallW R s args RX6 RX6 45 yX6_cells cX6_cells 1 (some .int) (ws_ yX6_cells cX6_cells 1 (some .int)) rmX6_cells 0 0 0 := cwV 0 hts (lw_V q690 q692 qs22 q63 q693) rfl rfl rfl (by decide +kernel) hR
abbrev rmX6_isCell : Room := { frames := 1, cells := 0, slots := 0, locals := 22 }
set_option maxHeartbeats 4000000 in
theorem metX6_isCell (l : Launch) (D : va_G) (cA : Nat → ClassId) (a : Nat → Nat) (st im : Nat → Nat) (kp : Nat → Bool) (nx li : Nat → Nat) (isl : Nat → Bool) (mv : Nat → Nat) (so la : Nat → Option Nat) (cm : Nat → Nat) (ld us : Nat) (bl : Bool) (v : Int32) (hn3 : 3 ≤ st 0) (hn10 : st 0 ≤ 10) : RO l yX6_isCell cX6_isCell 2 (some .boolean) rmX6_isCell [.ref (a 0), .int v] (wB D cA (mW a cA st im kp nx li isl mv so la cm ld us bl)) (bI (inL (st 0) v)) := by
  refine ro_bool rfl (Nat.le_of_ble_eq_true rfl) ?_
  intro p e s m below meth cd Q ls hx hb hml hown hts hB hl hret
  obtain ⟨hP, hK, hN⟩ := hB
  have hown : s.vm.findClass RX6 = some m.cls := hown
  have hl : lv_has ls 2 [(0, .ref (a 0)), (1, .int v)] := hl
  refine lv_iload_n hx hb dX6_isCell_0 rfl (lv_at hl 1 rfl) ?_
  refine lv_iconst (v := (nI 0)) hx hb dX6_isCell_1 (by decide) ?_
  refine lv_aload_n hx hb dX6_isCell_2 rfl (lv_at hl 0 rfl) ?_
  refine rm_cV (ls := ls) (As := []) (rest := [.int (nI 0), .int v]) ⟨hx, hb, hml, hown, hts⟩ (metX6_cells l D cA a st im kp nx li isl mv so la cm ld us bl  ) (cwX6_cells_X6 hts ⟨Nat.le_of_ble_eq_true rfl, Nat.le_of_ble_eq_true rfl⟩) hP hK hN (va_recv hK hP xc5 (q0 := 0) rfl) rfl hl.1 rfl (Nat.le_of_ble_eq_true rfl) dX6_isCell_3 ⟨Nat.zero_le _, Nat.zero_le _⟩ ?_
  refine lv_iconst (v := (nI 1)) hx hb dX6_isCell_6 (by decide) ?_
  refine lv_isub hx hb dX6_isCell_7 ?_
  refine rm_cS (ls := ls) (As := [.int v, .int (nI 0), .int ((nI (st 0)) - (nI 1))]) (rest := []) ⟨hx, hb, hml, hown, hts⟩ (metX6_in l v (nI 0) ((nI (st 0)) - (nI 1)) ) (cwX6_in_X6 hts ⟨Nat.le_of_ble_eq_true rfl, Nat.le_of_ble_eq_true rfl⟩) noB rfl hl.1 rfl (Nat.le_of_ble_eq_true rfl) dX6_isCell_8 ⟨Nat.zero_le _, Nat.zero_le _⟩ ?_
  exact hret _ 11 ls (by rw [inL_raw (by omega)]) dX6_isCell_11
theorem cwX6_isCell_X6 {R : Room} {s : State} {args : Array Value} (hts : ∀ w ∈ lw_all, w.before args s = true) (hR : (rmX6_isCell).frames + 1 ≤ R.frames ∧ 8 + (2 + 11) + (rmX6_isCell).locals ≤ R.locals) : CallW R s args RX6 RX6 53 yX6_isCell cX6_isCell 2 (some .boolean) (ws_ yX6_isCell cX6_isCell 2 (some .boolean)) rmX6_isCell 0 0 1 := cwV 1 hts (lw_V q698 q700 qs23 q63 q701) rfl rfl rfl (by decide +kernel) hR
abbrev rmX6_isStand : Room := { frames := 2, cells := 0, slots := 0, locals := 43 }
set_option maxHeartbeats 4000000 in
theorem metX6_isStand (l : Launch) (D : va_G) (cA : Nat → ClassId) (a : Nat → Nat) (st im : Nat → Nat) (kp : Nat → Bool) (nx li : Nat → Nat) (isl : Nat → Bool) (mv : Nat → Nat) (so la : Nat → Option Nat) (cm : Nat → Nat) (ld us : Nat) (bl : Bool) (v : Int32) (hn3 : 3 ≤ st 0) (hn10 : st 0 ≤ 10) (hst : ∀ j, st j < 2 ^ 31) : RO l yX6_isStand cX6_isStand 2 (some .boolean) rmX6_isStand [.ref (a 0), .int v] (wB D cA (mW a cA st im kp nx li isl mv so la cm ld us bl)) (bI (isSt (st 0) (fun c => st (1 + c)) v)) := by
  refine ro_bool rfl (Nat.le_of_ble_eq_true rfl) ?_
  intro p e s m below meth cd Q ls hx hb hml hown hts hB hl hret
  obtain ⟨hP, hK, hN⟩ := hB
  have hown : s.vm.findClass RX6 = some m.cls := hown
  have hl : lv_has ls 2 [(0, .ref (a 0)), (1, .int v)] := hl
  refine lv_aload_n hx hb dX6_isStand_0 rfl (lv_at hl 0 rfl) ?_
  refine lv_iload_n hx hb dX6_isStand_1 rfl (lv_at hl 1 rfl) ?_
  refine rm_cV (ls := ls) (As := [.int v]) (rest := []) ⟨hx, hb, hml, hown, hts⟩ (metX6_isCell l D cA a st im kp nx li isl mv so la cm ld us bl v (by first | assumption | omega) (by first | assumption | omega)) (cwX6_isCell_X6 hts ⟨Nat.le_of_ble_eq_true rfl, Nat.le_of_ble_eq_true rfl⟩) hP hK hN (va_recv hK hP xc5 (q0 := 0) rfl) rfl hl.1 rfl (Nat.le_of_ble_eq_true rfl) dX6_isStand_2 ⟨Nat.zero_le _, Nat.zero_le _⟩ ?_
  refine rm_beq (tgt := 23) hx hb dX6_isStand_5 (by decide) (fun q5 => ?_) (fun q5 => ?_)
  · skip
    refine lv_iconst (v := (nI 0)) hx hb dX6_isStand_23 (by decide) ?_
    exact hret _ 24 ls (by unfold isSt; rw [q5]; rfl) dX6_isStand_24
  · skip
    obtain ⟨j, hj, rfl⟩ := (inL_iff (by omega)).mp q5
    refine lv_aload_n hx hb dX6_isStand_8 rfl (lv_at hl 0 rfl) ?_
    refine va_get (D := D) (ci := 5) (v := .ref (a 1)) (C := RX6) (T := TX6) (N := 14) hx hb hts in_X6 hown hK hP 0 rfl xc5 0 (by decide) (hts _ q640) (fun _ h9 => h9) rfl dX6_isStand_9 ?_
    refine lv_iconst (v := (nI 1)) hx hb dX6_isStand_12 (by decide) ?_
    refine lv_iload_n hx hb dX6_isStand_13 rfl (lv_at hl 1 rfl) ?_
    refine rm_iadd hx hb dX6_isStand_14 ?_
    refine rm_nld hx hb hK hP 1 rfl (by omega) (by decide) dX6_isStand_15 ?_
    refine rm_ile (tgt := 23) hx hb dX6_isStand_16 (by decide) (by first | omega | exact hst _) (fun q16 => ?_) (fun q16 => ?_)
    · skip
      refine lv_iconst (v := (nI 0)) hx hb dX6_isStand_23 (by decide) ?_
      exact hret _ 24 ls (by unfold isSt; rw [nI_clamp (by omega), decide_eq_false (show ¬ 0 < st (1 + j) by omega), Bool.and_false]; rfl) dX6_isStand_24
    · skip
      refine lv_iconst (v := (nI 1)) hx hb dX6_isStand_19 (by decide) ?_
      refine lv_goto (tgt := 24) hx hb dX6_isStand_20 (by decide) ?_
      exact hret _ 24 ls (by unfold isSt; rw [nI_clamp (by omega), q5, decide_eq_true q16]; rfl) dX6_isStand_24
theorem cwX6_isStand_X6 {R : Room} {s : State} {args : Array Value} (hts : ∀ w ∈ lw_all, w.before args s = true) (hR : (rmX6_isStand).frames + 1 ≤ R.frames ∧ 8 + (2 + 11) + (rmX6_isStand).locals ≤ R.locals) : CallW R s args RX6 RX6 80 yX6_isStand cX6_isStand 2 (some .boolean) (ws_ yX6_isStand cX6_isStand 2 (some .boolean)) rmX6_isStand 0 0 1 := cwV 1 hts (lw_V q710 q712 qs25 q63 q713) rfl rfl rfl (by decide +kernel) hR
abbrev rmX6_isRule : Room := { frames := 1, cells := 0, slots := 0, locals := 22 }
set_option maxHeartbeats 4000000 in
theorem metX6_isRule (l : Launch) (D : va_G) (cA : Nat → ClassId) (a : Nat → Nat) (st im : Nat → Nat) (kp : Nat → Bool) (nx li : Nat → Nat) (isl : Nat → Bool) (mv : Nat → Nat) (so la : Nat → Option Nat) (cm : Nat → Nat) (ld us : Nat) (bl : Bool) (v : Int32) (hm : st 11 ≤ 10) : RO l yX6_isRule cX6_isRule 2 (some .boolean) rmX6_isRule [.ref (a 0), .int v] (wB D cA (mW a cA st im kp nx li isl mv so la cm ld us bl)) (bI (inL (st 11) v)) := by
  refine ro_bool rfl (Nat.le_of_ble_eq_true rfl) ?_
  intro p e s m below meth cd Q ls hx hb hml hown hts hB hl hret
  obtain ⟨hP, hK, hN⟩ := hB
  have hown : s.vm.findClass RX6 = some m.cls := hown
  have hl : lv_has ls 2 [(0, .ref (a 0)), (1, .int v)] := hl
  refine lv_iload_n hx hb dX6_isRule_0 rfl (lv_at hl 1 rfl) ?_
  refine lv_iconst (v := (nI 0)) hx hb dX6_isRule_1 (by decide) ?_
  refine lv_aload_n hx hb dX6_isRule_2 rfl (lv_at hl 0 rfl) ?_
  refine va_get (D := D) (ci := 5) (v := .ref (a 1)) (C := RX6) (T := TX6) (N := 14) hx hb hts in_X6 hown hK hP 0 rfl xc5 0 (by decide) (hts _ q640) (fun _ h9 => h9) rfl dX6_isRule_3 ?_
  refine lv_bipush (v := (nI 11)) hx hb dX6_isRule_6 (by decide) ?_
  refine rm_nld hx hb hK hP 1 rfl (by omega) (by decide) dX6_isRule_8 ?_
  refine lv_iconst (v := (nI 1)) hx hb dX6_isRule_9 (by decide) ?_
  refine lv_isub hx hb dX6_isRule_10 ?_
  refine rm_cS (ls := ls) (As := [.int v, .int (nI 0), .int ((nI (st 11)) - (nI 1))]) (rest := []) ⟨hx, hb, hml, hown, hts⟩ (metX6_in l v (nI 0) ((nI (st 11)) - (nI 1)) ) (cwX6_in_X6 hts ⟨Nat.le_of_ble_eq_true rfl, Nat.le_of_ble_eq_true rfl⟩) noB rfl hl.1 rfl (Nat.le_of_ble_eq_true rfl) dX6_isRule_11 ⟨Nat.zero_le _, Nat.zero_le _⟩ ?_
  exact hret _ 14 ls (by rw [inL_raw (by omega)]) dX6_isRule_14
theorem cwX6_isRule_X6 {R : Room} {s : State} {args : Array Value} (hts : ∀ w ∈ lw_all, w.before args s = true) (hR : (rmX6_isRule).frames + 1 ≤ R.frames ∧ 8 + (2 + 11) + (rmX6_isRule).locals ≤ R.locals) : CallW R s args RX6 RX6 111 yX6_isRule cX6_isRule 2 (some .boolean) (ws_ yX6_isRule cX6_isRule 2 (some .boolean)) rmX6_isRule 0 0 1 := cwV 1 hts (lw_V q780 q782 qs38 q63 q783) rfl rfl rfl (by decide +kernel) hR
abbrev rmX6_isSchedule : Room := { frames := 1, cells := 0, slots := 0, locals := 22 }
set_option maxHeartbeats 4000000 in
theorem metX6_isSchedule (l : Launch) (v : Int32)  : RO l yX6_isSchedule cX6_isSchedule 1 (some .boolean) rmX6_isSchedule [.int v] (fun _ => True) (bI (inI 0 2 v)) := by
  refine ro_bool rfl (Nat.le_of_ble_eq_true rfl) ?_
  intro p e s m below meth cd Q ls hx hb hml hown hts hB hl hret
  have hown : s.vm.findClass RX6 = some m.cls := hown
  have hl : lv_has ls 1 [(0, .int v)] := hl
  refine lv_iload_n hx hb dX6_isSchedule_0 rfl (lv_at hl 0 rfl) ?_
  refine lv_iconst (v := (nI 0)) hx hb dX6_isSchedule_1 (by decide) ?_
  refine lv_iconst (v := (nI 2)) hx hb dX6_isSchedule_2 (by decide) ?_
  refine rm_cS (ls := ls) (As := [.int v, .int (nI 0), .int (nI 2)]) (rest := []) ⟨hx, hb, hml, hown, hts⟩ (metX6_in l v (nI 0) (nI 2) ) (cwX6_in_X6 hts ⟨Nat.le_of_ble_eq_true rfl, Nat.le_of_ble_eq_true rfl⟩) noB rfl hl.1 rfl (Nat.le_of_ble_eq_true rfl) dX6_isSchedule_3 ⟨Nat.zero_le _, Nat.zero_le _⟩ ?_
  exact hret _ 6 ls rfl dX6_isSchedule_6
theorem cwX6_isSchedule_X6 {R : Room} {s : State} {args : Array Value} (hts : ∀ w ∈ lw_all, w.before args s = true) (hR : (rmX6_isSchedule).frames + 1 ≤ R.frames ∧ 8 + (1 + 11) + (rmX6_isSchedule).locals ≤ R.locals) : CallB R s args RX6 168 yX6_isSchedule cX6_isSchedule 1 (some .boolean) (ws_ yX6_isSchedule cX6_isSchedule 1 (some .boolean)) rmX6_isSchedule 0 0 1 ∧ (Cond.static yX6_isSchedule).before args s = true := va_cwS 1 hts (lw_S q820 q821 q63 q822) rfl rfl rfl (by decide +kernel) hR
abbrev rmX6_walkers : Room := { frames := 0, cells := 0, slots := 0, locals := 0 }
set_option maxHeartbeats 4000000 in
theorem metX6_walkers (l : Launch) (D : va_G) (cA : Nat → ClassId) (a : Nat → Nat) (st im : Nat → Nat) (kp : Nat → Bool) (nx li : Nat → Nat) (isl : Nat → Bool) (mv : Nat → Nat) (so la : Nat → Option Nat) (cm : Nat → Nat) (ld us : Nat) (bl : Bool)  (hst : ∀ j, st j < 2 ^ 31) : RO l yX6_walkers cX6_walkers 3 (some .int) rmX6_walkers [.ref (a 0)] (wB D cA (mW a cA st im kp nx li isl mv so la cm ld us bl)) ((nI (sm (fun c => st (1 + c)) 10))) := by
  refine ro_int rfl (Nat.le_of_ble_eq_true rfl) ?_
  intro p e s m below meth cd Q ls hx hb hml hown hts hB hl hret
  obtain ⟨hP, hK, hN⟩ := hB
  have hown : s.vm.findClass RX6 = some m.cls := hown
  have hl : lv_has ls 3 [(0, .ref (a 0))] := hl
  refine lv_iconst (v := (nI 0)) hx hb dX6_walkers_0 (by decide) ?_
  refine lv_istore_n (lv' := [(1, .int (nI 0)), (0, .ref (a 0))]) hx hb dX6_walkers_1 rfl hl (by decide) rfl (fun ls hl => ?_)
  refine lv_iconst (v := (nI 0)) hx hb dX6_walkers_2 (by decide) ?_
  refine lv_istore_n (lv' := [(2, .int (nI 0)), (1, .int (nI 0)), (0, .ref (a 0))]) hx hb dX6_walkers_3 rfl hl (by decide) rfl (fun ls hl => ?_)
  have loop4 : ∀ (N : Nat) (c : Nat), 10 - c < N → (c ≤ 10) → ∀ (ls : Array Slot), lv_has ls 3 [(2, .int (nI c)), (1, .int (nI (sm (fun c => st (1 + c)) c))), (0, .ref (a 0))] → W p l e rmX6_walkers s m ([.ref (a 0)] : List Value).toArray below meth cd s.heap [] 0 0 Q (F0 m 4 ls []) := by
    intro N
    induction N with
    | zero => intro c hm; exact absurd hm (Nat.not_lt_zero _)
    | succ N ih4 =>
      intro c hm4 i4_0 ls hl
      refine lv_iload_n hx hb dX6_walkers_4 rfl (lv_at hl 0 rfl) ?_
      refine lv_bipush (v := (nI 10)) hx hb dX6_walkers_5 (by decide) ?_
      refine rm_cge (tgt := 27) hx hb dX6_walkers_7 (by decide) (by omega) (by decide) (fun q7 => ?_) (fun q7 => ?_)
      · skip
        refine lv_iload_n hx hb dX6_walkers_27 rfl (lv_at hl 1 rfl) ?_
        exact hret _ 28 ls (by rw [show c = 10 by omega]) dX6_walkers_28
      · skip
        refine lv_iload_n hx hb dX6_walkers_10 rfl (lv_at hl 1 rfl) ?_
        refine lv_aload_n hx hb dX6_walkers_11 rfl (lv_at hl 2 rfl) ?_
        refine va_get (D := D) (ci := 5) (v := .ref (a 1)) (C := RX6) (T := TX6) (N := 14) hx hb hts in_X6 hown hK hP 0 rfl xc5 0 (by decide) (hts _ q640) (fun _ h9 => h9) rfl dX6_walkers_12 ?_
        refine lv_iconst (v := (nI 1)) hx hb dX6_walkers_15 (by decide) ?_
        refine lv_iload_n hx hb dX6_walkers_16 rfl (lv_at hl 0 rfl) ?_
        refine rm_iadd hx hb dX6_walkers_17 ?_
        refine rm_nld hx hb hK hP 1 rfl (by omega) (by decide) dX6_walkers_18 ?_
        refine rm_iadd hx hb dX6_walkers_19 ?_
        refine lv_istore_n (lv' := [(1, .int (nI ((sm (fun c => st (1 + c)) c) + (st (1 + c))))), (2, .int (nI c)), (0, .ref (a 0))]) hx hb dX6_walkers_20 rfl hl (by decide) rfl (fun ls hl => ?_)
        refine lv_iinc (v := (nI (c + 1))) (lv' := [(2, .int (nI (c + 1))), (1, .int (nI ((sm (fun c => st (1 + c)) c) + (st (1 + c))))), (0, .ref (a 0))]) hx hb dX6_walkers_21 hl (k := 1) rfl (rm_inc c 1) (by decide) rfl (fun ls hl => ?_)
        refine lv_goto (tgt := 4) hx hb dX6_walkers_24 (by decide) ?_
        exact ih4 (c + 1) (by omega) (by omega) ls hl
  exact loop4 _ 0 (Nat.lt_succ_self _) (by omega) ls hl
theorem cwX6_walkers_X6 {R : Room} {s : State} {args : Array Value} (hts : ∀ w ∈ lw_all, w.before args s = true) (hR : (rmX6_walkers).frames + 1 ≤ R.frames ∧ 8 + (3 + 11) + (rmX6_walkers).locals ≤ R.locals) : CallW R s args RX6 RX6 57 yX6_walkers cX6_walkers 3 (some .int) (ws_ yX6_walkers cX6_walkers 3 (some .int)) rmX6_walkers 0 0 0 := cwV 0 hts (lw_V q702 q704 qs24 q63 q705) rfl rfl rfl (by decide +kernel) hR
abbrev rmX6_size : Room := { frames := 0, cells := 0, slots := 0, locals := 0 }
set_option maxHeartbeats 4000000 in
theorem metX6_size (l : Launch) (S : Nat) (hS : S < 1024) : RO l yX6_size cX6_size 3 (some .int) rmX6_size [.int (nI S)] (fun _ => True) ((nI (ct S 10))) := by
  refine ro_int rfl (Nat.le_of_ble_eq_true rfl) ?_
  intro p e s m below meth cd Q ls hx hb hml hown hts hB hl hret
  have hown : s.vm.findClass RX6 = some m.cls := hown
  have hl : lv_has ls 3 [(0, .int (nI S))] := hl
  refine lv_iconst (v := (nI 0)) hx hb dX6_size_0 (by decide) ?_
  refine lv_istore_n (lv' := [(1, .int (nI 0)), (0, .int (nI S))]) hx hb dX6_size_1 rfl hl (by decide) rfl (fun ls hl => ?_)
  refine lv_iconst (v := (nI 0)) hx hb dX6_size_2 (by decide) ?_
  refine lv_istore_n (lv' := [(2, .int (nI 0)), (1, .int (nI 0)), (0, .int (nI S))]) hx hb dX6_size_3 rfl hl (by decide) rfl (fun ls hl => ?_)
  have loop4 : ∀ (N : Nat) (c : Nat), 10 - c < N → (c ≤ 10) → ∀ (ls : Array Slot), lv_has ls 3 [(2, .int (nI c)), (1, .int (nI (ct S c))), (0, .int (nI S))] → W p l e rmX6_size s m ([.int (nI S)] : List Value).toArray below meth cd s.heap [] 0 0 Q (F0 m 4 ls []) := by
    intro N
    induction N with
    | zero => intro c hm; exact absurd hm (Nat.not_lt_zero _)
    | succ N ih4 =>
      intro c hm4 i4_0 ls hl
      refine lv_iload_n hx hb dX6_size_4 rfl (lv_at hl 0 rfl) ?_
      refine lv_bipush (v := (nI 10)) hx hb dX6_size_5 (by decide) ?_
      refine rm_cge (tgt := 24) hx hb dX6_size_7 (by decide) (by omega) (by decide) (fun q7 => ?_) (fun q7 => ?_)
      · skip
        refine lv_iload_n hx hb dX6_size_24 rfl (lv_at hl 1 rfl) ?_
        exact hret _ 25 ls (by rw [show c = 10 by omega]) dX6_size_25
      · skip
        refine lv_iload_n hx hb dX6_size_10 rfl (lv_at hl 1 rfl) ?_
        refine lv_iload_n hx hb dX6_size_11 rfl (lv_at hl 2 rfl) ?_
        refine lv_iload_n hx hb dX6_size_12 rfl (lv_at hl 0 rfl) ?_
        refine rm_ishr hx hb dX6_size_13 (by omega) (by omega) ?_
        refine lv_iconst (v := (nI 1)) hx hb dX6_size_14 (by decide) ?_
        refine rm_bit hx hb dX6_size_15 ?_
        refine rm_top (y := (nI ((Nat.testBit S c).toNat))) (bI_nat _) ?_
        refine rm_iadd hx hb dX6_size_16 ?_
        refine lv_istore_n (lv' := [(1, .int (nI ((ct S c) + ((Nat.testBit S c).toNat)))), (2, .int (nI c)), (0, .int (nI S))]) hx hb dX6_size_17 rfl hl (by decide) rfl (fun ls hl => ?_)
        refine lv_iinc (v := (nI (c + 1))) (lv' := [(2, .int (nI (c + 1))), (1, .int (nI ((ct S c) + ((Nat.testBit S c).toNat)))), (0, .int (nI S))]) hx hb dX6_size_18 hl (k := 1) rfl (rm_inc c 1) (by decide) rfl (fun ls hl => ?_)
        refine lv_goto (tgt := 4) hx hb dX6_size_21 (by decide) ?_
        exact ih4 (c + 1) (by omega) (by omega) ls hl
  exact loop4 _ 0 (Nat.lt_succ_self _) (by omega) ls hl
theorem cwX6_size_X6 {R : Room} {s : State} {args : Array Value} (hts : ∀ w ∈ lw_all, w.before args s = true) (hR : (rmX6_size).frames + 1 ≤ R.frames ∧ 8 + (3 + 11) + (rmX6_size).locals ≤ R.locals) : CallB R s args RX6 68 yX6_size cX6_size 3 (some .int) (ws_ yX6_size cX6_size 3 (some .int)) rmX6_size 0 0 1 ∧ (Cond.static yX6_size).before args s = true := va_cwS 1 hts (lw_S q722 q723 q63 q724) rfl rfl rfl (by decide +kernel) hR
abbrev rmX6_has : Room := { frames := 0, cells := 0, slots := 0, locals := 0 }
set_option maxHeartbeats 4000000 in
theorem metX6_has (l : Launch) (S c : Nat) (hS : S < 1024) (hc : c < 10) : RO l yX6_has cX6_has 2 (some .boolean) rmX6_has [.int (nI S), .int (nI c)] (fun _ => True) (bI (Nat.testBit S c)) := by
  refine ro_bool rfl (Nat.le_of_ble_eq_true rfl) ?_
  intro p e s m below meth cd Q ls hx hb hml hown hts hB hl hret
  have hown : s.vm.findClass RX6 = some m.cls := hown
  have hl : lv_has ls 2 [(0, .int (nI S)), (1, .int (nI c))] := hl
  refine lv_iload_n hx hb dX6_has_0 rfl (lv_at hl 0 rfl) ?_
  refine lv_iload_n hx hb dX6_has_1 rfl (lv_at hl 1 rfl) ?_
  refine rm_ishr hx hb dX6_has_2 (by omega) (by omega) ?_
  refine lv_iconst (v := (nI 1)) hx hb dX6_has_3 (by decide) ?_
  refine rm_bit hx hb dX6_has_4 ?_
  refine lv_iconst (v := (nI 1)) hx hb dX6_has_5 (by decide) ?_
  refine rm_b1ne (tgt := 13) hx hb dX6_has_6 (by decide) (fun q6 => ?_) (fun q6 => ?_)
  · skip
    refine lv_iconst (v := (nI 0)) hx hb dX6_has_13 (by decide) ?_
    exact hret _ 14 ls (by rw [q6]; rfl) dX6_has_14
  · skip
    refine lv_iconst (v := (nI 1)) hx hb dX6_has_9 (by decide) ?_
    refine lv_goto (tgt := 14) hx hb dX6_has_10 (by decide) ?_
    exact hret _ 14 ls (by rw [q6]; rfl) dX6_has_14
theorem cwX6_has_X6 {R : Room} {s : State} {args : Array Value} (hts : ∀ w ∈ lw_all, w.before args s = true) (hR : (rmX6_has).frames + 1 ≤ R.frames ∧ 8 + (2 + 11) + (rmX6_has).locals ≤ R.locals) : CallB R s args RX6 92 yX6_has cX6_has 2 (some .boolean) (ws_ yX6_has cX6_has 2 (some .boolean)) rmX6_has 0 0 2 ∧ (Cond.static yX6_has).before args s = true := va_cwS 2 hts (lw_S q753 q754 q63 q755) rfl rfl rfl (by decide +kernel) hR
abbrev rmX6_now : Room := { frames := 1, cells := 0, slots := 0, locals := 20 }
set_option maxHeartbeats 4000000 in
theorem metX6_now (l : Launch) (D : va_G) (cA : Nat → ClassId) (a : Nat → Nat) (st im : Nat → Nat) (kp : Nat → Bool) (nx li : Nat → Nat) (isl : Nat → Bool) (mv : Nat → Nat) (so la : Nat → Option Nat) (cm : Nat → Nat) (ld us : Nat) (bl : Bool)  (hn3 : 3 ≤ st 0) (hn10 : st 0 ≤ 10) (hst : ∀ j, st j < 2 ^ 31) : RO l yX6_now cX6_now 4 (some .int) rmX6_now [.ref (a 0)] (wB D cA (mW a cA st im kp nx li isl mv so la cm ld us bl)) ((nI (cdw (fun c => st (1 + c)) (st 0)))) := by
  refine ro_int rfl (Nat.le_of_ble_eq_true rfl) ?_
  intro p e s m below meth cd Q ls hx hb hml hown hts hB hl hret
  obtain ⟨hP, hK, hN⟩ := hB
  have hown : s.vm.findClass RX6 = some m.cls := hown
  have hl : lv_has ls 4 [(0, .ref (a 0))] := hl
  refine lv_iconst (v := (nI 0)) hx hb dX6_now_0 (by decide) ?_
  refine lv_istore_n (lv' := [(1, .int (nI 0)), (0, .ref (a 0))]) hx hb dX6_now_1 rfl hl (by decide) rfl (fun ls hl => ?_)
  refine lv_iconst (v := (nI 0)) hx hb dX6_now_2 (by decide) ?_
  refine lv_istore_n (lv' := [(2, .int (nI 0)), (1, .int (nI 0)), (0, .ref (a 0))]) hx hb dX6_now_3 rfl hl (by decide) rfl (fun ls hl => ?_)
  have loop4 : ∀ (N : Nat) (c : Nat), st 0 - c < N → (c ≤ st 0) → ∀ (ls : Array Slot), lv_has ls 4 [(2, .int (nI c)), (1, .int (nI (cdw (fun c => st (1 + c)) c))), (0, .ref (a 0))] → W p l e rmX6_now s m ([.ref (a 0)] : List Value).toArray below meth cd s.heap [] 0 0 Q (F0 m 4 ls []) := by
    intro N
    induction N with
    | zero => intro c hm; exact absurd hm (Nat.not_lt_zero _)
    | succ N ih4 =>
      intro c hm4 i4_0 ls hl
      refine lv_iload_n hx hb dX6_now_4 rfl (lv_at hl 0 rfl) ?_
      refine lv_aload_n hx hb dX6_now_5 rfl (lv_at hl 2 rfl) ?_
      refine rm_cV (ls := ls) (As := []) (rest := [.int (nI c)]) ⟨hx, hb, hml, hown, hts⟩ (metX6_cells l D cA a st im kp nx li isl mv so la cm ld us bl  ) (cwX6_cells_X6 hts ⟨Nat.le_of_ble_eq_true rfl, Nat.le_of_ble_eq_true rfl⟩) hP hK hN (va_recv hK hP xc5 (q0 := 0) rfl) rfl hl.1 rfl (Nat.le_of_ble_eq_true rfl) dX6_now_6 ⟨Nat.zero_le _, Nat.zero_le _⟩ ?_
      refine rm_cge (tgt := 47) hx hb dX6_now_9 (by decide) (by first | omega | exact hst _) (by first | omega | exact hst _) (fun q9 => ?_) (fun q9 => ?_)
      · skip
        refine lv_iload_n hx hb dX6_now_47 rfl (lv_at hl 1 rfl) ?_
        exact hret _ 48 ls (by rw [show c = st 0 by omega]) dX6_now_48
      · skip
        refine lv_aload_n hx hb dX6_now_12 rfl (lv_at hl 2 rfl) ?_
        refine va_get (D := D) (ci := 5) (v := .ref (a 1)) (C := RX6) (T := TX6) (N := 14) hx hb hts in_X6 hown hK hP 0 rfl xc5 0 (by decide) (hts _ q640) (fun _ h9 => h9) rfl dX6_now_13 ?_
        refine lv_iconst (v := (nI 1)) hx hb dX6_now_16 (by decide) ?_
        refine lv_iload_n hx hb dX6_now_17 rfl (lv_at hl 0 rfl) ?_
        refine rm_iadd hx hb dX6_now_18 ?_
        refine rm_nld hx hb hK hP 1 rfl (by omega) (by decide) dX6_now_19 ?_
        refine lv_istore_n (lv' := [(3, .int (nI (st (1 + c)))), (2, .int (nI c)), (1, .int (nI (cdw (fun c => st (1 + c)) c))), (0, .ref (a 0))]) hx hb dX6_now_20 rfl hl (by decide) rfl (fun ls hl => ?_)
        refine lv_iload_n hx hb dX6_now_21 rfl (lv_at hl 2 rfl) ?_
        refine lv_aload_n hx hb dX6_now_22 rfl (lv_at hl 3 rfl) ?_
        refine va_get (D := D) (ci := 5) (v := .ref (a 4)) (C := RX6) (T := TX6) (N := 14) hx hb hts in_X6 hown hK hP 0 rfl xc5 3 (by decide) (hts _ q643) (fun _ h9 => h9) rfl dX6_now_23 ?_
        refine lv_iload_n hx hb dX6_now_26 rfl (lv_at hl 1 rfl) ?_
        refine rm_nld hx hb hK hP 4 rfl (by omega) (by decide) dX6_now_27 ?_
        have join38 : ∀ (ls : Array Slot), lv_has ls 4 [(3, .int (nI (st (1 + c)))), (2, .int (nI c)), (1, .int (nI (cdw (fun c => st (1 + c)) c))), (0, .ref (a 0))] → W p l e rmX6_now s m ([.ref (a 0)] : List Value).toArray below meth cd s.heap [] 0 0 Q (F0 m 38 ls [.int (nI (dg (st (1 + c)))), .int (nI (p3 c)), .int (nI (cdw (fun c => st (1 + c)) c))]) := by
          intro   ls hl
          refine rm_imul hx hb dX6_now_38 ?_
          refine rm_iadd hx hb dX6_now_39 ?_
          refine lv_istore_n (lv' := [(1, .int (nI ((cdw (fun c => st (1 + c)) c) + ((p3 c) * (dg (st (1 + c))))))), (3, .int (nI (st (1 + c)))), (2, .int (nI c)), (0, .ref (a 0))]) hx hb dX6_now_40 rfl hl (by decide) rfl (fun ls hl => ?_)
          refine lv_iinc (v := (nI (c + 1))) (lv' := [(2, .int (nI (c + 1))), (1, .int (nI ((cdw (fun c => st (1 + c)) c) + ((p3 c) * (dg (st (1 + c))))))), (3, .int (nI (st (1 + c)))), (0, .ref (a 0))]) hx hb dX6_now_41 hl (k := 2) rfl (rm_inc c 1) (by decide) rfl (fun ls hl => ?_)
          refine lv_goto (tgt := 4) hx hb dX6_now_44 (by decide) ?_
          exact ih4 (c + 1) (by omega) (by omega) ls (lv_sub hl [0, 1, 3] rfl)
        refine lv_iload_n hx hb dX6_now_28 rfl (lv_at hl 0 rfl) ?_
        refine lv_iconst (v := (nI 1)) hx hb dX6_now_29 (by decide) ?_
        refine rm_cle (tgt := 37) hx hb dX6_now_30 (by decide) (by first | omega | exact hst _) (by decide) (fun q30 => ?_) (fun q30 => ?_)
        · skip
          refine lv_iload_n hx hb dX6_now_37 rfl (lv_at hl 0 rfl) ?_
          refine rm_top (y := (nI (dg (st (1 + c))))) (by unfold dg; rw [if_neg (by omega)]) ?_
          exact join38   ls hl
        · skip
          refine lv_iconst (v := (nI 2)) hx hb dX6_now_33 (by decide) ?_
          refine lv_goto (tgt := 38) hx hb dX6_now_34 (by decide) ?_
          refine rm_top (y := (nI (dg (st (1 + c))))) (by unfold dg; rw [if_pos (by omega)]) ?_
          exact join38   ls hl
  exact loop4 _ 0 (Nat.lt_succ_self _) (by omega) ls hl
theorem cwX6_now_X6 {R : Room} {s : State} {args : Array Value} (hts : ∀ w ∈ lw_all, w.before args s = true) (hR : (rmX6_now).frames + 1 ≤ R.frames ∧ 8 + (4 + 11) + (rmX6_now).locals ≤ R.locals) : CallW R s args RX6 RX6 83 yX6_now cX6_now 4 (some .int) (ws_ yX6_now cX6_now 4 (some .int)) rmX6_now 0 0 0 := cwV 0 hts (lw_V q714 q716 qs26 q63 q717) rfl rfl rfl (by decide +kernel) hR
abbrev rmX6_standsOf : Room := { frames := 1, cells := 0, slots := 0, locals := 20 }
set_option maxHeartbeats 4000000 in
theorem metX6_standsOf (l : Launch) (D : va_G) (cA : Nat → ClassId) (a : Nat → Nat) (st im : Nat → Nat) (kp : Nat → Bool) (nx li : Nat → Nat) (isl : Nat → Bool) (mv : Nat → Nat) (so la : Nat → Option Nat) (cm : Nat → Nat) (ld us : Nat) (bl : Bool) (code : Nat) (hn3 : 3 ≤ st 0) (hn10 : st 0 ≤ 10) (hc : code < 2 ^ 31) : RO l yX6_standsOf cX6_standsOf 4 (some .int) rmX6_standsOf [.ref (a 0), .int (nI code)] (wB D cA (mW a cA st im kp nx li isl mv so la cm ld us bl)) ((nI (stS (st 0) code))) := by
  refine ro_int rfl (Nat.le_of_ble_eq_true rfl) ?_
  intro p e s m below meth cd Q ls hx hb hml hown hts hB hl hret
  obtain ⟨hP, hK, hN⟩ := hB
  have hown : s.vm.findClass RX6 = some m.cls := hown
  have hl : lv_has ls 4 [(0, .ref (a 0)), (1, .int (nI code))] := hl
  refine lv_iconst (v := (nI 0)) hx hb dX6_standsOf_0 (by decide) ?_
  refine lv_istore_n (lv' := [(2, .int (nI 0)), (0, .ref (a 0)), (1, .int (nI code))]) hx hb dX6_standsOf_1 rfl hl (by decide) rfl (fun ls hl => ?_)
  refine lv_iconst (v := (nI 0)) hx hb dX6_standsOf_2 (by decide) ?_
  refine lv_istore_n (lv' := [(3, .int (nI 0)), (2, .int (nI 0)), (0, .ref (a 0)), (1, .int (nI code))]) hx hb dX6_standsOf_3 rfl hl (by decide) rfl (fun ls hl => ?_)
  have loop4 : ∀ (N : Nat) (c : Nat), st 0 - c < N → (c ≤ st 0) → ∀ (ls : Array Slot), lv_has ls 4 [(3, .int (nI c)), (2, .int (nI (bs (fun c => decide (0 < tg code c)) c))), (0, .ref (a 0)), (1, .int (nI code))] → W p l e rmX6_standsOf s m ([.ref (a 0), .int (nI code)] : List Value).toArray below meth cd s.heap [] 0 0 Q (F0 m 4 ls []) := by
    intro N
    induction N with
    | zero => intro c hm; exact absurd hm (Nat.not_lt_zero _)
    | succ N ih4 =>
      intro c hm4 i4_0 ls hl
      refine lv_iload_n hx hb dX6_standsOf_4 rfl (lv_at hl 0 rfl) ?_
      refine lv_aload_n hx hb dX6_standsOf_5 rfl (lv_at hl 2 rfl) ?_
      refine rm_cV (ls := ls) (As := []) (rest := [.int (nI c)]) ⟨hx, hb, hml, hown, hts⟩ (metX6_cells l D cA a st im kp nx li isl mv so la cm ld us bl  ) (cwX6_cells_X6 hts ⟨Nat.le_of_ble_eq_true rfl, Nat.le_of_ble_eq_true rfl⟩) hP hK hN (va_recv hK hP xc5 (q0 := 0) rfl) rfl hl.1 rfl (Nat.le_of_ble_eq_true rfl) dX6_standsOf_6 ⟨Nat.zero_le _, Nat.zero_le _⟩ ?_
      refine rm_cge (tgt := 41) hx hb dX6_standsOf_9 (by decide) (by omega) (by omega) (fun q9 => ?_) (fun q9 => ?_)
      · skip
        refine lv_iload_n hx hb dX6_standsOf_41 rfl (lv_at hl 1 rfl) ?_
        exact hret _ 42 ls (by unfold stS; rw [show c = st 0 by omega]) dX6_standsOf_42
      · skip
        refine lv_iload_n hx hb dX6_standsOf_12 rfl (lv_at hl 1 rfl) ?_
        have join33 : ∀ (ls : Array Slot), lv_has ls 4 [(3, .int (nI c)), (2, .int (nI (bs (fun c => decide (0 < tg code c)) c))), (0, .ref (a 0)), (1, .int (nI code))] → W p l e rmX6_standsOf s m ([.ref (a 0), .int (nI code)] : List Value).toArray below meth cd s.heap [] 0 0 Q (F0 m 33 ls [.int (nI (if decide (0 < tg code c) then 2 ^ c else 0)), .int (nI (bs (fun c => decide (0 < tg code c)) c))]) := by
          intro   ls hl
          refine rm_ior hx hb dX6_standsOf_33 ?_
          refine lv_istore_n (lv' := [(2, .int (nI ((bs (fun c => decide (0 < tg code c)) c) ||| (if decide (0 < tg code c) then 2 ^ c else 0)))), (3, .int (nI c)), (0, .ref (a 0)), (1, .int (nI code))]) hx hb dX6_standsOf_34 rfl hl (by decide) rfl (fun ls hl => ?_)
          refine lv_iinc (v := (nI (c + 1))) (lv' := [(3, .int (nI (c + 1))), (2, .int (nI ((bs (fun c => decide (0 < tg code c)) c) ||| (if decide (0 < tg code c) then 2 ^ c else 0)))), (0, .ref (a 0)), (1, .int (nI code))]) hx hb dX6_standsOf_35 hl (k := 1) rfl (rm_inc c 1) (by decide) rfl (fun ls hl => ?_)
          refine lv_goto (tgt := 4) hx hb dX6_standsOf_38 (by decide) ?_
          exact ih4 (c + 1) (by omega) (by omega) ls hl
        refine lv_iload_n hx hb dX6_standsOf_13 rfl (lv_at hl 3 rfl) ?_
        refine lv_aload_n hx hb dX6_standsOf_14 rfl (lv_at hl 2 rfl) ?_
        refine va_get (D := D) (ci := 5) (v := .ref (a 4)) (C := RX6) (T := TX6) (N := 14) hx hb hts in_X6 hown hK hP 0 rfl xc5 3 (by decide) (hts _ q643) (fun _ h9 => h9) rfl dX6_standsOf_15 ?_
        refine lv_iload_n hx hb dX6_standsOf_18 rfl (lv_at hl 0 rfl) ?_
        refine rm_nld hx hb hK hP 4 rfl (by omega) (by decide) dX6_standsOf_19 ?_
        refine rm_idiv hx hb dX6_standsOf_20 (p3_pos c) (Nat.lt_of_le_of_lt (p3_le (by omega)) (by decide)) (by omega) ?_
        refine lv_iconst (v := (nI 3)) hx hb dX6_standsOf_21 (by decide) ?_
        refine rm_irem hx hb dX6_standsOf_22 (by decide) (by decide) (Nat.lt_of_le_of_lt (Nat.div_le_self _ _) hc) ?_
        refine rm_ile (tgt := 32) hx hb dX6_standsOf_23 (by decide) (Nat.lt_trans (tg_lt code c) (by decide)) (fun q23 => ?_) (fun q23 => ?_)
        · skip
          refine lv_iconst (v := (nI 0)) hx hb dX6_standsOf_32 (by decide) ?_
          refine rm_top (y := (nI (if decide (0 < tg code c) then 2 ^ c else 0))) (by rw [decide_eq_false (show ¬ 0 < tg code c by unfold tg; omega)]; rfl) ?_
          exact join33   ls hl
        · skip
          refine lv_iconst (v := (nI 1)) hx hb dX6_standsOf_26 (by decide) ?_
          refine lv_iload_n hx hb dX6_standsOf_27 rfl (lv_at hl 0 rfl) ?_
          refine rm_ishl1 hx hb dX6_standsOf_28 (by omega) ?_
          refine lv_goto (tgt := 33) hx hb dX6_standsOf_29 (by decide) ?_
          refine rm_top (y := (nI (if decide (0 < tg code c) then 2 ^ c else 0))) (by rw [decide_eq_true (show 0 < tg code c from q23)]; rfl) ?_
          exact join33   ls hl
  exact loop4 _ 0 (Nat.lt_succ_self _) (by omega) ls hl
theorem cwX6_standsOf_X6 {R : Room} {s : State} {args : Array Value} (hts : ∀ w ∈ lw_all, w.before args s = true) (hR : (rmX6_standsOf).frames + 1 ≤ R.frames ∧ 8 + (4 + 11) + (rmX6_standsOf).locals ≤ R.locals) : CallW R s args RX6 RX6 86 yX6_standsOf cX6_standsOf 4 (some .int) (ws_ yX6_standsOf cX6_standsOf 4 (some .int)) rmX6_standsOf 0 0 1 := cwV 1 hts (lw_V q718 q720 qs27 q63 q721) rfl rfl rfl (by decide +kernel) hR
abbrev rmX6_beside : Room := { frames := 1, cells := 0, slots := 0, locals := 20 }
set_option maxHeartbeats 4000000 in
theorem metX6_beside (l : Launch) (D : va_G) (cA : Nat → ClassId) (a : Nat → Nat) (st im : Nat → Nat) (kp : Nat → Bool) (nx li : Nat → Nat) (isl : Nat → Bool) (mv : Nat → Nat) (so la : Nat → Option Nat) (cm : Nat → Nat) (ld us : Nat) (bl : Bool) (c : Nat) (way : Int32) (up : Bool) (g : Nat) (hn3 : 3 ≤ st 0) (hn10 : st 0 ≤ 10) (hc : c < st 0) (hg : g ≤ st 0) (hw : way = dI up * nI g) : RO l yX6_beside cX6_beside 3 (some .int) rmX6_beside [.ref (a 0), .int (nI c), .int way] (wB D cA (mW a cA st im kp nx li isl mv so la cm ld us bl)) ((nI (it (st 0) up c g))) := by
  refine ro_int rfl (Nat.le_of_ble_eq_true rfl) ?_
  intro p e s m below meth cd Q ls hx hb hml hown hts hB hl hret
  obtain ⟨hP, hK, hN⟩ := hB
  have hown : s.vm.findClass RX6 = some m.cls := hown
  have hl : lv_has ls 3 [(0, .ref (a 0)), (1, .int (nI c)), (2, .int way)] := hl
  refine lv_iload_n hx hb dX6_beside_0 rfl (lv_at hl 1 rfl) ?_
  refine lv_iload_n hx hb dX6_beside_1 rfl (lv_at hl 2 rfl) ?_
  refine lv_iadd hx hb dX6_beside_2 ?_
  refine lv_aload_n hx hb dX6_beside_3 rfl (lv_at hl 0 rfl) ?_
  refine rm_cV (ls := ls) (As := []) (rest := [.int ((nI c) + way)]) ⟨hx, hb, hml, hown, hts⟩ (metX6_cells l D cA a st im kp nx li isl mv so la cm ld us bl  ) (cwX6_cells_X6 hts ⟨Nat.le_of_ble_eq_true rfl, Nat.le_of_ble_eq_true rfl⟩) hP hK hN (va_recv hK hP xc5 (q0 := 0) rfl) rfl hl.1 rfl (Nat.le_of_ble_eq_true rfl) dX6_beside_4 ⟨Nat.zero_le _, Nat.zero_le _⟩ ?_
  refine lv_iadd hx hb dX6_beside_7 ?_
  refine rm_top (y := (nI (bq (st 0) up c g))) (by rw [hw]; exact bq_I up hg) ?_
  refine lv_aload_n hx hb dX6_beside_8 rfl (lv_at hl 0 rfl) ?_
  refine rm_cV (ls := ls) (As := []) (rest := [.int (nI (bq (st 0) up c g))]) ⟨hx, hb, hml, hown, hts⟩ (metX6_cells l D cA a st im kp nx li isl mv so la cm ld us bl  ) (cwX6_cells_X6 hts ⟨Nat.le_of_ble_eq_true rfl, Nat.le_of_ble_eq_true rfl⟩) hP hK hN (va_recv hK hP xc5 (q0 := 0) rfl) rfl hl.1 rfl (Nat.le_of_ble_eq_true rfl) dX6_beside_9 ⟨Nat.zero_le _, Nat.zero_le _⟩ ?_
  refine rm_irem hx hb dX6_beside_12 (by omega) (by omega) (by unfold bq; split <;> omega) ?_
  exact hret _ 13 ls (by rw [bq_mod up hg (by omega)]) dX6_beside_13
theorem cwX6_beside_X6 {R : Room} {s : State} {args : Array Value} (hts : ∀ w ∈ lw_all, w.before args s = true) (hR : (rmX6_beside).frames + 1 ≤ R.frames ∧ 8 + (3 + 11) + (rmX6_beside).locals ≤ R.locals) : CallW R s args RX6 RX6 60 yX6_beside cX6_beside 3 (some .int) (ws_ yX6_beside cX6_beside 3 (some .int)) rmX6_beside 0 0 2 := cwV 2 hts (lw_V q741 q743 qs32 q63 q744) rfl rfl rfl (by decide +kernel) hR
abbrev rmX6_far : Room := { frames := 2, cells := 0, slots := 0, locals := 42 }
set_option maxHeartbeats 4000000 in
theorem metX6_far (l : Launch) (D : va_G) (cA : Nat → ClassId) (a : Nat → Nat) (st im : Nat → Nat) (kp : Nat → Bool) (nx li : Nat → Nat) (isl : Nat → Bool) (mv : Nat → Nat) (so la : Nat → Option Nat) (cm : Nat → Nat) (ld us : Nat) (bl : Bool) (S c : Nat) (up : Bool) (hn3 : 3 ≤ st 0) (hn10 : st 0 ≤ 10) (hS : S < 1024) (hne : ne_ (st 0) S) (hc : c < st 0) : RO l yX6_far cX6_far 6 (some .int) rmX6_far [.ref (a 0), .int (nI S), .int (nI c), .int (dI up)] (wB D cA (mW a cA st im kp nx li isl mv so la cm ld us bl)) ((nI (gp (st 0) S up c))) := by
  refine ro_int rfl (Nat.le_of_ble_eq_true rfl) ?_
  intro p e s m below meth cd Q ls hx hb hml hown hts hB hl hret
  obtain ⟨hP, hK, hN⟩ := hB
  have hown : s.vm.findClass RX6 = some m.cls := hown
  have hl : lv_has ls 6 [(0, .ref (a 0)), (1, .int (nI S)), (2, .int (nI c)), (3, .int (dI up))] := hl
  obtain ⟨hg1, hg2, hg3, hg4⟩ := gp_spec hne up c
  refine lv_iconst (v := (nI 1)) hx hb dX6_far_0 (by decide) ?_
  refine lv_istore (lv' := [(4, .int (nI 1)), (0, .ref (a 0)), (1, .int (nI S)), (2, .int (nI c)), (3, .int (dI up))]) hx hb dX6_far_1 hl (by decide) rfl (fun ls hl => ?_)
  refine lv_aload_n hx hb dX6_far_3 rfl (lv_at hl 1 rfl) ?_
  refine lv_iload_n hx hb dX6_far_4 rfl (lv_at hl 3 rfl) ?_
  refine lv_iload_n hx hb dX6_far_5 rfl (lv_at hl 4 rfl) ?_
  refine rm_cV (ls := ls) (As := [.int (nI c), .int (dI up)]) (rest := []) ⟨hx, hb, hml, hown, hts⟩ (metX6_beside l D cA a st im kp nx li isl mv so la cm ld us bl c (dI up) up 1 (by first | assumption | omega) (by first | assumption | omega) (by first | assumption | omega) (by first | assumption | omega) (by first | rfl | exact dI_1 _)) (cwX6_beside_X6 hts ⟨Nat.le_of_ble_eq_true rfl, Nat.le_of_ble_eq_true rfl⟩) hP hK hN (va_recv hK hP xc5 (q0 := 0) rfl) rfl hl.1 rfl (Nat.le_of_ble_eq_true rfl) dX6_far_6 ⟨Nat.zero_le _, Nat.zero_le _⟩ ?_
  refine lv_istore (lv' := [(5, .int (nI (it (st 0) up c 1))), (4, .int (nI 1)), (0, .ref (a 0)), (1, .int (nI S)), (2, .int (nI c)), (3, .int (dI up))]) hx hb dX6_far_9 hl (by decide) rfl (fun ls hl => ?_)
  have loop11 : ∀ (N : Nat) (k : Nat), gp (st 0) S up c - k < N → (1 ≤ k) → (k ≤ gp (st 0) S up c) → ∀ (ls : Array Slot), lv_has ls 6 [(5, .int (nI (it (st 0) up c k))), (4, .int (nI k)), (0, .ref (a 0)), (1, .int (nI S)), (2, .int (nI c)), (3, .int (dI up))] → W p l e rmX6_far s m ([.ref (a 0), .int (nI S), .int (nI c), .int (dI up)] : List Value).toArray below meth cd s.heap [] 0 0 Q (F0 m 11 ls []) := by
    intro N
    induction N with
    | zero => intro k hm; exact absurd hm (Nat.not_lt_zero _)
    | succ N ih11 =>
      intro k hm11 i11_0 i11_1 ls hl
      refine lv_iload_n hx hb dX6_far_11 rfl (lv_at hl 3 rfl) ?_
      refine lv_iload hx hb dX6_far_12 (lv_at hl 0 rfl) ?_
      have hit : it (st 0) up c k < st 0 := it_lt (by omega) _ _ _
      refine rm_ishr hx hb dX6_far_14 (by omega) (by omega) ?_
      refine lv_iconst (v := (nI 1)) hx hb dX6_far_15 (by decide) ?_
      refine rm_bit hx hb dX6_far_16 ?_
      refine rm_bne (tgt := 35) hx hb dX6_far_17 (by decide) (fun q17 => ?_) (fun q17 => ?_)
      · skip
        refine lv_iload hx hb dX6_far_35 (lv_at hl 1 rfl) ?_
        exact hret _ 37 ls (by rw [show k = gp (st 0) S up c from Nat.le_antisymm i11_1 (Nat.not_lt.mp fun q => by rw [hg4 k i11_0 q] at q17; cases q17)]) dX6_far_37
      · skip
        refine lv_aload_n hx hb dX6_far_20 rfl (lv_at hl 2 rfl) ?_
        refine lv_iload hx hb dX6_far_21 (lv_at hl 0 rfl) ?_
        refine lv_iload_n hx hb dX6_far_23 rfl (lv_at hl 5 rfl) ?_
        refine rm_cV (ls := ls) (As := [.int (nI (it (st 0) up c k)), .int (dI up)]) (rest := []) ⟨hx, hb, hml, hown, hts⟩ (metX6_beside l D cA a st im kp nx li isl mv so la cm ld us bl (it (st 0) up c k) (dI up) up 1 (by first | assumption | omega) (by first | assumption | omega) hit (by first | assumption | omega) (by first | rfl | exact dI_1 _)) (cwX6_beside_X6 hts ⟨Nat.le_of_ble_eq_true rfl, Nat.le_of_ble_eq_true rfl⟩) hP hK hN (va_recv hK hP xc5 (q0 := 0) rfl) rfl hl.1 rfl (Nat.le_of_ble_eq_true rfl) dX6_far_24 ⟨Nat.zero_le _, Nat.zero_le _⟩ ?_
        refine rm_top (y := (nI (it (st 0) up c (k + 1)))) (by rw [it_add]) ?_
        refine lv_istore (lv' := [(5, .int (nI (it (st 0) up c (k + 1)))), (4, .int (nI k)), (0, .ref (a 0)), (1, .int (nI S)), (2, .int (nI c)), (3, .int (dI up))]) hx hb dX6_far_27 hl (by decide) rfl (fun ls hl => ?_)
        refine lv_iinc (v := (nI (k + 1))) (lv' := [(4, .int (nI (k + 1))), (5, .int (nI (it (st 0) up c (k + 1)))), (0, .ref (a 0)), (1, .int (nI S)), (2, .int (nI c)), (3, .int (dI up))]) hx hb dX6_far_29 hl (k := 1) rfl (rm_inc k 1) (by decide) rfl (fun ls hl => ?_)
        refine lv_goto (tgt := 11) hx hb dX6_far_32 (by decide) ?_
        have hk : ¬ k = gp (st 0) S up c := fun q => by rw [q, hg1] at q17; cases q17
        exact ih11 (k + 1) (by omega) (by omega) (by omega) ls (lv_sub hl [1, 0, 2, 3, 4, 5] rfl)
  exact loop11 _ 1 (Nat.lt_succ_self _) (by omega) (by omega) ls hl
theorem cwX6_far_X6 {R : Room} {s : State} {args : Array Value} (hts : ∀ w ∈ lw_all, w.before args s = true) (hR : (rmX6_far).frames + 1 ≤ R.frames ∧ 8 + (6 + 11) + (rmX6_far).locals ≤ R.locals) : CallW R s args RX6 RX6 64 yX6_far cX6_far 6 (some .int) (ws_ yX6_far cX6_far 6 (some .int)) rmX6_far 0 0 3 := cwV 3 hts (lw_V q737 q739 qs31 q63 q740) rfl rfl rfl (by decide +kernel) hR
abbrev rmX6_gapAt : Room := { frames := 3, cells := 0, slots := 0, locals := 67 }
set_option maxHeartbeats 4000000 in
theorem metX6_gapAt (l : Launch) (D : va_G) (cA : Nat → ClassId) (a : Nat → Nat) (st im : Nat → Nat) (kp : Nat → Bool) (nx li : Nat → Nat) (isl : Nat → Bool) (mv : Nat → Nat) (so la : Nat → Option Nat) (cm : Nat → Nat) (ld us : Nat) (bl : Bool) (S c : Nat) (up : Bool) (k : Nat) (hn3 : 3 ≤ st 0) (hn10 : st 0 ≤ 10) (hS : S < 1024) (hne : ne_ (st 0) S) (hc : c < st 0) (hk : k < 2 ^ 31) : RO l yX6_gapAt cX6_gapAt 7 (some .int) rmX6_gapAt [.ref (a 0), .int (nI S), .int (nI c), .int (dI up), .int (nI k)] (wB D cA (mW a cA st im kp nx li isl mv so la cm ld us bl)) ((nI (ga (st 0) S up c k))) := by
  refine ro_int rfl (Nat.le_of_ble_eq_true rfl) ?_
  intro p e s m below meth cd Q ls hx hb hml hown hts hB hl hret
  obtain ⟨hP, hK, hN⟩ := hB
  have hown : s.vm.findClass RX6 = some m.cls := hown
  have hl : lv_has ls 7 [(0, .ref (a 0)), (1, .int (nI S)), (2, .int (nI c)), (3, .int (dI up)), (4, .int (nI k))] := hl
  refine lv_iload_n hx hb dX6_gapAt_0 rfl (lv_at hl 2 rfl) ?_
  refine lv_istore (lv' := [(5, .int (nI c)), (0, .ref (a 0)), (1, .int (nI S)), (2, .int (nI c)), (3, .int (dI up)), (4, .int (nI k))]) hx hb dX6_gapAt_1 hl (by decide) rfl (fun ls hl => ?_)
  refine lv_iconst (v := (nI 0)) hx hb dX6_gapAt_3 (by decide) ?_
  refine lv_istore (lv' := [(6, .int (nI 0)), (5, .int (nI c)), (0, .ref (a 0)), (1, .int (nI S)), (2, .int (nI c)), (3, .int (dI up)), (4, .int (nI k))]) hx hb dX6_gapAt_4 hl (by decide) rfl (fun ls hl => ?_)
  have loop6 : ∀ (N : Nat) (i : Nat), k - i < N → (i ≤ k) → ∀ (ls : Array Slot), lv_has ls 7 [(6, .int (nI i)), (5, .int (nI (ps (st 0) S up c i))), (0, .ref (a 0)), (1, .int (nI S)), (2, .int (nI c)), (3, .int (dI up)), (4, .int (nI k))] → W p l e rmX6_gapAt s m ([.ref (a 0), .int (nI S), .int (nI c), .int (dI up), .int (nI k)] : List Value).toArray below meth cd s.heap [] 0 0 Q (F0 m 6 ls []) := by
    intro N
    induction N with
    | zero => intro i hm; exact absurd hm (Nat.not_lt_zero _)
    | succ N ih6 =>
      intro i hm6 i6_0 ls hl
      refine lv_iload hx hb dX6_gapAt_6 (lv_at hl 0 rfl) ?_
      refine lv_iload hx hb dX6_gapAt_8 (lv_at hl 6 rfl) ?_
      refine rm_cge (tgt := 37) hx hb dX6_gapAt_10 (by decide) (by omega) (by omega) (fun q10 => ?_) (fun q10 => ?_)
      · skip
        have hps : ps (st 0) S up c i < st 0 := ps_lt (by omega) hc i
        refine lv_aload_n hx hb dX6_gapAt_37 rfl (lv_at hl 2 rfl) ?_
        refine lv_iload_n hx hb dX6_gapAt_38 rfl (lv_at hl 3 rfl) ?_
        refine lv_iload hx hb dX6_gapAt_39 (lv_at hl 1 rfl) ?_
        refine lv_iload_n hx hb dX6_gapAt_41 rfl (lv_at hl 5 rfl) ?_
        refine rm_cV (ls := ls) (As := [.int (nI S), .int (nI (ps (st 0) S up c i)), .int (dI up)]) (rest := []) ⟨hx, hb, hml, hown, hts⟩ (metX6_far l D cA a st im kp nx li isl mv so la cm ld us bl S (ps (st 0) S up c i) up (by first | assumption | omega) (by first | assumption | omega) (by first | assumption | omega) (by first | assumption | omega) (by first | assumption | omega)) (cwX6_far_X6 hts ⟨Nat.le_of_ble_eq_true rfl, Nat.le_of_ble_eq_true rfl⟩) hP hK hN (va_recv hK hP xc5 (q0 := 0) rfl) rfl hl.1 rfl (Nat.le_of_ble_eq_true rfl) dX6_gapAt_42 ⟨Nat.zero_le _, Nat.zero_le _⟩ ?_
        exact hret _ 45 ls (by rw [show i = k by omega]; rfl) dX6_gapAt_45
      · skip
        have hps : ps (st 0) S up c i < st 0 := ps_lt (by omega) hc i
        refine lv_aload_n hx hb dX6_gapAt_13 rfl (lv_at hl 2 rfl) ?_
        refine lv_iload hx hb dX6_gapAt_14 (lv_at hl 1 rfl) ?_
        refine lv_iload_n hx hb dX6_gapAt_16 rfl (lv_at hl 5 rfl) ?_
        refine lv_aload_n hx hb dX6_gapAt_17 rfl (lv_at hl 2 rfl) ?_
        refine lv_iload_n hx hb dX6_gapAt_18 rfl (lv_at hl 3 rfl) ?_
        refine lv_iload hx hb dX6_gapAt_19 (lv_at hl 1 rfl) ?_
        refine lv_iload_n hx hb dX6_gapAt_21 rfl (lv_at hl 5 rfl) ?_
        refine rm_cV (ls := ls) (As := [.int (nI S), .int (nI (ps (st 0) S up c i)), .int (dI up)]) (rest := [.int (dI up), .int (nI (ps (st 0) S up c i)), .ref (a 0)]) ⟨hx, hb, hml, hown, hts⟩ (metX6_far l D cA a st im kp nx li isl mv so la cm ld us bl S (ps (st 0) S up c i) up (by first | assumption | omega) (by first | assumption | omega) (by first | assumption | omega) (by first | assumption | omega) (by first | assumption | omega)) (cwX6_far_X6 hts ⟨Nat.le_of_ble_eq_true rfl, Nat.le_of_ble_eq_true rfl⟩) hP hK hN (va_recv hK hP xc5 (q0 := 0) rfl) rfl hl.1 rfl (Nat.le_of_ble_eq_true rfl) dX6_gapAt_22 ⟨Nat.zero_le _, Nat.zero_le _⟩ ?_
        refine lv_imul hx hb dX6_gapAt_25 ?_
        refine rm_cV (ls := ls) (As := [.int (nI (ps (st 0) S up c i)), .int (dI up * nI (gp (st 0) S up (ps (st 0) S up c i)))]) (rest := []) ⟨hx, hb, hml, hown, hts⟩ (metX6_beside l D cA a st im kp nx li isl mv so la cm ld us bl (ps (st 0) S up c i) (dI up * nI (gp (st 0) S up (ps (st 0) S up c i))) up (gp (st 0) S up (ps (st 0) S up c i)) (by first | assumption | omega) (by first | assumption | omega) (by first | assumption | omega) (gp_spec hne up _).2.2.1 (by first | rfl | exact dI_1 _)) (cwX6_beside_X6 hts ⟨Nat.le_of_ble_eq_true rfl, Nat.le_of_ble_eq_true rfl⟩) hP hK hN (va_recv hK hP xc5 (q0 := 0) rfl) rfl hl.1 rfl (Nat.le_of_ble_eq_true rfl) dX6_gapAt_26 ⟨Nat.zero_le _, Nat.zero_le _⟩ ?_
        refine lv_istore (lv' := [(5, .int (nI (it (st 0) up (ps (st 0) S up c i) (gp (st 0) S up (ps (st 0) S up c i))))), (6, .int (nI i)), (0, .ref (a 0)), (1, .int (nI S)), (2, .int (nI c)), (3, .int (dI up)), (4, .int (nI k))]) hx hb dX6_gapAt_29 hl (by decide) rfl (fun ls hl => ?_)
        refine lv_iinc (v := (nI (i + 1))) (lv' := [(6, .int (nI (i + 1))), (5, .int (nI (it (st 0) up (ps (st 0) S up c i) (gp (st 0) S up (ps (st 0) S up c i))))), (0, .ref (a 0)), (1, .int (nI S)), (2, .int (nI c)), (3, .int (dI up)), (4, .int (nI k))]) hx hb dX6_gapAt_31 hl (k := 1) rfl (rm_inc i 1) (by decide) rfl (fun ls hl => ?_)
        refine lv_goto (tgt := 6) hx hb dX6_gapAt_34 (by decide) ?_
        exact ih6 (i + 1) (by omega) (by omega) ls hl
  exact loop6 _ 0 (Nat.lt_succ_self _) (by omega) ls hl
theorem cwX6_gapAt_X6 {R : Room} {s : State} {args : Array Value} (hts : ∀ w ∈ lw_all, w.before args s = true) (hR : (rmX6_gapAt).frames + 1 ≤ R.frames ∧ 8 + (7 + 11) + (rmX6_gapAt).locals ≤ R.locals) : CallW R s args RX6 RX6 72 yX6_gapAt cX6_gapAt 7 (some .int) (ws_ yX6_gapAt cX6_gapAt 7 (some .int)) rmX6_gapAt 0 0 4 := cwV 4 hts (lw_V q733 q735 qs30 q63 q736) rfl rfl rfl (by decide +kernel) hR
abbrev rmX6_held : Room := { frames := 4, cells := 0, slots := 0, locals := 93 }
set_option maxHeartbeats 4000000 in
theorem metX6_held (l : Launch) (D : va_G) (cA : Nat → ClassId) (a : Nat → Nat) (st im : Nat → Nat) (kp : Nat → Bool) (nx li : Nat → Nat) (isl : Nat → Bool) (mv : Nat → Nat) (so la : Nat → Option Nat) (cm : Nat → Nat) (ld us : Nat) (bl : Bool) (S c : Nat) (u : Bool) (o : Nat) (v : Bool) (hn3 : 3 ≤ st 0) (hn10 : st 0 ≤ 10) (hS : S < 1024) (hne : ne_ (st 0) S) (hc : c < st 0) (ho : o < st 0) : RO l yX6_held cX6_held 9 (some .int) rmX6_held [.ref (a 0), .int (nI S), .int (nI c), .int (dI u), .int (nI o), .int (dI v)] (wB D cA (mW a cA st im kp nx li isl mv so la cm ld us bl)) ((cp (st 0) S u c v o)) := by
  refine ro_int rfl (Nat.le_of_ble_eq_true rfl) ?_
  intro p e s m below meth cd Q ls hx hb hml hown hts hB hl hret
  obtain ⟨hP, hK, hN⟩ := hB
  have hown : s.vm.findClass RX6 = some m.cls := hown
  have hl : lv_has ls 9 [(0, .ref (a 0)), (1, .int (nI S)), (2, .int (nI c)), (3, .int (dI u)), (4, .int (nI o)), (5, .int (dI v))] := hl
  have hct : ct S 10 ≤ 10 := ct_le S 10
  refine lv_iload_n hx hb dX6_held_0 rfl (lv_at hl 1 rfl) ?_
  refine rm_cS (ls := ls) (As := [.int (nI S)]) (rest := []) ⟨hx, hb, hml, hown, hts⟩ (metX6_size l S (by first | assumption | omega)) (cwX6_size_X6 hts ⟨Nat.le_of_ble_eq_true rfl, Nat.le_of_ble_eq_true rfl⟩) noB rfl hl.1 rfl (Nat.le_of_ble_eq_true rfl) dX6_held_1 ⟨Nat.zero_le _, Nat.zero_le _⟩ ?_
  refine lv_istore (lv' := [(6, .int (nI (ct S 10))), (0, .ref (a 0)), (1, .int (nI S)), (2, .int (nI c)), (3, .int (dI u)), (4, .int (nI o)), (5, .int (dI v))]) hx hb dX6_held_4 hl (by decide) rfl (fun ls hl => ?_)
  refine lv_iconst (v := (nI 0)) hx hb dX6_held_6 (by decide) ?_
  refine lv_istore (lv' := [(7, .int (nI 0)), (6, .int (nI (ct S 10))), (0, .ref (a 0)), (1, .int (nI S)), (2, .int (nI c)), (3, .int (dI u)), (4, .int (nI o)), (5, .int (dI v))]) hx hb dX6_held_7 hl (by decide) rfl (fun ls hl => ?_)
  have loop9 : ∀ (N : Nat) (k : Nat), ct S 10 - k < N → (k ≤ ct S 10) → (cpf (st 0) S u c v o (ct S 10 - k) k = cp (st 0) S u c v o) → ∀ (ls : Array Slot), lv_has ls 9 [(7, .int (nI k)), (6, .int (nI (ct S 10))), (0, .ref (a 0)), (1, .int (nI S)), (2, .int (nI c)), (3, .int (dI u)), (4, .int (nI o)), (5, .int (dI v))] → W p l e rmX6_held s m ([.ref (a 0), .int (nI S), .int (nI c), .int (dI u), .int (nI o), .int (dI v)] : List Value).toArray below meth cd s.heap [] 0 0 Q (F0 m 9 ls []) := by
    intro N
    induction N with
    | zero => intro k hm; exact absurd hm (Nat.not_lt_zero _)
    | succ N ih9 =>
      intro k hm9 i9_0 i9_1 ls hl
      refine lv_iload hx hb dX6_held_9 (lv_at hl 0 rfl) ?_
      refine lv_iload hx hb dX6_held_11 (lv_at hl 1 rfl) ?_
      refine rm_cge (tgt := 53) hx hb dX6_held_13 (by decide) (by omega) (by omega) (fun q13 => ?_) (fun q13 => ?_)
      · skip
        refine lv_iconst (v := (nI 0)) hx hb dX6_held_53 (by decide) ?_
        exact hret _ 54 ls (by rw [← i9_1, show ct S 10 - k = 0 by omega]; rfl) dX6_held_54
      · skip
        refine lv_aload_n hx hb dX6_held_16 rfl (lv_at hl 2 rfl) ?_
        refine lv_iload_n hx hb dX6_held_17 rfl (lv_at hl 3 rfl) ?_
        refine lv_iload_n hx hb dX6_held_18 rfl (lv_at hl 4 rfl) ?_
        refine lv_iload_n hx hb dX6_held_19 rfl (lv_at hl 5 rfl) ?_
        refine lv_iload hx hb dX6_held_20 (lv_at hl 0 rfl) ?_
        refine rm_cV (ls := ls) (As := [.int (nI S), .int (nI c), .int (dI u), .int (nI k)]) (rest := []) ⟨hx, hb, hml, hown, hts⟩ (metX6_gapAt l D cA a st im kp nx li isl mv so la cm ld us bl S c u k (by first | assumption | omega) (by first | assumption | omega) (by first | assumption | omega) (by first | assumption | omega) (by first | assumption | omega) (by omega)) (cwX6_gapAt_X6 hts ⟨Nat.le_of_ble_eq_true rfl, Nat.le_of_ble_eq_true rfl⟩) hP hK hN (va_recv hK hP xc5 (q0 := 0) rfl) rfl hl.1 rfl (Nat.le_of_ble_eq_true rfl) dX6_held_22 ⟨Nat.zero_le _, Nat.zero_le _⟩ ?_
        refine lv_aload_n hx hb dX6_held_25 rfl (lv_at hl 2 rfl) ?_
        refine lv_iload_n hx hb dX6_held_26 rfl (lv_at hl 3 rfl) ?_
        refine lv_iload hx hb dX6_held_27 (lv_at hl 6 rfl) ?_
        refine lv_iload hx hb dX6_held_29 (lv_at hl 7 rfl) ?_
        refine lv_iload hx hb dX6_held_31 (lv_at hl 0 rfl) ?_
        refine rm_cV (ls := ls) (As := [.int (nI S), .int (nI o), .int (dI v), .int (nI k)]) (rest := [.int (nI (ga (st 0) S u c k))]) ⟨hx, hb, hml, hown, hts⟩ (metX6_gapAt l D cA a st im kp nx li isl mv so la cm ld us bl S o v k (by first | assumption | omega) (by first | assumption | omega) (by first | assumption | omega) (by first | assumption | omega) (by first | assumption | omega) (by omega)) (cwX6_gapAt_X6 hts ⟨Nat.le_of_ble_eq_true rfl, Nat.le_of_ble_eq_true rfl⟩) hP hK hN (va_recv hK hP xc5 (q0 := 0) rfl) rfl hl.1 rfl (Nat.le_of_ble_eq_true rfl) dX6_held_33 ⟨Nat.zero_le _, Nat.zero_le _⟩ ?_
        refine lv_isub hx hb dX6_held_36 ?_
        refine lv_istore (lv' := [(8, .int ((nI (ga (st 0) S u c k)) - (nI (ga (st 0) S v o k)))), (7, .int (nI k)), (6, .int (nI (ct S 10))), (0, .ref (a 0)), (1, .int (nI S)), (2, .int (nI c)), (3, .int (dI u)), (4, .int (nI o)), (5, .int (dI v))]) hx hb dX6_held_37 hl (by decide) rfl (fun ls hl => ?_)
        refine lv_iload hx hb dX6_held_39 (lv_at hl 0 rfl) ?_
        refine lv_if_eq (tgt := 47) hx hb dX6_held_41 (by decide) (fun q41 => ?_) (fun q41 => ?_)
        · skip
          refine lv_iinc (v := (nI (k + 1))) (lv' := [(7, .int (nI (k + 1))), (8, .int ((nI (ga (st 0) S u c k)) - (nI (ga (st 0) S v o k)))), (6, .int (nI (ct S 10))), (0, .ref (a 0)), (1, .int (nI S)), (2, .int (nI c)), (3, .int (dI u)), (4, .int (nI o)), (5, .int (dI v))]) hx hb dX6_held_47 hl (k := 1) rfl (rm_inc k 1) (by decide) rfl (fun ls hl => ?_)
          refine lv_goto (tgt := 9) hx hb dX6_held_50 (by decide) ?_
          rw [show ct S 10 - k = (ct S 10 - (k + 1)) + 1 by omega] at i9_1
          unfold cpf at i9_1
          rw [if_pos ((nI_sub_0 (Nat.lt_of_le_of_lt (ga_le hne _ _ _) (by omega)) (Nat.lt_of_le_of_lt (ga_le hne _ _ _) (by omega))).mp q41)] at i9_1
          exact ih9 (k + 1) (by omega) (by omega) i9_1 ls (lv_sub hl [0, 2, 3, 4, 5, 6, 7, 8] rfl)
        · skip
          refine lv_iload hx hb dX6_held_44 (lv_at hl 0 rfl) ?_
          exact hret _ 46 ls (by rw [← i9_1, show ct S 10 - k = (ct S 10 - (k + 1)) + 1 by omega]; unfold cpf; rw [if_neg (fun q => q41 ((nI_sub_0 (Nat.lt_of_le_of_lt (ga_le hne _ _ _) (by omega)) (Nat.lt_of_le_of_lt (ga_le hne _ _ _) (by omega))).mpr q))]) dX6_held_46
  exact loop9 _ 0 (Nat.lt_succ_self _) (Nat.zero_le _) rfl ls hl
theorem cwX6_held_X6 {R : Room} {s : State} {args : Array Value} (hts : ∀ w ∈ lw_all, w.before args s = true) (hR : (rmX6_held).frames + 1 ≤ R.frames ∧ 8 + (9 + 11) + (rmX6_held).locals ≤ R.locals) : CallW R s args RX6 RX6 76 yX6_held cX6_held 9 (some .int) (ws_ yX6_held cX6_held 9 (some .int)) rmX6_held 0 0 5 := cwV 5 hts (lw_V q729 q731 qs29 q63 q732) rfl rfl rfl (by decide +kernel) hR
abbrev rmX6_viewWay : Room := { frames := 5, cells := 0, slots := 0, locals := 121 }
set_option maxHeartbeats 4000000 in
theorem metX6_viewWay (l : Launch) (D : va_G) (cA : Nat → ClassId) (a : Nat → Nat) (st im : Nat → Nat) (kp : Nat → Bool) (nx li : Nat → Nat) (isl : Nat → Bool) (mv : Nat → Nat) (so la : Nat → Option Nat) (cm : Nat → Nat) (ld us : Nat) (bl : Bool) (S c : Nat) (hn3 : 3 ≤ st 0) (hn10 : st 0 ≤ 10) (hS : S < 1024) (hne : ne_ (st 0) S) (hc : c < st 0) : RO l yX6_viewWay cX6_viewWay 3 (some .int) rmX6_viewWay [.ref (a 0), .int (nI S), .int (nI c)] (wB D cA (mW a cA st im kp nx li isl mv so la cm ld us bl)) ((dI (sd (st 0) S c))) := by
  refine ro_int rfl (Nat.le_of_ble_eq_true rfl) ?_
  intro p e s m below meth cd Q ls hx hb hml hown hts hB hl hret
  obtain ⟨hP, hK, hN⟩ := hB
  have hown : s.vm.findClass RX6 = some m.cls := hown
  have hl : lv_has ls 3 [(0, .ref (a 0)), (1, .int (nI S)), (2, .int (nI c))] := hl
  refine lv_aload_n hx hb dX6_viewWay_0 rfl (lv_at hl 0 rfl) ?_
  refine lv_iload_n hx hb dX6_viewWay_1 rfl (lv_at hl 1 rfl) ?_
  refine lv_iload_n hx hb dX6_viewWay_2 rfl (lv_at hl 2 rfl) ?_
  refine lv_iconst (v := (nI 1)) hx hb dX6_viewWay_3 (by decide) ?_
  refine lv_iload_n hx hb dX6_viewWay_4 rfl (lv_at hl 2 rfl) ?_
  refine lv_iconst (v := (-1)) hx hb dX6_viewWay_5 (by decide) ?_
  refine rm_cV (ls := ls) (As := [.int (nI S), .int (nI c), .int (dI true), .int (nI c), .int (dI false)]) (rest := []) ⟨hx, hb, hml, hown, hts⟩ (metX6_held l D cA a st im kp nx li isl mv so la cm ld us bl S c true c false (by first | assumption | omega) (by first | assumption | omega) (by first | assumption | omega) (by first | assumption | omega) (by first | assumption | omega) (by first | assumption | omega)) (cwX6_held_X6 hts ⟨Nat.le_of_ble_eq_true rfl, Nat.le_of_ble_eq_true rfl⟩) hP hK hN (va_recv hK hP xc5 (q0 := 0) rfl) rfl hl.1 rfl (Nat.le_of_ble_eq_true rfl) dX6_viewWay_6 ⟨Nat.zero_le _, Nat.zero_le _⟩ ?_
  refine lv_if_gt (tgt := 16) hx hb dX6_viewWay_9 (by decide) (fun q9 => ?_) (fun q9 => ?_)
  · skip
    refine lv_iconst (v := (-1)) hx hb dX6_viewWay_16 (by decide) ?_
    exact hret _ 17 ls (by unfold sd; rw [decide_eq_false (Int32.not_le.mpr q9)]; rfl) dX6_viewWay_17
  · skip
    refine lv_iconst (v := (nI 1)) hx hb dX6_viewWay_12 (by decide) ?_
    refine lv_goto (tgt := 17) hx hb dX6_viewWay_13 (by decide) ?_
    exact hret _ 17 ls (by unfold sd; rw [decide_eq_true (Int32.not_lt.mp q9)]; rfl) dX6_viewWay_17
theorem cwX6_viewWay_X6 {R : Room} {s : State} {args : Array Value} (hts : ∀ w ∈ lw_all, w.before args s = true) (hR : (rmX6_viewWay).frames + 1 ≤ R.frames ∧ 8 + (3 + 11) + (rmX6_viewWay).locals ≤ R.locals) : CallW R s args RX6 RX6 89 yX6_viewWay cX6_viewWay 3 (some .int) (ws_ yX6_viewWay cX6_viewWay 3 (some .int)) rmX6_viewWay 0 0 2 := cwV 2 hts (lw_V q725 q727 qs28 q63 q728) rfl rfl rfl (by decide +kernel) hR
abbrev rmX6_gap : Room := { frames := 6, cells := 0, slots := 0, locals := 143 }
set_option maxHeartbeats 4000000 in
theorem metX6_gap (l : Launch) (D : va_G) (cA : Nat → ClassId) (a : Nat → Nat) (st im : Nat → Nat) (kp : Nat → Bool) (nx li : Nat → Nat) (isl : Nat → Bool) (mv : Nat → Nat) (so la : Nat → Option Nat) (cm : Nat → Nat) (ld us : Nat) (bl : Bool) (v what i : Int32) (hn3 : 3 ≤ st 0) (hn10 : st 0 ≤ 10) (hst : ∀ j, st j < 2 ^ 31) : RO l yX6_gap cX6_gap 7 (some .int) rmX6_gap [.ref (a 0), .int v, .int what, .int i] (wB D cA (mW a cA st im kp nx li isl mv so la cm ld us bl)) ((gapR (st 0) (fun c => st (1 + c)) v what i)) := by
  refine ro_int rfl (Nat.le_of_ble_eq_true rfl) ?_
  intro p e s m below meth cd Q ls hx hb hml hown hts hB hl hret
  obtain ⟨hP, hK, hN⟩ := hB
  have hown : s.vm.findClass RX6 = some m.cls := hown
  have hl : lv_has ls 7 [(0, .ref (a 0)), (1, .int v), (2, .int what), (3, .int i)] := hl
  refine lv_aload_n hx hb dX6_gap_0 rfl (lv_at hl 0 rfl) ?_
  refine lv_iload_n hx hb dX6_gap_1 rfl (lv_at hl 1 rfl) ?_
  refine rm_cV (ls := ls) (As := [.int v]) (rest := []) ⟨hx, hb, hml, hown, hts⟩ (metX6_isStand l D cA a st im kp nx li isl mv so la cm ld us bl v (by first | assumption | omega) (by first | assumption | omega) (by first | assumption | omega)) (cwX6_isStand_X6 hts ⟨Nat.le_of_ble_eq_true rfl, Nat.le_of_ble_eq_true rfl⟩) hP hK hN (va_recv hK hP xc5 (q0 := 0) rfl) rfl hl.1 rfl (Nat.le_of_ble_eq_true rfl) dX6_gap_2 ⟨Nat.zero_le _, Nat.zero_le _⟩ ?_
  refine rm_bne (tgt := 10) hx hb dX6_gap_5 (by decide) (fun q5 => ?_) (fun q5 => ?_)
  · skip
    have hSt : isSt (st 0) (fun c => st (1 + c)) v = true := q5
    refine lv_iload_n hx hb dX6_gap_10 rfl (lv_at hl 2 rfl) ?_
    refine lv_iconst (v := (nI 0)) hx hb dX6_gap_11 (by decide) ?_
    refine lv_iconst (v := (nI 2)) hx hb dX6_gap_12 (by decide) ?_
    refine rm_cS (ls := ls) (As := [.int what, .int (nI 0), .int (nI 2)]) (rest := []) ⟨hx, hb, hml, hown, hts⟩ (metX6_in l what (nI 0) (nI 2) ) (cwX6_in_X6 hts ⟨Nat.le_of_ble_eq_true rfl, Nat.le_of_ble_eq_true rfl⟩) noB rfl hl.1 rfl (Nat.le_of_ble_eq_true rfl) dX6_gap_13 ⟨Nat.zero_le _, Nat.zero_le _⟩ ?_
    refine rm_bne (tgt := 22) hx hb dX6_gap_16 (by decide) (fun q16 => ?_) (fun q16 => ?_)
    · skip
      have hWh : inI 0 2 what = true := q16
      obtain ⟨j, hj, hwj, rfl⟩ := (isSt_iff (by omega)).mp q5
      obtain ⟨t, ht0, ht2, rfl⟩ := (inI_iff (lo := 0) (hi := 2) (by decide) (by decide)).mp q16
      have hS : SS (st 0) (fun c => st (1 + c)) < 1024 := SS_lt _ hn10
      have hne : ne_ (st 0) (SS (st 0) (fun c => st (1 + c))) := SS_ne (w := (fun c => st (1 + c))) hj hwj
      have hct : ct (SS (st 0) (fun c => st (1 + c))) 10 ≤ 10 := ct_le _ 10
      refine lv_aload_n hx hb dX6_gap_22 rfl (lv_at hl 0 rfl) ?_
      refine lv_aload_n hx hb dX6_gap_23 rfl (lv_at hl 0 rfl) ?_
      refine rm_cV (ls := ls) (As := []) (rest := [.ref (a 0)]) ⟨hx, hb, hml, hown, hts⟩ (metX6_now l D cA a st im kp nx li isl mv so la cm ld us bl  (by first | assumption | omega) (by first | assumption | omega) (by first | assumption | omega)) (cwX6_now_X6 hts ⟨Nat.le_of_ble_eq_true rfl, Nat.le_of_ble_eq_true rfl⟩) hP hK hN (va_recv hK hP xc5 (q0 := 0) rfl) rfl hl.1 rfl (Nat.le_of_ble_eq_true rfl) dX6_gap_24 ⟨Nat.zero_le _, Nat.zero_le _⟩ ?_
      refine rm_cV (ls := ls) (As := [.int (nI (cdw (fun c => st (1 + c)) (st 0)))]) (rest := []) ⟨hx, hb, hml, hown, hts⟩ (metX6_standsOf l D cA a st im kp nx li isl mv so la cm ld us bl (cdw (fun c => st (1 + c)) (st 0)) (by first | assumption | omega) (by first | assumption | omega) (Nat.lt_of_lt_of_le (cdw_lt _ _) (Nat.le_trans (p3_le hn10) (by decide)))) (cwX6_standsOf_X6 hts ⟨Nat.le_of_ble_eq_true rfl, Nat.le_of_ble_eq_true rfl⟩) hP hK hN (va_recv hK hP xc5 (q0 := 0) rfl) rfl hl.1 rfl (Nat.le_of_ble_eq_true rfl) dX6_gap_27 ⟨Nat.zero_le _, Nat.zero_le _⟩ ?_
      refine rm_top (y := (nI (SS (st 0) (fun c => st (1 + c))))) (by rw [stS_cdw]) ?_
      refine lv_istore (lv' := [(4, .int (nI (SS (st 0) (fun c => st (1 + c))))), (0, .ref (a 0)), (1, .int (nI j)), (2, .int (nI t)), (3, .int i)]) hx hb dX6_gap_30 hl (by decide) rfl (fun ls hl => ?_)
      refine lv_iload hx hb dX6_gap_32 (lv_at hl 0 rfl) ?_
      refine rm_cS (ls := ls) (As := [.int (nI (SS (st 0) (fun c => st (1 + c))))]) (rest := []) ⟨hx, hb, hml, hown, hts⟩ (metX6_size l (SS (st 0) (fun c => st (1 + c))) (by first | assumption | omega)) (cwX6_size_X6 hts ⟨Nat.le_of_ble_eq_true rfl, Nat.le_of_ble_eq_true rfl⟩) noB rfl hl.1 rfl (Nat.le_of_ble_eq_true rfl) dX6_gap_34 ⟨Nat.zero_le _, Nat.zero_le _⟩ ?_
      refine lv_istore (lv' := [(5, .int (nI (ct (SS (st 0) (fun c => st (1 + c))) 10))), (4, .int (nI (SS (st 0) (fun c => st (1 + c))))), (0, .ref (a 0)), (1, .int (nI j)), (2, .int (nI t)), (3, .int i)]) hx hb dX6_gap_37 hl (by decide) rfl (fun ls hl => ?_)
      refine lv_iload_n hx hb dX6_gap_39 rfl (lv_at hl 5 rfl) ?_
      refine lv_iconst (v := (-1)) hx hb dX6_gap_40 (by decide) ?_
      refine lv_icmp_ne (tgt := 47) hx hb dX6_gap_41 (by decide) (fun q41 => ?_) (fun q41 => ?_)
      · skip
        have join71 : ∀ (ls : Array Slot), lv_has ls 7 [(5, .int (nI (ct (SS (st 0) (fun c => st (1 + c))) 10))), (4, .int (nI (SS (st 0) (fun c => st (1 + c))))), (0, .ref (a 0)), (1, .int (nI j)), (2, .int (nI t)), (3, .int i)] → W p l e rmX6_gap s m ([.ref (a 0), .int (nI j), .int (nI t), .int i] : List Value).toArray below meth cd s.heap [] 0 0 Q (F0 m 71 ls [.int (dI (dirR (st 0) (SS (st 0) (fun c => st (1 + c))) (nI t) j))]) := by
          intro   ls hl
          refine lv_istore (lv' := [(6, .int (dI (dirR (st 0) (SS (st 0) (fun c => st (1 + c))) (nI t) j))), (5, .int (nI (ct (SS (st 0) (fun c => st (1 + c))) 10))), (4, .int (nI (SS (st 0) (fun c => st (1 + c))))), (0, .ref (a 0)), (1, .int (nI j)), (2, .int (nI t)), (3, .int i)]) hx hb dX6_gap_71 hl (by decide) rfl (fun ls hl => ?_)
          refine lv_iload_n hx hb dX6_gap_73 rfl (lv_at hl 6 rfl) ?_
          refine lv_iconst (v := (nI 0)) hx hb dX6_gap_74 (by decide) ?_
          refine lv_iload hx hb dX6_gap_75 (lv_at hl 1 rfl) ?_
          refine lv_iconst (v := (nI 1)) hx hb dX6_gap_77 (by decide) ?_
          refine lv_isub hx hb dX6_gap_78 ?_
          refine rm_cS (ls := ls) (As := [.int i, .int (nI 0), .int ((nI (ct (SS (st 0) (fun c => st (1 + c))) 10)) - (nI 1))]) (rest := []) ⟨hx, hb, hml, hown, hts⟩ (metX6_in l i (nI 0) ((nI (ct (SS (st 0) (fun c => st (1 + c))) 10)) - (nI 1)) ) (cwX6_in_X6 hts ⟨Nat.le_of_ble_eq_true rfl, Nat.le_of_ble_eq_true rfl⟩) noB rfl hl.1 rfl (Nat.le_of_ble_eq_true rfl) dX6_gap_79 ⟨Nat.zero_le _, Nat.zero_le _⟩ ?_
          refine rm_beq (tgt := 98) hx hb dX6_gap_82 (by decide) (fun q82 => ?_) (fun q82 => ?_)
          · skip
            refine lv_bipush (v := (-6)) hx hb dX6_gap_98 (by decide) ?_
            exact hret _ 100 ls (by unfold gapR; rw [hSt, hWh, if_pos rfl, if_pos rfl, if_neg q41, if_neg (by rw [← inL_raw (by omega), q82]; decide)]) dX6_gap_100
          · skip
            obtain ⟨k, hk, rfl⟩ := (inL_iff (by omega)).mp ((inL_raw (by omega)).symm.trans q82)
            refine lv_aload_n hx hb dX6_gap_85 rfl (lv_at hl 3 rfl) ?_
            refine lv_iload hx hb dX6_gap_86 (lv_at hl 2 rfl) ?_
            refine lv_iload_n hx hb dX6_gap_88 rfl (lv_at hl 4 rfl) ?_
            refine lv_iload hx hb dX6_gap_89 (lv_at hl 0 rfl) ?_
            refine lv_iload_n hx hb dX6_gap_91 rfl (lv_at hl 6 rfl) ?_
            refine rm_cV (ls := ls) (As := [.int (nI (SS (st 0) (fun c => st (1 + c)))), .int (nI j), .int (dI (dirR (st 0) (SS (st 0) (fun c => st (1 + c))) (nI t) j)), .int (nI k)]) (rest := []) ⟨hx, hb, hml, hown, hts⟩ (metX6_gapAt l D cA a st im kp nx li isl mv so la cm ld us bl (SS (st 0) (fun c => st (1 + c))) j (dirR (st 0) (SS (st 0) (fun c => st (1 + c))) (nI t) j) k (by first | assumption | omega) (by first | assumption | omega) (by first | assumption | omega) (by first | assumption | omega) (by first | assumption | omega) (by first | assumption | omega)) (cwX6_gapAt_X6 hts ⟨Nat.le_of_ble_eq_true rfl, Nat.le_of_ble_eq_true rfl⟩) hP hK hN (va_recv hK hP xc5 (q0 := 0) rfl) rfl hl.1 rfl (Nat.le_of_ble_eq_true rfl) dX6_gap_92 ⟨Nat.zero_le _, Nat.zero_le _⟩ ?_
            refine lv_goto (tgt := 100) hx hb dX6_gap_95 (by decide) ?_
            exact hret _ 100 ls (by unfold gapR; rw [hSt, hWh, if_pos rfl, if_pos rfl, if_neg q41, if_pos (by rw [← inL_raw (by omega), q82]), nI_clamp (by omega), nI_clamp (by omega)]) dX6_gap_100
        refine lv_iload_n hx hb dX6_gap_47 rfl (lv_at hl 4 rfl) ?_
        refine rm_ine (tgt := 55) hx hb dX6_gap_48 (by decide) (by first | omega | exact hst _) (fun q48 => ?_) (fun q48 => ?_)
        · skip
          refine lv_iload_n hx hb dX6_gap_55 rfl (lv_at hl 4 rfl) ?_
          refine lv_iconst (v := (nI 1)) hx hb dX6_gap_56 (by decide) ?_
          refine rm_cne (tgt := 64) hx hb dX6_gap_57 (by decide) (by first | omega | exact hst _) (by decide) (fun q57 => ?_) (fun q57 => ?_)
          · skip
            refine lv_aload_n hx hb dX6_gap_64 rfl (lv_at hl 2 rfl) ?_
            refine lv_iload hx hb dX6_gap_65 (lv_at hl 1 rfl) ?_
            refine lv_iload_n hx hb dX6_gap_67 rfl (lv_at hl 3 rfl) ?_
            refine rm_cV (ls := ls) (As := [.int (nI (SS (st 0) (fun c => st (1 + c)))), .int (nI j)]) (rest := []) ⟨hx, hb, hml, hown, hts⟩ (metX6_viewWay l D cA a st im kp nx li isl mv so la cm ld us bl (SS (st 0) (fun c => st (1 + c))) j (by first | assumption | omega) (by first | assumption | omega) (by first | assumption | omega) (by first | assumption | omega) (by first | assumption | omega)) (cwX6_viewWay_X6 hts ⟨Nat.le_of_ble_eq_true rfl, Nat.le_of_ble_eq_true rfl⟩) hP hK hN (va_recv hK hP xc5 (q0 := 0) rfl) rfl hl.1 rfl (Nat.le_of_ble_eq_true rfl) dX6_gap_68 ⟨Nat.zero_le _, Nat.zero_le _⟩ ?_
            refine rm_top (y := (dI (dirR (st 0) (SS (st 0) (fun c => st (1 + c))) (nI t) j))) (by unfold dirR; rw [if_neg (by rw [nI_eq (by omega) (by omega)]; omega), if_neg (by rw [nI_eq (by omega) (by omega)]; omega)]) ?_
            exact join71   ls hl
          · skip
            refine lv_iconst (v := (-1)) hx hb dX6_gap_60 (by decide) ?_
            refine lv_goto (tgt := 71) hx hb dX6_gap_61 (by decide) ?_
            refine rm_top (y := (dI (dirR (st 0) (SS (st 0) (fun c => st (1 + c))) (nI t) j))) (by unfold dirR; rw [if_neg (by rw [nI_eq (by omega) (by omega)]; omega), if_pos (by rw [q57])]; rfl) ?_
            exact join71   ls hl
        · skip
          refine lv_iconst (v := (nI 1)) hx hb dX6_gap_51 (by decide) ?_
          refine lv_goto (tgt := 71) hx hb dX6_gap_52 (by decide) ?_
          refine rm_top (y := (dI (dirR (st 0) (SS (st 0) (fun c => st (1 + c))) (nI t) j))) (by unfold dirR; rw [if_pos (by rw [q48])]; rfl) ?_
          exact join71   ls hl
      · skip
        refine lv_iload hx hb dX6_gap_44 (lv_at hl 0 rfl) ?_
        exact hret _ 46 ls (by unfold gapR; rw [hSt, hWh, if_pos rfl, if_pos rfl, if_pos q41]) dX6_gap_46
    · skip
      refine lv_bipush (v := (-2)) hx hb dX6_gap_19 (by decide) ?_
      exact hret _ 21 ls (by unfold gapR; rw [hSt, show inI 0 2 what = false from q16]; rfl) dX6_gap_21
  · skip
    refine lv_iconst (v := (-1)) hx hb dX6_gap_8 (by decide) ?_
    exact hret _ 9 ls (by unfold gapR; rw [q5]; rfl) dX6_gap_9
theorem cwX6_gap_L {R : Room} {s : State} {args : Array Value} (hts : ∀ w ∈ lw_all, w.before args s = true) (hR : (rmX6_gap).frames + 1 ≤ R.frames ∧ 8 + (7 + 11) + (rmX6_gap).locals ≤ R.locals) : CallW R s args "RingMeetsLaw" RX6 27 yX6_gap cX6_gap 7 (some .int) (ws_ yX6_gap cX6_gap 7 (some .int)) rmX6_gap 0 0 3 := cwV 3 hts (lw_V q706 q707 q708 q63 q709) rfl rfl rfl (by decide +kernel) hR
