set_option maxRecDepth 100000

abbrev rmX0_stands : Room := { frames := 1, cells := 0, slots := 0, locals := 23 }
set_option maxHeartbeats 4000000 in
theorem metX0_stands (l : Launch) (D : va_G) (cA : Nat → ClassId) (b ra : Nat → Nat) (cN : Nat → Nat) (cV : Nat → Nat → Nat) (cM : Nat → Nat) (cR : Nat → Nat → Nat) (kp : Nat → Bool) (nu : Nat → Option Nat) (sO tO fS sP : Nat → Nat) (sN lA : Nat → Option Nat) (tG : Nat → Nat)  (hn3 : 3 ≤ cN 0) (hn10 : cN 0 ≤ 10) (hcv : ∀ c, cV 0 c < 2 ^ 31) : RO l yX0_stands cX0_stands 1 (some .int) rmX0_stands [.ref (b 0)] (wB D cA (cW b ra cA cN cV cM cR kp nu sO tO fS sP sN lA tG)) ((nI (SS (cN 0) (cV 0)))) := by
  refine ro_int rfl (Nat.le_of_ble_eq_true rfl) ?_
  intro p e s m below meth cd Q ls hx hb hml hown hts hB hl hret
  obtain ⟨hP, hK, hN⟩ := hB
  have hown : s.vm.findClass RX0 = some m.cls := hown
  have hl : lv_has ls 1 [(0, .ref (b 0))] := hl
  refine lv_aload_n hx hb dX0_stands_0 rfl (lv_at hl 0 rfl) ?_
  refine va_get (D := D) (ci := 0) (v := .ref (b 1)) (C := RX0) (T := TX0) (N := 13) hx hb hts in_X0 hown hK hP 0 rfl xc0 0 (by decide) (hts _ q170) (fun _ h9 => h9) rfl dX0_stands_1 ?_
  refine lv_iconst (v := (nI 1)) hx hb dX0_stands_4 (by decide) ?_
  refine rm_cV (ls := ls) (As := [.int (nI 1)]) (rest := []) ⟨hx, hb, hml, hown, hts⟩ (metX1_with l D cA (b 1) (b 2) (b 3) (cN 0) (cV 0) (cM 0) 1 hn10 hcv (by decide)) (cwX1_with_X0 hts ⟨Nat.le_of_ble_eq_true rfl, Nat.le_of_ble_eq_true rfl⟩) (hP.sub (ws' := dkW (b 1) (b 2) (b 3) cA (cN 0) (cV 0) (cM 0)) [1, 2] rfl) hK hN (va_recv hK hP xc1 (q0 := 1) rfl) rfl hl.1 rfl (Nat.le_of_ble_eq_true rfl) dX0_stands_5 ⟨Nat.zero_le _, Nat.zero_le _⟩ ?_
  exact hret _ 8 ls rfl dX0_stands_8
theorem cwX0_stands_X0 {R : Room} {s : State} {args : Array Value} (hts : ∀ w ∈ lw_all, w.before args s = true) (hR : (rmX0_stands).frames + 1 ≤ R.frames ∧ 8 + (1 + 11) + (rmX0_stands).locals ≤ R.locals) : CallW R s args RX0 RX0 122 yX0_stands cX0_stands 1 (some .int) (ws_ yX0_stands cX0_stands 1 (some .int)) rmX0_stands 0 0 0 := cwV 0 hts (lw_V q249 q251 qs2 q57 q252) rfl rfl rfl (by decide +kernel) hR
abbrev rmX0_isStand : Room := { frames := 2, cells := 0, slots := 0, locals := 46 }
set_option maxHeartbeats 4000000 in
theorem metX0_isStand (l : Launch) (D : va_G) (cA : Nat → ClassId) (b ra : Nat → Nat) (cN : Nat → Nat) (cV : Nat → Nat → Nat) (cM : Nat → Nat) (cR : Nat → Nat → Nat) (kp : Nat → Bool) (nu : Nat → Option Nat) (sO tO fS sP : Nat → Nat) (sN lA : Nat → Option Nat) (tG : Nat → Nat) (v : Int32) (hn3 : 3 ≤ cN 0) (hn10 : cN 0 ≤ 10) (hcv : ∀ c, cV 0 c < 2 ^ 31) : RO l yX0_isStand cX0_isStand 2 (some .boolean) rmX0_isStand [.ref (b 0), .int v] (wB D cA (cW b ra cA cN cV cM cR kp nu sO tO fS sP sN lA tG)) (bI (isSt (cN 0) (cV 0) v)) := by
  refine ro_bool rfl (Nat.le_of_ble_eq_true rfl) ?_
  intro p e s m below meth cd Q ls hx hb hml hown hts hB hl hret
  obtain ⟨hP, hK, hN⟩ := hB
  have hown : s.vm.findClass RX0 = some m.cls := hown
  have hl : lv_has ls 2 [(0, .ref (b 0)), (1, .int v)] := hl
  refine lv_aload_n hx hb dX0_isStand_0 rfl (lv_at hl 0 rfl) ?_
  refine lv_iload_n hx hb dX0_isStand_1 rfl (lv_at hl 1 rfl) ?_
  refine rm_cV (ls := ls) (As := [.int v]) (rest := []) ⟨hx, hb, hml, hown, hts⟩ (metX0_isCell l D cA b ra cN cV cM cR kp nu sO tO fS sP sN lA tG v (by first | assumption | omega) (by first | assumption | omega)) (cwX0_isCell_X0 hts ⟨Nat.le_of_ble_eq_true rfl, Nat.le_of_ble_eq_true rfl⟩) hP hK hN (va_recv hK hP xc0 (q0 := 0) rfl) rfl hl.1 rfl (Nat.le_of_ble_eq_true rfl) dX0_isStand_2 ⟨Nat.zero_le _, Nat.zero_le _⟩ ?_
  refine rm_beq (tgt := 24) hx hb dX0_isStand_5 (by decide) (fun q5 => ?_) (fun q5 => ?_)
  · skip
    refine lv_iconst (v := (nI 0)) hx hb dX0_isStand_24 (by decide) ?_
    exact hret _ 25 ls (by unfold isSt; rw [q5]; rfl) dX0_isStand_25
  · skip
    obtain ⟨j, hj, rfl⟩ := (inL_iff (by omega)).mp q5
    refine lv_aload_n hx hb dX0_isStand_8 rfl (lv_at hl 0 rfl) ?_
    refine va_get (D := D) (ci := 0) (v := .ref (b 1)) (C := RX0) (T := TX0) (N := 13) hx hb hts in_X0 hown hK hP 0 rfl xc0 0 (by decide) (hts _ q170) (fun _ h9 => h9) rfl dX0_isStand_9 ?_
    refine va_getN (D := D) (ci := 1) (v := .ref (b 2)) (C := RX1) (T := TX1) (N := 4) hx hb hts in_X1 hown hK hP 1 rfl xc1 1 (by decide) (va_Nw.use rfl (hN.1 _ q124 rfl)) (fun _ h9 => h9) rfl dX0_isStand_12 ?_
    refine lv_iload_n hx hb dX0_isStand_15 rfl (lv_at hl 1 rfl) ?_
    refine rm_nld hx hb hK hP 2 rfl (by omega) (by decide) dX0_isStand_16 ?_
    refine rm_ile (tgt := 24) hx hb dX0_isStand_17 (by decide) (by first | omega | exact hcv _) (fun q17 => ?_) (fun q17 => ?_)
    · skip
      refine lv_iconst (v := (nI 0)) hx hb dX0_isStand_24 (by decide) ?_
      exact hret _ 25 ls (by unfold isSt; rw [nI_clamp (by omega), decide_eq_false (show ¬ 0 < cV 0 j by omega), Bool.and_false]; rfl) dX0_isStand_25
    · skip
      refine lv_iconst (v := (nI 1)) hx hb dX0_isStand_20 (by decide) ?_
      refine lv_goto (tgt := 25) hx hb dX0_isStand_21 (by decide) ?_
      exact hret _ 25 ls (by unfold isSt; rw [nI_clamp (by omega), q5, decide_eq_true q17]; rfl) dX0_isStand_25
theorem cwX0_isStand_X0 {R : Room} {s : State} {args : Array Value} (hts : ∀ w ∈ lw_all, w.before args s = true) (hR : (rmX0_isStand).frames + 1 ≤ R.frames ∧ 8 + (2 + 11) + (rmX0_isStand).locals ≤ R.locals) : CallW R s args RX0 RX0 117 yX0_isStand cX0_isStand 2 (some .boolean) (ws_ yX0_isStand cX0_isStand 2 (some .boolean)) rmX0_isStand 0 0 1 := cwV 1 hts (lw_V q244 q246 qs1 q57 q247) rfl rfl rfl (by decide +kernel) hR
abbrev rmX0_beyond : Room := { frames := 1, cells := 0, slots := 0, locals := 22 }
set_option maxHeartbeats 4000000 in
theorem metX0_beyond (l : Launch) (D : va_G) (cA : Nat → ClassId) (b ra : Nat → Nat) (cN : Nat → Nat) (cV : Nat → Nat → Nat) (cM : Nat → Nat) (cR : Nat → Nat → Nat) (kp : Nat → Bool) (nu : Nat → Option Nat) (sO tO fS sP : Nat → Nat) (sN lA : Nat → Option Nat) (tG : Nat → Nat) (c : Nat) (way : Int32) (up : Bool) (g : Nat) (hn3 : 3 ≤ cN 0) (hn10 : cN 0 ≤ 10) (hc : c < cN 0) (hg : g ≤ cN 0) (hw : way = dI up * nI g) : RO l yX0_beyond cX0_beyond 3 (some .int) rmX0_beyond [.ref (b 0), .int (nI c), .int way] (wB D cA (cW b ra cA cN cV cM cR kp nu sO tO fS sP sN lA tG)) ((nI (it (cN 0) up c g))) := by
  refine ro_int rfl (Nat.le_of_ble_eq_true rfl) ?_
  intro p e s m below meth cd Q ls hx hb hml hown hts hB hl hret
  obtain ⟨hP, hK, hN⟩ := hB
  have hown : s.vm.findClass RX0 = some m.cls := hown
  have hl : lv_has ls 3 [(0, .ref (b 0)), (1, .int (nI c)), (2, .int way)] := hl
  refine lv_iload_n hx hb dX0_beyond_0 rfl (lv_at hl 1 rfl) ?_
  refine lv_iload_n hx hb dX0_beyond_1 rfl (lv_at hl 2 rfl) ?_
  refine lv_iadd hx hb dX0_beyond_2 ?_
  refine lv_aload_n hx hb dX0_beyond_3 rfl (lv_at hl 0 rfl) ?_
  refine va_get (D := D) (ci := 0) (v := .ref (b 1)) (C := RX0) (T := TX0) (N := 13) hx hb hts in_X0 hown hK hP 0 rfl xc0 0 (by decide) (hts _ q170) (fun _ h9 => h9) rfl dX0_beyond_4 ?_
  refine va_getN (D := D) (ci := 1) (v := .int (nI (cN 0))) (C := RX1) (T := TX1) (N := 4) hx hb hts in_X1 hown hK hP 1 rfl xc1 0 (by decide) (va_Nw.use rfl (hN.1 _ q122 rfl)) (fun _ h9 => h9) rfl dX0_beyond_7 ?_
  refine rm_cS (ls := ls) (As := [.int ((nI c) + way), .int (nI (cN 0))]) (rest := []) ⟨hx, hb, hml, hown, hts⟩ (metJ2_floorMod l ((nI c) + way) (nI (cN 0)) (nI_ne0 (by omega) (by omega))) (cwJ2_floorMod_X0 hts ⟨Nat.le_of_ble_eq_true rfl, Nat.le_of_ble_eq_true rfl⟩) noB rfl hl.1 rfl (Nat.le_of_ble_eq_true rfl) dX0_beyond_10 ⟨Nat.zero_le _, Nat.zero_le _⟩ ?_
  exact hret _ 13 ls (by rw [hw]; exact fm_all _ (by omega) hn3 c hc g (by omega) up) dX0_beyond_13
theorem cwX0_beyond_X0 {R : Room} {s : State} {args : Array Value} (hts : ∀ w ∈ lw_all, w.before args s = true) (hR : (rmX0_beyond).frames + 1 ≤ R.frames ∧ 8 + (3 + 11) + (rmX0_beyond).locals ≤ R.locals) : CallW R s args RX0 RX0 101 yX0_beyond cX0_beyond 3 (some .int) (ws_ yX0_beyond cX0_beyond 3 (some .int)) rmX0_beyond 0 0 2 := cwV 2 hts (lw_V q275 q277 qs6 q57 q278) rfl rfl rfl (by decide +kernel) hR
abbrev rmX0_gapOf : Room := { frames := 2, cells := 0, slots := 0, locals := 44 }
set_option maxHeartbeats 4000000 in
theorem metX0_gapOf (l : Launch) (D : va_G) (cA : Nat → ClassId) (b ra : Nat → Nat) (cN : Nat → Nat) (cV : Nat → Nat → Nat) (cM : Nat → Nat) (cR : Nat → Nat → Nat) (kp : Nat → Bool) (nu : Nat → Option Nat) (sO tO fS sP : Nat → Nat) (sN lA : Nat → Option Nat) (tG : Nat → Nat) (S c : Nat) (up : Bool) (hn3 : 3 ≤ cN 0) (hn10 : cN 0 ≤ 10) (hS : S < 1024) (hne : ne_ (cN 0) S) (hc : c < cN 0) : RO l yX0_gapOf cX0_gapOf 6 (some .int) rmX0_gapOf [.ref (b 0), .int (nI S), .int (nI c), .int (dI up)] (wB D cA (cW b ra cA cN cV cM cR kp nu sO tO fS sP sN lA tG)) ((nI (gp (cN 0) S up c))) := by
  refine ro_int rfl (Nat.le_of_ble_eq_true rfl) ?_
  intro p e s m below meth cd Q ls hx hb hml hown hts hB hl hret
  obtain ⟨hP, hK, hN⟩ := hB
  have hown : s.vm.findClass RX0 = some m.cls := hown
  have hl : lv_has ls 6 [(0, .ref (b 0)), (1, .int (nI S)), (2, .int (nI c)), (3, .int (dI up))] := hl
  obtain ⟨hg1, hg2, hg3, hg4⟩ := gp_spec hne up c
  refine lv_iconst (v := (nI 1)) hx hb dX0_gapOf_0 (by decide) ?_
  refine lv_istore (lv' := [(4, .int (nI 1)), (0, .ref (b 0)), (1, .int (nI S)), (2, .int (nI c)), (3, .int (dI up))]) hx hb dX0_gapOf_1 hl (by decide) rfl (fun ls hl => ?_)
  refine lv_aload_n hx hb dX0_gapOf_3 rfl (lv_at hl 1 rfl) ?_
  refine lv_iload_n hx hb dX0_gapOf_4 rfl (lv_at hl 3 rfl) ?_
  refine lv_iload_n hx hb dX0_gapOf_5 rfl (lv_at hl 4 rfl) ?_
  refine rm_cV (ls := ls) (As := [.int (nI c), .int (dI up)]) (rest := []) ⟨hx, hb, hml, hown, hts⟩ (metX0_beyond l D cA b ra cN cV cM cR kp nu sO tO fS sP sN lA tG c (dI up) up 1 (by first | assumption | omega) (by first | assumption | omega) (by first | assumption | omega) (by first | assumption | omega) (by first | rfl | exact dI_1 _)) (cwX0_beyond_X0 hts ⟨Nat.le_of_ble_eq_true rfl, Nat.le_of_ble_eq_true rfl⟩) hP hK hN (va_recv hK hP xc0 (q0 := 0) rfl) rfl hl.1 rfl (Nat.le_of_ble_eq_true rfl) dX0_gapOf_6 ⟨Nat.zero_le _, Nat.zero_le _⟩ ?_
  refine lv_istore (lv' := [(5, .int (nI (it (cN 0) up c 1))), (4, .int (nI 1)), (0, .ref (b 0)), (1, .int (nI S)), (2, .int (nI c)), (3, .int (dI up))]) hx hb dX0_gapOf_9 hl (by decide) rfl (fun ls hl => ?_)
  have loop11 : ∀ (N : Nat) (k : Nat), gp (cN 0) S up c - k < N → (1 ≤ k) → (k ≤ gp (cN 0) S up c) → ∀ (ls : Array Slot), lv_has ls 6 [(5, .int (nI (it (cN 0) up c k))), (4, .int (nI k)), (0, .ref (b 0)), (1, .int (nI S)), (2, .int (nI c)), (3, .int (dI up))] → W p l e rmX0_gapOf s m ([.ref (b 0), .int (nI S), .int (nI c), .int (dI up)] : List Value).toArray below meth cd s.heap [] 0 0 Q (F0 m 11 ls []) := by
    intro N
    induction N with
    | zero => intro k hm; exact absurd hm (Nat.not_lt_zero _)
    | succ N ih11 =>
      intro k hm11 i11_0 i11_1 ls hl
      refine lv_iload_n hx hb dX0_gapOf_11 rfl (lv_at hl 3 rfl) ?_
      refine lv_iload hx hb dX0_gapOf_12 (lv_at hl 0 rfl) ?_
      have hit : it (cN 0) up c k < cN 0 := it_lt (by omega) _ _ _
      refine rm_ishr hx hb dX0_gapOf_14 (by omega) (by omega) ?_
      refine lv_iconst (v := (nI 1)) hx hb dX0_gapOf_15 (by decide) ?_
      refine rm_bit hx hb dX0_gapOf_16 ?_
      refine rm_bne (tgt := 35) hx hb dX0_gapOf_17 (by decide) (fun q17 => ?_) (fun q17 => ?_)
      · skip
        refine lv_iload hx hb dX0_gapOf_35 (lv_at hl 1 rfl) ?_
        exact hret _ 37 ls (by rw [show k = gp (cN 0) S up c from Nat.le_antisymm i11_1 (Nat.not_lt.mp fun q => by rw [hg4 k i11_0 q] at q17; cases q17)]) dX0_gapOf_37
      · skip
        refine lv_aload_n hx hb dX0_gapOf_20 rfl (lv_at hl 2 rfl) ?_
        refine lv_iload hx hb dX0_gapOf_21 (lv_at hl 0 rfl) ?_
        refine lv_iload_n hx hb dX0_gapOf_23 rfl (lv_at hl 5 rfl) ?_
        refine rm_cV (ls := ls) (As := [.int (nI (it (cN 0) up c k)), .int (dI up)]) (rest := []) ⟨hx, hb, hml, hown, hts⟩ (metX0_beyond l D cA b ra cN cV cM cR kp nu sO tO fS sP sN lA tG (it (cN 0) up c k) (dI up) up 1 (by first | assumption | omega) (by first | assumption | omega) hit (by first | assumption | omega) (by first | rfl | exact dI_1 _)) (cwX0_beyond_X0 hts ⟨Nat.le_of_ble_eq_true rfl, Nat.le_of_ble_eq_true rfl⟩) hP hK hN (va_recv hK hP xc0 (q0 := 0) rfl) rfl hl.1 rfl (Nat.le_of_ble_eq_true rfl) dX0_gapOf_24 ⟨Nat.zero_le _, Nat.zero_le _⟩ ?_
        refine rm_top (y := (nI (it (cN 0) up c (k + 1)))) (by rw [it_add]) ?_
        refine lv_istore (lv' := [(5, .int (nI (it (cN 0) up c (k + 1)))), (4, .int (nI k)), (0, .ref (b 0)), (1, .int (nI S)), (2, .int (nI c)), (3, .int (dI up))]) hx hb dX0_gapOf_27 hl (by decide) rfl (fun ls hl => ?_)
        refine lv_iinc (v := (nI (k + 1))) (lv' := [(4, .int (nI (k + 1))), (5, .int (nI (it (cN 0) up c (k + 1)))), (0, .ref (b 0)), (1, .int (nI S)), (2, .int (nI c)), (3, .int (dI up))]) hx hb dX0_gapOf_29 hl (k := 1) rfl (rm_inc k 1) (by decide) rfl (fun ls hl => ?_)
        refine lv_goto (tgt := 11) hx hb dX0_gapOf_32 (by decide) ?_
        have hk : ¬ k = gp (cN 0) S up c := fun q => by rw [q, hg1] at q17; cases q17
        exact ih11 (k + 1) (by omega) (by omega) (by omega) ls (lv_sub hl [1, 0, 2, 3, 4, 5] rfl)
  exact loop11 _ 1 (Nat.lt_succ_self _) (by omega) (by omega) ls hl
theorem cwX0_gapOf_X0 {R : Room} {s : State} {args : Array Value} (hts : ∀ w ∈ lw_all, w.before args s = true) (hR : (rmX0_gapOf).frames + 1 ≤ R.frames ∧ 8 + (6 + 11) + (rmX0_gapOf).locals ≤ R.locals) : CallW R s args RX0 RX0 104 yX0_gapOf cX0_gapOf 6 (some .int) (ws_ yX0_gapOf cX0_gapOf 6 (some .int)) rmX0_gapOf 0 0 3 := cwV 3 hts (lw_V q271 q273 qs5 q57 q274) rfl rfl rfl (by decide +kernel) hR
abbrev rmX0_gapAt : Room := { frames := 3, cells := 0, slots := 0, locals := 69 }
set_option maxHeartbeats 4000000 in
theorem metX0_gapAt (l : Launch) (D : va_G) (cA : Nat → ClassId) (b ra : Nat → Nat) (cN : Nat → Nat) (cV : Nat → Nat → Nat) (cM : Nat → Nat) (cR : Nat → Nat → Nat) (kp : Nat → Bool) (nu : Nat → Option Nat) (sO tO fS sP : Nat → Nat) (sN lA : Nat → Option Nat) (tG : Nat → Nat) (S c : Nat) (up : Bool) (k : Nat) (hn3 : 3 ≤ cN 0) (hn10 : cN 0 ≤ 10) (hS : S < 1024) (hne : ne_ (cN 0) S) (hc : c < cN 0) (hk : k < 2 ^ 31) : RO l yX0_gapAt cX0_gapAt 7 (some .int) rmX0_gapAt [.ref (b 0), .int (nI S), .int (nI c), .int (dI up), .int (nI k)] (wB D cA (cW b ra cA cN cV cM cR kp nu sO tO fS sP sN lA tG)) ((nI (ga (cN 0) S up c k))) := by
  refine ro_int rfl (Nat.le_of_ble_eq_true rfl) ?_
  intro p e s m below meth cd Q ls hx hb hml hown hts hB hl hret
  obtain ⟨hP, hK, hN⟩ := hB
  have hown : s.vm.findClass RX0 = some m.cls := hown
  have hl : lv_has ls 7 [(0, .ref (b 0)), (1, .int (nI S)), (2, .int (nI c)), (3, .int (dI up)), (4, .int (nI k))] := hl
  refine lv_iload_n hx hb dX0_gapAt_0 rfl (lv_at hl 2 rfl) ?_
  refine lv_istore (lv' := [(5, .int (nI c)), (0, .ref (b 0)), (1, .int (nI S)), (2, .int (nI c)), (3, .int (dI up)), (4, .int (nI k))]) hx hb dX0_gapAt_1 hl (by decide) rfl (fun ls hl => ?_)
  refine lv_iconst (v := (nI 0)) hx hb dX0_gapAt_3 (by decide) ?_
  refine lv_istore (lv' := [(6, .int (nI 0)), (5, .int (nI c)), (0, .ref (b 0)), (1, .int (nI S)), (2, .int (nI c)), (3, .int (dI up)), (4, .int (nI k))]) hx hb dX0_gapAt_4 hl (by decide) rfl (fun ls hl => ?_)
  have loop6 : ∀ (N : Nat) (i : Nat), k - i < N → (i ≤ k) → ∀ (ls : Array Slot), lv_has ls 7 [(6, .int (nI i)), (5, .int (nI (ps (cN 0) S up c i))), (0, .ref (b 0)), (1, .int (nI S)), (2, .int (nI c)), (3, .int (dI up)), (4, .int (nI k))] → W p l e rmX0_gapAt s m ([.ref (b 0), .int (nI S), .int (nI c), .int (dI up), .int (nI k)] : List Value).toArray below meth cd s.heap [] 0 0 Q (F0 m 6 ls []) := by
    intro N
    induction N with
    | zero => intro i hm; exact absurd hm (Nat.not_lt_zero _)
    | succ N ih6 =>
      intro i hm6 i6_0 ls hl
      refine lv_iload hx hb dX0_gapAt_6 (lv_at hl 0 rfl) ?_
      refine lv_iload hx hb dX0_gapAt_8 (lv_at hl 6 rfl) ?_
      refine rm_cge (tgt := 37) hx hb dX0_gapAt_10 (by decide) (by omega) (by omega) (fun q10 => ?_) (fun q10 => ?_)
      · skip
        have hps : ps (cN 0) S up c i < cN 0 := ps_lt (by omega) hc i
        refine lv_aload_n hx hb dX0_gapAt_37 rfl (lv_at hl 2 rfl) ?_
        refine lv_iload_n hx hb dX0_gapAt_38 rfl (lv_at hl 3 rfl) ?_
        refine lv_iload hx hb dX0_gapAt_39 (lv_at hl 1 rfl) ?_
        refine lv_iload_n hx hb dX0_gapAt_41 rfl (lv_at hl 5 rfl) ?_
        refine rm_cV (ls := ls) (As := [.int (nI S), .int (nI (ps (cN 0) S up c i)), .int (dI up)]) (rest := []) ⟨hx, hb, hml, hown, hts⟩ (metX0_gapOf l D cA b ra cN cV cM cR kp nu sO tO fS sP sN lA tG S (ps (cN 0) S up c i) up (by first | assumption | omega) (by first | assumption | omega) (by first | assumption | omega) (by first | assumption | omega) (by first | assumption | omega)) (cwX0_gapOf_X0 hts ⟨Nat.le_of_ble_eq_true rfl, Nat.le_of_ble_eq_true rfl⟩) hP hK hN (va_recv hK hP xc0 (q0 := 0) rfl) rfl hl.1 rfl (Nat.le_of_ble_eq_true rfl) dX0_gapAt_42 ⟨Nat.zero_le _, Nat.zero_le _⟩ ?_
        exact hret _ 45 ls (by rw [show i = k by omega]; rfl) dX0_gapAt_45
      · skip
        have hps : ps (cN 0) S up c i < cN 0 := ps_lt (by omega) hc i
        refine lv_aload_n hx hb dX0_gapAt_13 rfl (lv_at hl 2 rfl) ?_
        refine lv_iload hx hb dX0_gapAt_14 (lv_at hl 1 rfl) ?_
        refine lv_iload_n hx hb dX0_gapAt_16 rfl (lv_at hl 5 rfl) ?_
        refine lv_aload_n hx hb dX0_gapAt_17 rfl (lv_at hl 2 rfl) ?_
        refine lv_iload_n hx hb dX0_gapAt_18 rfl (lv_at hl 3 rfl) ?_
        refine lv_iload hx hb dX0_gapAt_19 (lv_at hl 1 rfl) ?_
        refine lv_iload_n hx hb dX0_gapAt_21 rfl (lv_at hl 5 rfl) ?_
        refine rm_cV (ls := ls) (As := [.int (nI S), .int (nI (ps (cN 0) S up c i)), .int (dI up)]) (rest := [.int (dI up), .int (nI (ps (cN 0) S up c i)), .ref (b 0)]) ⟨hx, hb, hml, hown, hts⟩ (metX0_gapOf l D cA b ra cN cV cM cR kp nu sO tO fS sP sN lA tG S (ps (cN 0) S up c i) up (by first | assumption | omega) (by first | assumption | omega) (by first | assumption | omega) (by first | assumption | omega) (by first | assumption | omega)) (cwX0_gapOf_X0 hts ⟨Nat.le_of_ble_eq_true rfl, Nat.le_of_ble_eq_true rfl⟩) hP hK hN (va_recv hK hP xc0 (q0 := 0) rfl) rfl hl.1 rfl (Nat.le_of_ble_eq_true rfl) dX0_gapAt_22 ⟨Nat.zero_le _, Nat.zero_le _⟩ ?_
        refine lv_imul hx hb dX0_gapAt_25 ?_
        refine rm_cV (ls := ls) (As := [.int (nI (ps (cN 0) S up c i)), .int (dI up * nI (gp (cN 0) S up (ps (cN 0) S up c i)))]) (rest := []) ⟨hx, hb, hml, hown, hts⟩ (metX0_beyond l D cA b ra cN cV cM cR kp nu sO tO fS sP sN lA tG (ps (cN 0) S up c i) (dI up * nI (gp (cN 0) S up (ps (cN 0) S up c i))) up (gp (cN 0) S up (ps (cN 0) S up c i)) (by first | assumption | omega) (by first | assumption | omega) (by first | assumption | omega) (gp_spec hne up _).2.2.1 (by first | rfl | exact dI_1 _)) (cwX0_beyond_X0 hts ⟨Nat.le_of_ble_eq_true rfl, Nat.le_of_ble_eq_true rfl⟩) hP hK hN (va_recv hK hP xc0 (q0 := 0) rfl) rfl hl.1 rfl (Nat.le_of_ble_eq_true rfl) dX0_gapAt_26 ⟨Nat.zero_le _, Nat.zero_le _⟩ ?_
        refine lv_istore (lv' := [(5, .int (nI (it (cN 0) up (ps (cN 0) S up c i) (gp (cN 0) S up (ps (cN 0) S up c i))))), (6, .int (nI i)), (0, .ref (b 0)), (1, .int (nI S)), (2, .int (nI c)), (3, .int (dI up)), (4, .int (nI k))]) hx hb dX0_gapAt_29 hl (by decide) rfl (fun ls hl => ?_)
        refine lv_iinc (v := (nI (i + 1))) (lv' := [(6, .int (nI (i + 1))), (5, .int (nI (it (cN 0) up (ps (cN 0) S up c i) (gp (cN 0) S up (ps (cN 0) S up c i))))), (0, .ref (b 0)), (1, .int (nI S)), (2, .int (nI c)), (3, .int (dI up)), (4, .int (nI k))]) hx hb dX0_gapAt_31 hl (k := 1) rfl (rm_inc i 1) (by decide) rfl (fun ls hl => ?_)
        refine lv_goto (tgt := 6) hx hb dX0_gapAt_34 (by decide) ?_
        exact ih6 (i + 1) (by omega) (by omega) ls hl
  exact loop6 _ 0 (Nat.lt_succ_self _) (by omega) ls hl
theorem cwX0_gapAt_X0 {R : Room} {s : State} {args : Array Value} (hts : ∀ w ∈ lw_all, w.before args s = true) (hR : (rmX0_gapAt).frames + 1 ≤ R.frames ∧ 8 + (7 + 11) + (rmX0_gapAt).locals ≤ R.locals) : CallW R s args RX0 RX0 128 yX0_gapAt cX0_gapAt 7 (some .int) (ws_ yX0_gapAt cX0_gapAt 7 (some .int)) rmX0_gapAt 0 0 4 := cwV 4 hts (lw_V q282 q284 qs7 q57 q285) rfl rfl rfl (by decide +kernel) hR
abbrev rmX0_compared : Room := { frames := 3, cells := 0, slots := 0, locals := 69 }
set_option maxHeartbeats 4000000 in
theorem metX0_compared (l : Launch) (D : va_G) (cA : Nat → ClassId) (b ra : Nat → Nat) (cN : Nat → Nat) (cV : Nat → Nat → Nat) (cM : Nat → Nat) (cR : Nat → Nat → Nat) (kp : Nat → Bool) (nu : Nat → Option Nat) (sO tO fS sP : Nat → Nat) (sN lA : Nat → Option Nat) (tG : Nat → Nat) (S c : Nat) (u : Bool) (o : Nat) (v : Bool) (hn3 : 3 ≤ cN 0) (hn10 : cN 0 ≤ 10) (hS : S < 1024) (hne : ne_ (cN 0) S) (hc : c < cN 0) (ho : o < cN 0) : RO l yX0_compared cX0_compared 11 (some .int) rmX0_compared [.ref (b 0), .int (nI S), .int (nI c), .int (dI u), .int (nI o), .int (dI v)] (wB D cA (cW b ra cA cN cV cM cR kp nu sO tO fS sP sN lA tG)) ((cp (cN 0) S u c v o)) := by
  refine ro_int rfl (Nat.le_of_ble_eq_true rfl) ?_
  intro p e s m below meth cd Q ls hx hb hml hown hts hB hl hret
  obtain ⟨hP, hK, hN⟩ := hB
  have hown : s.vm.findClass RX0 = some m.cls := hown
  have hl : lv_has ls 11 [(0, .ref (b 0)), (1, .int (nI S)), (2, .int (nI c)), (3, .int (dI u)), (4, .int (nI o)), (5, .int (dI v))] := hl
  have hct : ct S 10 ≤ 10 := ct_le S 10
  refine lv_iload_n hx hb dX0_compared_0 rfl (lv_at hl 2 rfl) ?_
  refine lv_istore (lv' := [(6, .int (nI c)), (0, .ref (b 0)), (1, .int (nI S)), (2, .int (nI c)), (3, .int (dI u)), (4, .int (nI o)), (5, .int (dI v))]) hx hb dX0_compared_1 hl (by decide) rfl (fun ls hl => ?_)
  refine lv_iload hx hb dX0_compared_3 (lv_at hl 5 rfl) ?_
  refine lv_istore (lv' := [(7, .int (nI o)), (6, .int (nI c)), (0, .ref (b 0)), (1, .int (nI S)), (2, .int (nI c)), (3, .int (dI u)), (4, .int (nI o)), (5, .int (dI v))]) hx hb dX0_compared_5 hl (by decide) rfl (fun ls hl => ?_)
  refine lv_iload_n hx hb dX0_compared_7 rfl (lv_at hl 3 rfl) ?_
  refine rm_cS (ls := ls) (As := [.int (nI S)]) (rest := []) ⟨hx, hb, hml, hown, hts⟩ (metJ1_bitCount l S (by first | assumption | omega)) (cwJ1_bitCount_X0 hts ⟨Nat.le_of_ble_eq_true rfl, Nat.le_of_ble_eq_true rfl⟩) noB rfl hl.1 rfl (Nat.le_of_ble_eq_true rfl) dX0_compared_8 ⟨Nat.zero_le _, Nat.zero_le _⟩ ?_
  refine lv_istore (lv' := [(8, .int (nI (ct S 10))), (7, .int (nI o)), (6, .int (nI c)), (0, .ref (b 0)), (1, .int (nI S)), (2, .int (nI c)), (3, .int (dI u)), (4, .int (nI o)), (5, .int (dI v))]) hx hb dX0_compared_11 hl (by decide) rfl (fun ls hl => ?_)
  have loop13 : ∀ (N : Nat) (i : Nat), ct S 10 - i < N → (i ≤ ct S 10) → (cpf (cN 0) S u c v o (ct S 10 - i) i = cp (cN 0) S u c v o) → ∀ (ls : Array Slot), lv_has ls 11 [(8, .int (nI (ct S 10 - i))), (6, .int (nI (ps (cN 0) S u c i))), (7, .int (nI (ps (cN 0) S v o i))), (0, .ref (b 0)), (1, .int (nI S)), (2, .int (nI c)), (3, .int (dI u)), (4, .int (nI o)), (5, .int (dI v))] → W p l e rmX0_compared s m ([.ref (b 0), .int (nI S), .int (nI c), .int (dI u), .int (nI o), .int (dI v)] : List Value).toArray below meth cd s.heap [] 0 0 Q (F0 m 13 ls []) := by
    intro N
    induction N with
    | zero => intro i hm; exact absurd hm (Nat.not_lt_zero _)
    | succ N ih13 =>
      intro i hm13 i13_0 i13_1 ls hl
      refine lv_iload hx hb dX0_compared_13 (lv_at hl 0 rfl) ?_
      refine rm_ile (tgt := 83) hx hb dX0_compared_15 (by decide) (by omega) (fun q15 => ?_) (fun q15 => ?_)
      · skip
        refine lv_iconst (v := (nI 0)) hx hb dX0_compared_83 (by decide) ?_
        exact hret _ 84 ls (by rw [← i13_1, q15]; rfl) dX0_compared_84
      · skip
        have hp1 : ps (cN 0) S u c i < cN 0 := ps_lt (by omega) hc i
        have hp2 : ps (cN 0) S v o i < cN 0 := ps_lt (by omega) ho i
        refine lv_aload_n hx hb dX0_compared_18 rfl (lv_at hl 3 rfl) ?_
        refine lv_iload_n hx hb dX0_compared_19 rfl (lv_at hl 4 rfl) ?_
        refine lv_iload hx hb dX0_compared_20 (lv_at hl 1 rfl) ?_
        refine lv_iload_n hx hb dX0_compared_22 rfl (lv_at hl 6 rfl) ?_
        refine rm_cV (ls := ls) (As := [.int (nI S), .int (nI (ps (cN 0) S u c i)), .int (dI u)]) (rest := []) ⟨hx, hb, hml, hown, hts⟩ (metX0_gapOf l D cA b ra cN cV cM cR kp nu sO tO fS sP sN lA tG S (ps (cN 0) S u c i) u (by first | assumption | omega) (by first | assumption | omega) (by first | assumption | omega) (by first | assumption | omega) (by first | assumption | omega)) (cwX0_gapOf_X0 hts ⟨Nat.le_of_ble_eq_true rfl, Nat.le_of_ble_eq_true rfl⟩) hP hK hN (va_recv hK hP xc0 (q0 := 0) rfl) rfl hl.1 rfl (Nat.le_of_ble_eq_true rfl) dX0_compared_23 ⟨Nat.zero_le _, Nat.zero_le _⟩ ?_
        refine rm_top (y := (nI (ga (cN 0) S u c i))) rfl ?_
        refine lv_istore (lv' := [(9, .int (nI (ga (cN 0) S u c i))), (8, .int (nI (ct S 10 - i))), (6, .int (nI (ps (cN 0) S u c i))), (7, .int (nI (ps (cN 0) S v o i))), (0, .ref (b 0)), (1, .int (nI S)), (2, .int (nI c)), (3, .int (dI u)), (4, .int (nI o)), (5, .int (dI v))]) hx hb dX0_compared_26 hl (by decide) rfl (fun ls hl => ?_)
        refine lv_aload_n hx hb dX0_compared_28 rfl (lv_at hl 4 rfl) ?_
        refine lv_iload_n hx hb dX0_compared_29 rfl (lv_at hl 5 rfl) ?_
        refine lv_iload hx hb dX0_compared_30 (lv_at hl 3 rfl) ?_
        refine lv_iload hx hb dX0_compared_32 (lv_at hl 9 rfl) ?_
        refine rm_cV (ls := ls) (As := [.int (nI S), .int (nI (ps (cN 0) S v o i)), .int (dI v)]) (rest := []) ⟨hx, hb, hml, hown, hts⟩ (metX0_gapOf l D cA b ra cN cV cM cR kp nu sO tO fS sP sN lA tG S (ps (cN 0) S v o i) v (by first | assumption | omega) (by first | assumption | omega) (by first | assumption | omega) (by first | assumption | omega) (by first | assumption | omega)) (cwX0_gapOf_X0 hts ⟨Nat.le_of_ble_eq_true rfl, Nat.le_of_ble_eq_true rfl⟩) hP hK hN (va_recv hK hP xc0 (q0 := 0) rfl) rfl hl.1 rfl (Nat.le_of_ble_eq_true rfl) dX0_compared_34 ⟨Nat.zero_le _, Nat.zero_le _⟩ ?_
        refine rm_top (y := (nI (ga (cN 0) S v o i))) rfl ?_
        refine lv_istore (lv' := [(10, .int (nI (ga (cN 0) S v o i))), (9, .int (nI (ga (cN 0) S u c i))), (8, .int (nI (ct S 10 - i))), (6, .int (nI (ps (cN 0) S u c i))), (7, .int (nI (ps (cN 0) S v o i))), (0, .ref (b 0)), (1, .int (nI S)), (2, .int (nI c)), (3, .int (dI u)), (4, .int (nI o)), (5, .int (dI v))]) hx hb dX0_compared_37 hl (by decide) rfl (fun ls hl => ?_)
        refine lv_iload hx hb dX0_compared_39 (lv_at hl 1 rfl) ?_
        refine lv_iload hx hb dX0_compared_41 (lv_at hl 0 rfl) ?_
        refine rm_ceq (tgt := 52) hx hb dX0_compared_43 (by decide) (Nat.lt_of_le_of_lt (ga_le hne _ _ _) (by omega)) (Nat.lt_of_le_of_lt (ga_le hne _ _ _) (by omega)) (fun q43 => ?_) (fun q43 => ?_)
        · skip
          refine lv_aload_n hx hb dX0_compared_52 rfl (lv_at hl 5 rfl) ?_
          refine lv_iload hx hb dX0_compared_53 (lv_at hl 3 rfl) ?_
          refine lv_iload_n hx hb dX0_compared_55 rfl (lv_at hl 8 rfl) ?_
          refine lv_iload hx hb dX0_compared_56 (lv_at hl 1 rfl) ?_
          refine lv_imul hx hb dX0_compared_58 ?_
          refine rm_cV (ls := ls) (As := [.int (nI (ps (cN 0) S u c i)), .int (dI u * nI (ga (cN 0) S u c i))]) (rest := []) ⟨hx, hb, hml, hown, hts⟩ (metX0_beyond l D cA b ra cN cV cM cR kp nu sO tO fS sP sN lA tG (ps (cN 0) S u c i) (dI u * nI (ga (cN 0) S u c i)) u (ga (cN 0) S u c i) (by first | assumption | omega) (by first | assumption | omega) (by first | assumption | omega) (ga_le hne _ _ _) (by first | rfl | exact dI_1 _)) (cwX0_beyond_X0 hts ⟨Nat.le_of_ble_eq_true rfl, Nat.le_of_ble_eq_true rfl⟩) hP hK hN (va_recv hK hP xc0 (q0 := 0) rfl) rfl hl.1 rfl (Nat.le_of_ble_eq_true rfl) dX0_compared_59 ⟨Nat.zero_le _, Nat.zero_le _⟩ ?_
          refine rm_top (y := (nI (ps (cN 0) S u c (i + 1)))) rfl ?_
          refine lv_istore (lv' := [(6, .int (nI (ps (cN 0) S u c (i + 1)))), (10, .int (nI (ga (cN 0) S v o i))), (9, .int (nI (ga (cN 0) S u c i))), (8, .int (nI (ct S 10 - i))), (7, .int (nI (ps (cN 0) S v o i))), (0, .ref (b 0)), (1, .int (nI S)), (2, .int (nI c)), (3, .int (dI u)), (4, .int (nI o)), (5, .int (dI v))]) hx hb dX0_compared_62 hl (by decide) rfl (fun ls hl => ?_)
          refine lv_aload_n hx hb dX0_compared_64 rfl (lv_at hl 5 rfl) ?_
          refine lv_iload hx hb dX0_compared_65 (lv_at hl 4 rfl) ?_
          refine lv_iload hx hb dX0_compared_67 (lv_at hl 10 rfl) ?_
          refine lv_iload hx hb dX0_compared_69 (lv_at hl 1 rfl) ?_
          refine lv_imul hx hb dX0_compared_71 ?_
          refine rm_cV (ls := ls) (As := [.int (nI (ps (cN 0) S v o i)), .int (dI v * nI (ga (cN 0) S v o i))]) (rest := []) ⟨hx, hb, hml, hown, hts⟩ (metX0_beyond l D cA b ra cN cV cM cR kp nu sO tO fS sP sN lA tG (ps (cN 0) S v o i) (dI v * nI (ga (cN 0) S v o i)) v (ga (cN 0) S v o i) (by first | assumption | omega) (by first | assumption | omega) (by first | assumption | omega) (ga_le hne _ _ _) (by first | rfl | exact dI_1 _)) (cwX0_beyond_X0 hts ⟨Nat.le_of_ble_eq_true rfl, Nat.le_of_ble_eq_true rfl⟩) hP hK hN (va_recv hK hP xc0 (q0 := 0) rfl) rfl hl.1 rfl (Nat.le_of_ble_eq_true rfl) dX0_compared_72 ⟨Nat.zero_le _, Nat.zero_le _⟩ ?_
          refine rm_top (y := (nI (ps (cN 0) S v o (i + 1)))) rfl ?_
          refine lv_istore (lv' := [(7, .int (nI (ps (cN 0) S v o (i + 1)))), (6, .int (nI (ps (cN 0) S u c (i + 1)))), (10, .int (nI (ga (cN 0) S v o i))), (9, .int (nI (ga (cN 0) S u c i))), (8, .int (nI (ct S 10 - i))), (0, .ref (b 0)), (1, .int (nI S)), (2, .int (nI c)), (3, .int (dI u)), (4, .int (nI o)), (5, .int (dI v))]) hx hb dX0_compared_75 hl (by decide) rfl (fun ls hl => ?_)
          refine lv_iinc (v := (nI (ct S 10 - (i + 1)))) (lv' := [(8, .int (nI (ct S 10 - (i + 1)))), (7, .int (nI (ps (cN 0) S v o (i + 1)))), (6, .int (nI (ps (cN 0) S u c (i + 1)))), (10, .int (nI (ga (cN 0) S v o i))), (9, .int (nI (ga (cN 0) S u c i))), (0, .ref (b 0)), (1, .int (nI S)), (2, .int (nI c)), (3, .int (dI u)), (4, .int (nI o)), (5, .int (dI v))]) hx hb dX0_compared_77 hl (k := 4) rfl (by rw [show ct S 10 - i = (ct S 10 - (i + 1)) + 1 by omega]; exact rm_dec _) (by decide) rfl (fun ls hl => ?_)
          refine lv_goto (tgt := 13) hx hb dX0_compared_80 (by decide) ?_
          rw [show ct S 10 - i = (ct S 10 - (i + 1)) + 1 by omega] at i13_1
          unfold cpf at i13_1
          rw [if_pos q43] at i13_1
          exact ih13 (i + 1) (by omega) (by omega) i13_1 ls (lv_sub hl [0, 2, 1, 5, 6, 7, 8, 9, 10] rfl)
        · skip
          refine lv_iload hx hb dX0_compared_46 (lv_at hl 1 rfl) ?_
          refine lv_iload hx hb dX0_compared_48 (lv_at hl 0 rfl) ?_
          refine lv_isub hx hb dX0_compared_50 ?_
          exact hret _ 51 ls (by rw [← i13_1, show ct S 10 - i = (ct S 10 - (i + 1)) + 1 by omega]; unfold cpf; rw [if_neg q43]) dX0_compared_51
  exact loop13 _ 0 (Nat.lt_succ_self _) (Nat.zero_le _) rfl ls (lv_sub hl [0, 2, 1, 3, 4, 5, 6, 7, 8] rfl)
theorem cwX0_compared_X0 {R : Room} {s : State} {args : Array Value} (hts : ∀ w ∈ lw_all, w.before args s = true) (hR : (rmX0_compared).frames + 1 ≤ R.frames ∧ 8 + (11 + 11) + (rmX0_compared).locals ≤ R.locals) : CallW R s args RX0 RX0 113 yX0_compared cX0_compared 11 (some .int) (ws_ yX0_compared cX0_compared 11 (some .int)) rmX0_compared 0 0 5 := cwV 5 hts (lw_V q267 q269 qs4 q57 q270) rfl rfl rfl (by decide +kernel) hR
theorem cwX0_compared_X4 {R : Room} {s : State} {args : Array Value} (hts : ∀ w ∈ lw_all, w.before args s = true) (hN : xN s) (hR : (rmX0_compared).frames + 1 ≤ R.frames ∧ 8 + (11 + 11) + (rmX0_compared).locals ≤ R.locals) : va_CN R s args RX4 13 yX0_compared "RingMeets" cX0_compared 11 (some .int) (ws_ yX0_compared cX0_compared 11 (some .int)) rmX0_compared 0 0 5 ∧ (Cond.instanceMethod yX0_compared).before args s = true ∧ (Cond.selects RX0 yX0_compared yX0_compared).before args s = true := ⟨va_cnB 5 hts (lw_meth q270) rfl rfl rfl (hN.1 _ q383 rfl) (hts _ q57) (by decide +kernel) hR, hts _ q269, hts _ qs4⟩
theorem cwX0_compared_X5 {R : Room} {s : State} {args : Array Value} (hts : ∀ w ∈ lw_all, w.before args s = true) (hN : xN s) (hR : (rmX0_compared).frames + 1 ≤ R.frames ∧ 8 + (11 + 11) + (rmX0_compared).locals ≤ R.locals) : va_CN R s args RX5 13 yX0_compared "RingMeets" cX0_compared 11 (some .int) (ws_ yX0_compared cX0_compared 11 (some .int)) rmX0_compared 0 0 5 ∧ (Cond.instanceMethod yX0_compared).before args s = true ∧ (Cond.selects RX0 yX0_compared yX0_compared).before args s = true := ⟨va_cnB 5 hts (lw_meth q270) rfl rfl rfl (hN.1 _ q392 rfl) (hts _ q57) (by decide +kernel) hR, hts _ q269, hts _ qs4⟩
theorem cwX0_compared_X9 {R : Room} {s : State} {args : Array Value} (hts : ∀ w ∈ lw_all, w.before args s = true) (hN : xN s) (hR : (rmX0_compared).frames + 1 ≤ R.frames ∧ 8 + (11 + 11) + (rmX0_compared).locals ≤ R.locals) : va_CN R s args RX9 19 yX0_compared "RingMeets" cX0_compared 11 (some .int) (ws_ yX0_compared cX0_compared 11 (some .int)) rmX0_compared 0 0 5 ∧ (Cond.instanceMethod yX0_compared).before args s = true ∧ (Cond.selects RX0 yX0_compared yX0_compared).before args s = true := ⟨va_cnB 5 hts (lw_meth q270) rfl rfl rfl (hN.1 _ q388 rfl) (hts _ q57) (by decide +kernel) hR, hts _ q269, hts _ qs4⟩
abbrev rmX0_sideOf : Room := { frames := 4, cells := 0, slots := 0, locals := 99 }
set_option maxHeartbeats 4000000 in
theorem metX0_sideOf (l : Launch) (D : va_G) (cA : Nat → ClassId) (b ra : Nat → Nat) (cN : Nat → Nat) (cV : Nat → Nat → Nat) (cM : Nat → Nat) (cR : Nat → Nat → Nat) (kp : Nat → Bool) (nu : Nat → Option Nat) (sO tO fS sP : Nat → Nat) (sN lA : Nat → Option Nat) (tG : Nat → Nat) (S c : Nat) (hn3 : 3 ≤ cN 0) (hn10 : cN 0 ≤ 10) (hS : S < 1024) (hne : ne_ (cN 0) S) (hc : c < cN 0) : RO l yX0_sideOf cX0_sideOf 3 (some .int) rmX0_sideOf [.ref (b 0), .int (nI S), .int (nI c)] (wB D cA (cW b ra cA cN cV cM cR kp nu sO tO fS sP sN lA tG)) ((dI (sd (cN 0) S c))) := by
  refine ro_int rfl (Nat.le_of_ble_eq_true rfl) ?_
  intro p e s m below meth cd Q ls hx hb hml hown hts hB hl hret
  obtain ⟨hP, hK, hN⟩ := hB
  have hown : s.vm.findClass RX0 = some m.cls := hown
  have hl : lv_has ls 3 [(0, .ref (b 0)), (1, .int (nI S)), (2, .int (nI c))] := hl
  refine lv_aload_n hx hb dX0_sideOf_0 rfl (lv_at hl 0 rfl) ?_
  refine lv_iload_n hx hb dX0_sideOf_1 rfl (lv_at hl 1 rfl) ?_
  refine lv_iload_n hx hb dX0_sideOf_2 rfl (lv_at hl 2 rfl) ?_
  refine lv_iconst (v := (nI 1)) hx hb dX0_sideOf_3 (by decide) ?_
  refine lv_iload_n hx hb dX0_sideOf_4 rfl (lv_at hl 2 rfl) ?_
  refine lv_iconst (v := (-1)) hx hb dX0_sideOf_5 (by decide) ?_
  refine rm_cV (ls := ls) (As := [.int (nI S), .int (nI c), .int (dI true), .int (nI c), .int (dI false)]) (rest := []) ⟨hx, hb, hml, hown, hts⟩ (metX0_compared l D cA b ra cN cV cM cR kp nu sO tO fS sP sN lA tG S c true c false (by first | assumption | omega) (by first | assumption | omega) (by first | assumption | omega) (by first | assumption | omega) (by first | assumption | omega) (by first | assumption | omega)) (cwX0_compared_X0 hts ⟨Nat.le_of_ble_eq_true rfl, Nat.le_of_ble_eq_true rfl⟩) hP hK hN (va_recv hK hP xc0 (q0 := 0) rfl) rfl hl.1 rfl (Nat.le_of_ble_eq_true rfl) dX0_sideOf_6 ⟨Nat.zero_le _, Nat.zero_le _⟩ ?_
  refine lv_if_gt (tgt := 16) hx hb dX0_sideOf_9 (by decide) (fun q9 => ?_) (fun q9 => ?_)
  · skip
    refine lv_iconst (v := (-1)) hx hb dX0_sideOf_16 (by decide) ?_
    exact hret _ 17 ls (by unfold sd; rw [decide_eq_false (Int32.not_le.mpr q9)]; rfl) dX0_sideOf_17
  · skip
    refine lv_iconst (v := (nI 1)) hx hb dX0_sideOf_12 (by decide) ?_
    refine lv_goto (tgt := 17) hx hb dX0_sideOf_13 (by decide) ?_
    exact hret _ 17 ls (by unfold sd; rw [decide_eq_true (Int32.not_lt.mp q9)]; rfl) dX0_sideOf_17
theorem cwX0_sideOf_X0 {R : Room} {s : State} {args : Array Value} (hts : ∀ w ∈ lw_all, w.before args s = true) (hR : (rmX0_sideOf).frames + 1 ≤ R.frames ∧ 8 + (3 + 11) + (rmX0_sideOf).locals ≤ R.locals) : CallW R s args RX0 RX0 125 yX0_sideOf cX0_sideOf 3 (some .int) (ws_ yX0_sideOf cX0_sideOf 3 (some .int)) rmX0_sideOf 0 0 2 := cwV 2 hts (lw_V q263 q265 qs3 q57 q266) rfl rfl rfl (by decide +kernel) hR
theorem cwX0_sideOf_X9 {R : Room} {s : State} {args : Array Value} (hts : ∀ w ∈ lw_all, w.before args s = true) (hN : xN s) (hR : (rmX0_sideOf).frames + 1 ≤ R.frames ∧ 8 + (3 + 11) + (rmX0_sideOf).locals ≤ R.locals) : va_CN R s args RX9 13 yX0_sideOf "RingMeets" cX0_sideOf 3 (some .int) (ws_ yX0_sideOf cX0_sideOf 3 (some .int)) rmX0_sideOf 0 0 2 ∧ (Cond.instanceMethod yX0_sideOf).before args s = true ∧ (Cond.selects RX0 yX0_sideOf yX0_sideOf).before args s = true := ⟨va_cnB 2 hts (lw_meth q266) rfl rfl rfl (hN.1 _ q387 rfl) (hts _ q57) (by decide +kernel) hR, hts _ q265, hts _ qs3⟩
abbrev rmX0_gap : Room := { frames := 5, cells := 0, slots := 0, locals := 121 }
set_option maxHeartbeats 4000000 in
theorem metX0_gap (l : Launch) (D : va_G) (cA : Nat → ClassId) (b ra : Nat → Nat) (cN : Nat → Nat) (cV : Nat → Nat → Nat) (cM : Nat → Nat) (cR : Nat → Nat → Nat) (kp : Nat → Bool) (nu : Nat → Option Nat) (sO tO fS sP : Nat → Nat) (sN lA : Nat → Option Nat) (tG : Nat → Nat) (v what i : Int32) (hn3 : 3 ≤ cN 0) (hn10 : cN 0 ≤ 10) (hcv : ∀ c, cV 0 c < 2 ^ 31) : RO l yX0_gap cX0_gap 7 (some .int) rmX0_gap [.ref (b 0), .int v, .int what, .int i] (wB D cA (cW b ra cA cN cV cM cR kp nu sO tO fS sP sN lA tG)) ((gapR (cN 0) (cV 0) v what i)) := by
  refine ro_int rfl (Nat.le_of_ble_eq_true rfl) ?_
  intro p e s m below meth cd Q ls hx hb hml hown hts hB hl hret
  obtain ⟨hP, hK, hN⟩ := hB
  have hown : s.vm.findClass RX0 = some m.cls := hown
  have hl : lv_has ls 7 [(0, .ref (b 0)), (1, .int v), (2, .int what), (3, .int i)] := hl
  refine lv_aload_n hx hb dX0_gap_0 rfl (lv_at hl 0 rfl) ?_
  refine lv_iload_n hx hb dX0_gap_1 rfl (lv_at hl 1 rfl) ?_
  refine rm_cV (ls := ls) (As := [.int v]) (rest := []) ⟨hx, hb, hml, hown, hts⟩ (metX0_isStand l D cA b ra cN cV cM cR kp nu sO tO fS sP sN lA tG v (by first | assumption | omega) (by first | assumption | omega) (by first | assumption | omega)) (cwX0_isStand_X0 hts ⟨Nat.le_of_ble_eq_true rfl, Nat.le_of_ble_eq_true rfl⟩) hP hK hN (va_recv hK hP xc0 (q0 := 0) rfl) rfl hl.1 rfl (Nat.le_of_ble_eq_true rfl) dX0_gap_2 ⟨Nat.zero_le _, Nat.zero_le _⟩ ?_
  refine rm_bne (tgt := 10) hx hb dX0_gap_5 (by decide) (fun q5 => ?_) (fun q5 => ?_)
  · skip
    have hSt : isSt (cN 0) (cV 0) v = true := q5
    refine lv_iload_n hx hb dX0_gap_10 rfl (lv_at hl 2 rfl) ?_
    refine lv_i2l (v := what.toInt64) hx hb dX0_gap_11 rfl ?_
    refine lv_lconst (v := 0) hx hb dX0_gap_12 (by decide) ?_
    refine lv_ldc2 (v := 2) hx hb hown (hts _ q248) dX0_gap_13 ?_
    refine rm_cS (ls := ls) (As := [.long what.toInt64, .long 0, .long 2]) (rest := []) ⟨hx, hb, hml, hown, hts⟩ (metX0_isIn l what.toInt64 0 2 ) (cwX0_isIn_X0 hts ⟨Nat.le_of_ble_eq_true rfl, Nat.le_of_ble_eq_true rfl⟩) noB rfl hl.1 rfl (Nat.le_of_ble_eq_true rfl) dX0_gap_16 ⟨Nat.zero_le _, Nat.zero_le _⟩ ?_
    refine rm_bne (tgt := 25) hx hb dX0_gap_19 (by decide) (fun q19 => ?_) (fun q19 => ?_)
    · skip
      have q19 : inI 0 2 what = true := (isIn_I 0 2 0 2 (by decide) (by decide)).symm.trans q19
      have hWh := q19
      obtain ⟨j, hj, hwj, rfl⟩ := (isSt_iff (by omega)).mp q5
      obtain ⟨t, ht0, ht2, rfl⟩ := (inI_iff (lo := 0) (hi := 2) (by decide) (by decide)).mp q19
      have hS : SS (cN 0) (cV 0) < 1024 := SS_lt _ hn10
      have hne : ne_ (cN 0) (SS (cN 0) (cV 0)) := SS_ne hj hwj
      have hct : ct (SS (cN 0) (cV 0)) 10 ≤ 10 := ct_le _ 10
      refine lv_aload_n hx hb dX0_gap_25 rfl (lv_at hl 0 rfl) ?_
      refine rm_cV (ls := ls) (As := []) (rest := []) ⟨hx, hb, hml, hown, hts⟩ (metX0_stands l D cA b ra cN cV cM cR kp nu sO tO fS sP sN lA tG  (by first | assumption | omega) (by first | assumption | omega) (by first | assumption | omega)) (cwX0_stands_X0 hts ⟨Nat.le_of_ble_eq_true rfl, Nat.le_of_ble_eq_true rfl⟩) hP hK hN (va_recv hK hP xc0 (q0 := 0) rfl) rfl hl.1 rfl (Nat.le_of_ble_eq_true rfl) dX0_gap_26 ⟨Nat.zero_le _, Nat.zero_le _⟩ ?_
      refine lv_istore (lv' := [(4, .int (nI (SS (cN 0) (cV 0)))), (0, .ref (b 0)), (1, .int (nI j)), (2, .int (nI t)), (3, .int i)]) hx hb dX0_gap_29 hl (by decide) rfl (fun ls hl => ?_)
      refine lv_iload hx hb dX0_gap_31 (lv_at hl 0 rfl) ?_
      refine rm_cS (ls := ls) (As := [.int (nI (SS (cN 0) (cV 0)))]) (rest := []) ⟨hx, hb, hml, hown, hts⟩ (metJ1_bitCount l (SS (cN 0) (cV 0)) (by first | assumption | omega)) (cwJ1_bitCount_X0 hts ⟨Nat.le_of_ble_eq_true rfl, Nat.le_of_ble_eq_true rfl⟩) noB rfl hl.1 rfl (Nat.le_of_ble_eq_true rfl) dX0_gap_33 ⟨Nat.zero_le _, Nat.zero_le _⟩ ?_
      refine lv_istore (lv' := [(5, .int (nI (ct (SS (cN 0) (cV 0)) 10))), (4, .int (nI (SS (cN 0) (cV 0)))), (0, .ref (b 0)), (1, .int (nI j)), (2, .int (nI t)), (3, .int i)]) hx hb dX0_gap_36 hl (by decide) rfl (fun ls hl => ?_)
      refine lv_iload_n hx hb dX0_gap_38 rfl (lv_at hl 5 rfl) ?_
      refine lv_iconst (v := (-1)) hx hb dX0_gap_39 (by decide) ?_
      refine lv_icmp_ne (tgt := 46) hx hb dX0_gap_40 (by decide) (fun q40 => ?_) (fun q40 => ?_)
      · skip
        have join70 : ∀ (ls : Array Slot), lv_has ls 7 [(5, .int (nI (ct (SS (cN 0) (cV 0)) 10))), (4, .int (nI (SS (cN 0) (cV 0)))), (0, .ref (b 0)), (1, .int (nI j)), (2, .int (nI t)), (3, .int i)] → W p l e rmX0_gap s m ([.ref (b 0), .int (nI j), .int (nI t), .int i] : List Value).toArray below meth cd s.heap [] 0 0 Q (F0 m 70 ls [.int (dI (dirR (cN 0) (SS (cN 0) (cV 0)) (nI t) j))]) := by
          intro   ls hl
          refine lv_istore (lv' := [(6, .int (dI (dirR (cN 0) (SS (cN 0) (cV 0)) (nI t) j))), (5, .int (nI (ct (SS (cN 0) (cV 0)) 10))), (4, .int (nI (SS (cN 0) (cV 0)))), (0, .ref (b 0)), (1, .int (nI j)), (2, .int (nI t)), (3, .int i)]) hx hb dX0_gap_70 hl (by decide) rfl (fun ls hl => ?_)
          refine lv_iload_n hx hb dX0_gap_72 rfl (lv_at hl 6 rfl) ?_
          refine lv_i2l (v := i.toInt64) hx hb dX0_gap_73 rfl ?_
          refine lv_lconst (v := 0) hx hb dX0_gap_74 (by decide) ?_
          refine lv_iload hx hb dX0_gap_75 (lv_at hl 1 rfl) ?_
          refine lv_i2l (v := (nI (ct (SS (cN 0) (cV 0)) 10)).toInt64) hx hb dX0_gap_77 rfl ?_
          refine lv_lconst (v := 1) hx hb dX0_gap_78 (by decide) ?_
          refine lv_lsub hx hb dX0_gap_79 ?_
          refine rm_cS (ls := ls) (As := [.long i.toInt64, .long 0, .long (((nI (ct (SS (cN 0) (cV 0)) 10)).toInt64) - 1)]) (rest := []) ⟨hx, hb, hml, hown, hts⟩ (metX0_isIn l i.toInt64 0 (((nI (ct (SS (cN 0) (cV 0)) 10)).toInt64) - 1) ) (cwX0_isIn_X0 hts ⟨Nat.le_of_ble_eq_true rfl, Nat.le_of_ble_eq_true rfl⟩) noB rfl hl.1 rfl (Nat.le_of_ble_eq_true rfl) dX0_gap_80 ⟨Nat.zero_le _, Nat.zero_le _⟩ ?_
          refine rm_beq (tgt := 99) hx hb dX0_gap_83 (by decide) (fun q83 => ?_) (fun q83 => ?_)
          · skip
            refine lv_bipush (v := (-6)) hx hb dX0_gap_99 (by decide) ?_
            exact hret _ 101 ls (by unfold gapR; rw [hSt, hWh, if_pos rfl, if_pos rfl, if_neg q40, if_neg (by rw [← isIn_L (by omega), q83]; decide)]) dX0_gap_101
          · skip
            obtain ⟨k, hk, rfl⟩ := (inL_iff (by omega)).mp ((isIn_L (by omega)).symm.trans q83)
            refine lv_aload_n hx hb dX0_gap_86 rfl (lv_at hl 3 rfl) ?_
            refine lv_iload hx hb dX0_gap_87 (lv_at hl 2 rfl) ?_
            refine lv_iload_n hx hb dX0_gap_89 rfl (lv_at hl 4 rfl) ?_
            refine lv_iload hx hb dX0_gap_90 (lv_at hl 0 rfl) ?_
            refine lv_iload_n hx hb dX0_gap_92 rfl (lv_at hl 6 rfl) ?_
            refine rm_cV (ls := ls) (As := [.int (nI (SS (cN 0) (cV 0))), .int (nI j), .int (dI (dirR (cN 0) (SS (cN 0) (cV 0)) (nI t) j)), .int (nI k)]) (rest := []) ⟨hx, hb, hml, hown, hts⟩ (metX0_gapAt l D cA b ra cN cV cM cR kp nu sO tO fS sP sN lA tG (SS (cN 0) (cV 0)) j (dirR (cN 0) (SS (cN 0) (cV 0)) (nI t) j) k (by first | assumption | omega) (by first | assumption | omega) (by first | assumption | omega) (by first | assumption | omega) (by first | assumption | omega) (by first | assumption | omega)) (cwX0_gapAt_X0 hts ⟨Nat.le_of_ble_eq_true rfl, Nat.le_of_ble_eq_true rfl⟩) hP hK hN (va_recv hK hP xc0 (q0 := 0) rfl) rfl hl.1 rfl (Nat.le_of_ble_eq_true rfl) dX0_gap_93 ⟨Nat.zero_le _, Nat.zero_le _⟩ ?_
            refine lv_goto (tgt := 101) hx hb dX0_gap_96 (by decide) ?_
            exact hret _ 101 ls (by unfold gapR; rw [hSt, hWh, if_pos rfl, if_pos rfl, if_neg q40, if_pos (by rw [← isIn_L (by omega), q83]), nI_clamp (by omega), nI_clamp (by omega)]) dX0_gap_101
        refine lv_iload_n hx hb dX0_gap_46 rfl (lv_at hl 4 rfl) ?_
        refine rm_ine (tgt := 54) hx hb dX0_gap_47 (by decide) (by first | omega | exact hcv _) (fun q47 => ?_) (fun q47 => ?_)
        · skip
          refine lv_iload_n hx hb dX0_gap_54 rfl (lv_at hl 4 rfl) ?_
          refine lv_iconst (v := (nI 1)) hx hb dX0_gap_55 (by decide) ?_
          refine rm_cne (tgt := 63) hx hb dX0_gap_56 (by decide) (by first | omega | exact hcv _) (by decide) (fun q56 => ?_) (fun q56 => ?_)
          · skip
            refine lv_aload_n hx hb dX0_gap_63 rfl (lv_at hl 2 rfl) ?_
            refine lv_iload hx hb dX0_gap_64 (lv_at hl 1 rfl) ?_
            refine lv_iload_n hx hb dX0_gap_66 rfl (lv_at hl 3 rfl) ?_
            refine rm_cV (ls := ls) (As := [.int (nI (SS (cN 0) (cV 0))), .int (nI j)]) (rest := []) ⟨hx, hb, hml, hown, hts⟩ (metX0_sideOf l D cA b ra cN cV cM cR kp nu sO tO fS sP sN lA tG (SS (cN 0) (cV 0)) j (by first | assumption | omega) (by first | assumption | omega) (by first | assumption | omega) (by first | assumption | omega) (by first | assumption | omega)) (cwX0_sideOf_X0 hts ⟨Nat.le_of_ble_eq_true rfl, Nat.le_of_ble_eq_true rfl⟩) hP hK hN (va_recv hK hP xc0 (q0 := 0) rfl) rfl hl.1 rfl (Nat.le_of_ble_eq_true rfl) dX0_gap_67 ⟨Nat.zero_le _, Nat.zero_le _⟩ ?_
            refine rm_top (y := (dI (dirR (cN 0) (SS (cN 0) (cV 0)) (nI t) j))) (by unfold dirR; rw [if_neg (by rw [nI_eq (by omega) (by omega)]; omega), if_neg (by rw [nI_eq (by omega) (by omega)]; omega)]) ?_
            exact join70   ls hl
          · skip
            refine lv_iconst (v := (-1)) hx hb dX0_gap_59 (by decide) ?_
            refine lv_goto (tgt := 70) hx hb dX0_gap_60 (by decide) ?_
            refine rm_top (y := (dI (dirR (cN 0) (SS (cN 0) (cV 0)) (nI t) j))) (by unfold dirR; rw [if_neg (by rw [nI_eq (by omega) (by omega)]; omega), if_pos (by rw [q56])]; rfl) ?_
            exact join70   ls hl
        · skip
          refine lv_iconst (v := (nI 1)) hx hb dX0_gap_50 (by decide) ?_
          refine lv_goto (tgt := 70) hx hb dX0_gap_51 (by decide) ?_
          refine rm_top (y := (dI (dirR (cN 0) (SS (cN 0) (cV 0)) (nI t) j))) (by unfold dirR; rw [if_pos (by rw [q47])]; rfl) ?_
          exact join70   ls hl
      · skip
        refine lv_iload hx hb dX0_gap_43 (lv_at hl 0 rfl) ?_
        exact hret _ 45 ls (by unfold gapR; rw [hSt, hWh, if_pos rfl, if_pos rfl, if_pos q40]) dX0_gap_45
    · skip
      refine lv_bipush (v := (-2)) hx hb dX0_gap_22 (by decide) ?_
      exact hret _ 24 ls (by unfold gapR; rw [hSt, show inI 0 2 what = false from (isIn_I 0 2 0 2 (by decide) (by decide)).symm.trans q19]; rfl) dX0_gap_24
  · skip
    refine lv_iconst (v := (-1)) hx hb dX0_gap_8 (by decide) ?_
    exact hret _ 9 ls (by unfold gapR; rw [q5]; rfl) dX0_gap_9
theorem cwX0_gap_L {R : Room} {s : State} {args : Array Value} (hts : ∀ w ∈ lw_all, w.before args s = true) (hR : (rmX0_gap).frames + 1 ≤ R.frames ∧ 8 + (7 + 11) + (rmX0_gap).locals ≤ R.locals) : CallW R s args "RingMeetsLaw" RX0 23 yX0_gap cX0_gap 7 (some .int) (ws_ yX0_gap cX0_gap 7 (some .int)) rmX0_gap 0 0 3 := cwV 3 hts (lw_V q240 q241 q242 q57 q243) rfl rfl rfl (by decide +kernel) hR
abbrev rmX0_of : Room := { frames := 2, cells := 0, slots := 0, locals := 46 }
set_option maxHeartbeats 4000000 in
theorem metX0_of (l : Launch) (D : va_G) (cA : Nat → ClassId) (b ra : Nat → Nat) (cN : Nat → Nat) (cV : Nat → Nat → Nat) (cM : Nat → Nat) (cR : Nat → Nat → Nat) (kp : Nat → Bool) (nu : Nat → Option Nat) (sO tO fS sP : Nat → Nat) (sN lA : Nat → Option Nat) (tG : Nat → Nat) (v what : Int32) (hm : cM 0 ≤ 10) : RO l yX0_of cX0_of 4 (some .int) rmX0_of [.ref (b 0), .int v, .int what] (wB D cA (cW b ra cA cN cV cM cR kp nu sO tO fS sP sN lA tG)) ((ofR (cM 0) cR v what)) := by
  refine ro_int rfl (Nat.le_of_ble_eq_true rfl) ?_
  intro p e s m below meth cd Q ls hx hb hml hown hts hB hl hret
  obtain ⟨hP, hK, hN⟩ := hB
  have hown : s.vm.findClass RX0 = some m.cls := hown
  have hl : lv_has ls 4 [(0, .ref (b 0)), (1, .int v), (2, .int what)] := hl
  refine lv_aload_n hx hb dX0_of_0 rfl (lv_at hl 0 rfl) ?_
  refine lv_iload_n hx hb dX0_of_1 rfl (lv_at hl 1 rfl) ?_
  refine rm_cV (ls := ls) (As := [.int v]) (rest := []) ⟨hx, hb, hml, hown, hts⟩ (metX0_isRule l D cA b ra cN cV cM cR kp nu sO tO fS sP sN lA tG v (by first | assumption | omega)) (cwX0_isRule_X0 hts ⟨Nat.le_of_ble_eq_true rfl, Nat.le_of_ble_eq_true rfl⟩) hP hK hN (va_recv hK hP xc0 (q0 := 0) rfl) rfl hl.1 rfl (Nat.le_of_ble_eq_true rfl) dX0_of_2 ⟨Nat.zero_le _, Nat.zero_le _⟩ ?_
  refine rm_bne (tgt := 10) hx hb dX0_of_5 (by decide) (fun q5 => ?_) (fun q5 => ?_)
  · skip
    have hV : inL (cM 0) v = true := q5
    obtain ⟨j, hj, rfl⟩ := (inL_iff (by omega)).mp q5
    refine lv_aload_n hx hb dX0_of_10 rfl (lv_at hl 0 rfl) ?_
    refine va_get (D := D) (ci := 0) (v := .ref (b 1)) (C := RX0) (T := TX0) (N := 13) hx hb hts in_X0 hown hK hP 0 rfl xc0 0 (by decide) (hts _ q170) (fun _ h9 => h9) rfl dX0_of_11 ?_
    refine va_getN (D := D) (ci := 1) (v := .ref (b 3)) (C := RX1) (T := TX1) (N := 4) hx hb hts in_X1 hown hK hP 1 rfl xc1 2 (by decide) (va_Nw.use rfl (hN.1 _ q126 rfl)) (fun _ h9 => h9) rfl dX0_of_14 ?_
    refine lv_iload_n hx hb dX0_of_17 rfl (lv_at hl 1 rfl) ?_
    refine rm_ald (x := ra j) hx hb hK hP 3 2 rfl (xt2 cA) (by omega) (by decide) rfl dX0_of_18 ?_
    refine lv_astore_n (lv' := [(3, .ref (ra j)), (0, .ref (b 0)), (1, .int (nI j)), (2, .int what)]) hx hb dX0_of_19 rfl hl (by decide) rfl (fun ls hl => ?_)
    refine lv_iload_n hx hb dX0_of_20 rfl (lv_at hl 3 rfl) ?_
    by_cases hsw21 : inI 0 5 what = true
    · obtain ⟨ksw, hk0, hkh, esw⟩ := (inI_iff (by decide) (by decide)).mp hsw21
      have hk : ksw = 0 ∨ ksw = 1 ∨ ksw = 2 ∨ ksw = 3 ∨ ksw = 4 ∨ ksw = 5 := by omega
      rcases hk with rfl | rfl | rfl | rfl | rfl | rfl
      · skip
        subst esw
        refine lv_tableIn (off := 39) (tgt := 60) hx hb dX0_of_21 (by decide) (by decide) (by decide) (by decide) ?_
        refine lv_aload_n hx hb dX0_of_60 rfl (lv_at hl 0 rfl) ?_
        refine va_getN (D := D) (ci := 2) (v := .int (nI (cR j 0))) (C := RX2) (T := TX2) (N := 6) hx hb hts in_X2 hown hK hP (22 + j) (cW_rul (by omega)) xc2 0 (by decide) (va_Nw.use rfl (hN.1 _ q95 rfl)) (fun _ h9 => h9) rfl dX0_of_61 ?_
        exact hret _ 64 ls (by unfold ofR; rw [if_pos hV, nI_clamp (show j < 2 ^ 31 by omega)]; exact sw_ret (F := fun k => nI (cR j k)) hsw21 (by decide) rfl) dX0_of_64
      · skip
        subst esw
        refine lv_tableIn (off := 44) (tgt := 65) hx hb dX0_of_21 (by decide) (by decide) (by decide) (by decide) ?_
        refine lv_aload_n hx hb dX0_of_65 rfl (lv_at hl 0 rfl) ?_
        refine va_getN (D := D) (ci := 2) (v := .int (nI (cR j 1))) (C := RX2) (T := TX2) (N := 6) hx hb hts in_X2 hown hK hP (22 + j) (cW_rul (by omega)) xc2 1 (by decide) (va_Nw.use rfl (hN.1 _ q97 rfl)) (fun _ h9 => h9) rfl dX0_of_66 ?_
        exact hret _ 69 ls (by unfold ofR; rw [if_pos hV, nI_clamp (show j < 2 ^ 31 by omega)]; exact sw_ret (F := fun k => nI (cR j k)) hsw21 (by decide) rfl) dX0_of_69
      · skip
        subst esw
        refine lv_tableIn (off := 49) (tgt := 70) hx hb dX0_of_21 (by decide) (by decide) (by decide) (by decide) ?_
        refine lv_aload_n hx hb dX0_of_70 rfl (lv_at hl 0 rfl) ?_
        refine va_getN (D := D) (ci := 2) (v := .int (nI (cR j 2))) (C := RX2) (T := TX2) (N := 6) hx hb hts in_X2 hown hK hP (22 + j) (cW_rul (by omega)) xc2 2 (by decide) (va_Nw.use rfl (hN.1 _ q99 rfl)) (fun _ h9 => h9) rfl dX0_of_71 ?_
        exact hret _ 74 ls (by unfold ofR; rw [if_pos hV, nI_clamp (show j < 2 ^ 31 by omega)]; exact sw_ret (F := fun k => nI (cR j k)) hsw21 (by decide) rfl) dX0_of_74
      · skip
        subst esw
        refine lv_tableIn (off := 54) (tgt := 75) hx hb dX0_of_21 (by decide) (by decide) (by decide) (by decide) ?_
        refine lv_aload_n hx hb dX0_of_75 rfl (lv_at hl 0 rfl) ?_
        refine va_getN (D := D) (ci := 2) (v := .int (nI (cR j 3))) (C := RX2) (T := TX2) (N := 6) hx hb hts in_X2 hown hK hP (22 + j) (cW_rul (by omega)) xc2 3 (by decide) (va_Nw.use rfl (hN.1 _ q101 rfl)) (fun _ h9 => h9) rfl dX0_of_76 ?_
        exact hret _ 79 ls (by unfold ofR; rw [if_pos hV, nI_clamp (show j < 2 ^ 31 by omega)]; exact sw_ret (F := fun k => nI (cR j k)) hsw21 (by decide) rfl) dX0_of_79
      · skip
        subst esw
        refine lv_tableIn (off := 59) (tgt := 80) hx hb dX0_of_21 (by decide) (by decide) (by decide) (by decide) ?_
        refine lv_aload_n hx hb dX0_of_80 rfl (lv_at hl 0 rfl) ?_
        refine va_getN (D := D) (ci := 2) (v := .int (nI (cR j 4))) (C := RX2) (T := TX2) (N := 6) hx hb hts in_X2 hown hK hP (22 + j) (cW_rul (by omega)) xc2 4 (by decide) (va_Nw.use rfl (hN.1 _ q103 rfl)) (fun _ h9 => h9) rfl dX0_of_81 ?_
        exact hret _ 84 ls (by unfold ofR; rw [if_pos hV, nI_clamp (show j < 2 ^ 31 by omega)]; exact sw_ret (F := fun k => nI (cR j k)) hsw21 (by decide) rfl) dX0_of_84
      · skip
        subst esw
        refine lv_tableIn (off := 64) (tgt := 85) hx hb dX0_of_21 (by decide) (by decide) (by decide) (by decide) ?_
        refine lv_aload_n hx hb dX0_of_85 rfl (lv_at hl 0 rfl) ?_
        refine va_getN (D := D) (ci := 2) (v := .int (nI (cR j 5))) (C := RX2) (T := TX2) (N := 6) hx hb hts in_X2 hown hK hP (22 + j) (cW_rul (by omega)) xc2 5 (by decide) (va_Nw.use rfl (hN.1 _ q105 rfl)) (fun _ h9 => h9) rfl dX0_of_86 ?_
        exact hret _ 89 ls (by unfold ofR; rw [if_pos hV, nI_clamp (show j < 2 ^ 31 by omega)]; exact sw_ret (F := fun k => nI (cR j k)) hsw21 (by decide) rfl) dX0_of_89
    · skip
      refine lv_tableOut (tgt := 90) hx hb dX0_of_21 (sw_out (by decide) (by decide) hsw21) (by decide) ?_
      refine lv_bipush (v := (-2)) hx hb dX0_of_90 (by decide) ?_
      exact hret _ 92 ls (by unfold ofR; rw [if_pos hV, if_neg hsw21]) dX0_of_92
  · skip
    refine lv_iconst (v := (-1)) hx hb dX0_of_8 (by decide) ?_
    exact hret _ 9 ls (by unfold ofR; rw [q5]; rfl) dX0_of_9
theorem cwX0_of_L {R : Room} {s : State} {args : Array Value} (hts : ∀ w ∈ lw_all, w.before args s = true) (hR : (rmX0_of).frames + 1 ≤ R.frames ∧ 8 + (4 + 11) + (rmX0_of).locals ≤ R.locals) : CallW R s args "RingMeetsLaw" RX0 45 yX0_of cX0_of 4 (some .int) (ws_ yX0_of cX0_of 4 (some .int)) rmX0_of 0 0 2 := cwV 2 hts (lw_V q457 q458 q459 q57 q460) rfl rfl rfl (by decide +kernel) hR
abbrev rmX0_fits : Room := { frames := 4, cells := 0, slots := 0, locals := 95 }
set_option maxHeartbeats 4000000 in
theorem metX0_fits (l : Launch) (D : va_G) (cA : Nat → ClassId) (b ra : Nat → Nat) (cN : Nat → Nat) (cV : Nat → Nat → Nat) (cM : Nat → Nat) (cR : Nat → Nat → Nat) (kp : Nat → Bool) (nu : Nat → Option Nat) (sO tO fS sP : Nat → Nat) (sN lA : Nat → Option Nat) (tG : Nat → Nat) (i S c : Nat) (tw : Bool) (hn3 : 3 ≤ cN 0) (hn10 : cN 0 ≤ 10) (hcr : ∀ i k, cR i k < 2 ^ 31) (hS : S < 1024) (hne : ne_ (cN 0) S) (hc : c < cN 0) (hi : i < 30) : RO l yX0_fits cX0_fits 8 (some .boolean) rmX0_fits [.ref (b 0), .ref (ra i), .int (nI S), .int (nI c), .int (dI (sd (cN 0) S c)), .int (bI tw)] (wB D cA (cW b ra cA cN cV cM cR kp nu sO tO fS sP sN lA tG)) (bI (ft (cN 0) S c tw (cR i))) := by
  refine ro_bool rfl (Nat.le_of_ble_eq_true rfl) ?_
  intro p e s m below meth cd Q ls hx hb hml hown hts hB hl hret
  obtain ⟨hP, hK, hN⟩ := hB
  have hown : s.vm.findClass RX0 = some m.cls := hown
  have hl : lv_has ls 8 [(0, .ref (b 0)), (1, .ref (ra i)), (2, .int (nI S)), (3, .int (nI c)), (4, .int (dI (sd (cN 0) S c))), (5, .int (bI tw))] := hl
  have hct : ct S 10 ≤ 10 := ct_le S 10
  refine lv_iload_n hx hb dX0_fits_0 rfl (lv_at hl 2 rfl) ?_
  refine rm_cS (ls := ls) (As := [.int (nI S)]) (rest := []) ⟨hx, hb, hml, hown, hts⟩ (metJ1_bitCount l S (by first | assumption | omega)) (cwJ1_bitCount_X0 hts ⟨Nat.le_of_ble_eq_true rfl, Nat.le_of_ble_eq_true rfl⟩) noB rfl hl.1 rfl (Nat.le_of_ble_eq_true rfl) dX0_fits_1 ⟨Nat.zero_le _, Nat.zero_le _⟩ ?_
  refine lv_istore (lv' := [(6, .int (nI (ct S 10))), (0, .ref (b 0)), (1, .ref (ra i)), (2, .int (nI S)), (3, .int (nI c)), (4, .int (dI (sd (cN 0) S c))), (5, .int (bI tw))]) hx hb dX0_fits_4 hl (by decide) rfl (fun ls hl => ?_)
  have join36 : ∀ (ls : Array Slot), lv_has ls 8 [(6, .int (nI (ct S 10))), (0, .ref (b 0)), (1, .ref (ra i)), (2, .int (nI S)), (3, .int (nI c)), (4, .int (dI (sd (cN 0) S c))), (5, .int (bI tw))] → W p l e rmX0_fits s m ([.ref (b 0), .ref (ra i), .int (nI S), .int (nI c), .int (dI (sd (cN 0) S c)), .int (bI tw)] : List Value).toArray below meth cd s.heap [] 0 0 Q (F0 m 36 ls [.int (bI (cR i 5 == 2 || cR i 5 == tw.toNat))]) := by
    intro   ls hl
    refine lv_istore (lv' := [(7, .int (bI (cR i 5 == 2 || cR i 5 == tw.toNat))), (6, .int (nI (ct S 10))), (0, .ref (b 0)), (1, .ref (ra i)), (2, .int (nI S)), (3, .int (nI c)), (4, .int (dI (sd (cN 0) S c))), (5, .int (bI tw))]) hx hb dX0_fits_36 hl (by decide) rfl (fun ls hl => ?_)
    refine lv_iload hx hb dX0_fits_38 (lv_at hl 0 rfl) ?_
    refine rm_beq (tgt := 91) hx hb dX0_fits_40 (by decide) (fun q40 => ?_) (fun q40 => ?_)
    · skip
      refine lv_iconst (v := (nI 0)) hx hb dX0_fits_91 (by decide) ?_
      exact hret _ 92 ls (by rw [ft_x5 q40]; rfl) dX0_fits_92
    · skip
      have join59 : ((cR i 0 = 0 ∨ cR i 0 = ct S 10)) → ∀ (ls : Array Slot), lv_has ls 8 [(7, .int (bI (cR i 5 == 2 || cR i 5 == tw.toNat))), (6, .int (nI (ct S 10))), (0, .ref (b 0)), (1, .ref (ra i)), (2, .int (nI S)), (3, .int (nI c)), (4, .int (dI (sd (cN 0) S c))), (5, .int (bI tw))] → W p l e rmX0_fits s m ([.ref (b 0), .ref (ra i), .int (nI S), .int (nI c), .int (dI (sd (cN 0) S c)), .int (bI tw)] : List Value).toArray below meth cd s.heap [] 0 0 Q (F0 m 59 ls []) := by
        intro  i59_0 ls hl
        refine lv_aload_n hx hb dX0_fits_59 rfl (lv_at hl 3 rfl) ?_
        refine va_getN (D := D) (ci := 2) (v := .int (nI (cR i 1))) (C := RX2) (T := TX2) (N := 6) hx hb hts in_X2 hown hK hP (22 + i) (cW_rul (by omega)) xc2 1 (by decide) (va_Nw.use rfl (hN.1 _ q97 rfl)) (fun _ h9 => h9) rfl dX0_fits_60 ?_
        refine lv_iload hx hb dX0_fits_63 (lv_at hl 1 rfl) ?_
        refine rm_cge (tgt := 91) hx hb dX0_fits_65 (by decide) (by first | omega | exact hcr _ _) (by first | omega | exact hcr _ _) (fun q65 => ?_) (fun q65 => ?_)
        · skip
          refine lv_iconst (v := (nI 0)) hx hb dX0_fits_91 (by decide) ?_
          exact hret _ 92 ls (by rw [ft_f1 q65]; rfl) dX0_fits_92
        · skip
          refine lv_aload_n hx hb dX0_fits_68 rfl (lv_at hl 3 rfl) ?_
          refine lv_aload_n hx hb dX0_fits_69 rfl (lv_at hl 2 rfl) ?_
          refine lv_iload_n hx hb dX0_fits_70 rfl (lv_at hl 4 rfl) ?_
          refine lv_iload_n hx hb dX0_fits_71 rfl (lv_at hl 5 rfl) ?_
          refine lv_iload hx hb dX0_fits_72 (lv_at hl 6 rfl) ?_
          refine lv_aload_n hx hb dX0_fits_74 rfl (lv_at hl 3 rfl) ?_
          refine va_getN (D := D) (ci := 2) (v := .int (nI (cR i 1))) (C := RX2) (T := TX2) (N := 6) hx hb hts in_X2 hown hK hP (22 + i) (cW_rul (by omega)) xc2 1 (by decide) (va_Nw.use rfl (hN.1 _ q97 rfl)) (fun _ h9 => h9) rfl dX0_fits_75 ?_
          refine rm_cV (ls := ls) (As := [.int (nI S), .int (nI c), .int (dI (sd (cN 0) S c)), .int (nI (cR i 1))]) (rest := [.ref (ra i)]) ⟨hx, hb, hml, hown, hts⟩ (metX0_gapAt l D cA b ra cN cV cM cR kp nu sO tO fS sP sN lA tG S c (sd (cN 0) S c) (cR i 1) (by first | assumption | omega) (by first | assumption | omega) (by first | assumption | omega) (by first | assumption | omega) (by first | assumption | omega) (hcr _ _)) (cwX0_gapAt_X0 hts ⟨Nat.le_of_ble_eq_true rfl, Nat.le_of_ble_eq_true rfl⟩) hP hK hN (va_recv hK hP xc0 (q0 := 0) rfl) rfl hl.1 rfl (Nat.le_of_ble_eq_true rfl) dX0_fits_78 ⟨Nat.zero_le _, Nat.zero_le _⟩ ?_
          refine rm_cV (ls := ls) (As := [.int (nI (ga (cN 0) S (sd (cN 0) S c) c (cR i 1)))]) (rest := []) ⟨hx, hb, hml, hown, hts⟩ (metX2_isSo l D cA (ra i) (cR i) (ga (cN 0) S (sd (cN 0) S c) c (cR i 1)) (hcr _) (Nat.lt_of_le_of_lt (ga_le hne _ _ _) (by omega))) (cwX2_isSo_X0 hts ⟨Nat.le_of_ble_eq_true rfl, Nat.le_of_ble_eq_true rfl⟩) (va_P_one hP (cW_rul (by omega))) hK hN (va_recv hK hP xc2 (q0 := 22 + i) (cW_rul (by omega))) rfl hl.1 rfl (Nat.le_of_ble_eq_true rfl) dX0_fits_81 ⟨Nat.zero_le _, Nat.zero_le _⟩ ?_
          refine rm_beq (tgt := 91) hx hb dX0_fits_84 (by decide) (fun q84 => ?_) (fun q84 => ?_)
          · skip
            refine lv_iconst (v := (nI 0)) hx hb dX0_fits_91 (by decide) ?_
            exact hret _ 92 ls (by rw [ft_x q40 i59_0 q65, q84]; rfl) dX0_fits_92
          · skip
            refine lv_iconst (v := (nI 1)) hx hb dX0_fits_87 (by decide) ?_
            refine lv_goto (tgt := 92) hx hb dX0_fits_88 (by decide) ?_
            exact hret _ 92 ls (by rw [ft_x q40 i59_0 q65, q84]; rfl) dX0_fits_92
      refine lv_aload_n hx hb dX0_fits_43 rfl (lv_at hl 3 rfl) ?_
      refine va_getN (D := D) (ci := 2) (v := .int (nI (cR i 0))) (C := RX2) (T := TX2) (N := 6) hx hb hts in_X2 hown hK hP (22 + i) (cW_rul (by omega)) xc2 0 (by decide) (va_Nw.use rfl (hN.1 _ q95 rfl)) (fun _ h9 => h9) rfl dX0_fits_44 ?_
      refine rm_ieq (tgt := 59) hx hb dX0_fits_47 (by decide) (by first | omega | exact hcr _ _) (fun q47 => ?_) (fun q47 => ?_)
      · skip
        exact join59  (Or.inl q47) ls hl
      · skip
        refine lv_aload_n hx hb dX0_fits_50 rfl (lv_at hl 3 rfl) ?_
        refine va_getN (D := D) (ci := 2) (v := .int (nI (cR i 0))) (C := RX2) (T := TX2) (N := 6) hx hb hts in_X2 hown hK hP (22 + i) (cW_rul (by omega)) xc2 0 (by decide) (va_Nw.use rfl (hN.1 _ q95 rfl)) (fun _ h9 => h9) rfl dX0_fits_51 ?_
        refine lv_iload hx hb dX0_fits_54 (lv_at hl 1 rfl) ?_
        refine rm_cne (tgt := 91) hx hb dX0_fits_56 (by decide) (by first | omega | exact hcr _ _) (by first | omega | exact hcr _ _) (fun q56 => ?_) (fun q56 => ?_)
        · skip
          refine lv_iconst (v := (nI 0)) hx hb dX0_fits_91 (by decide) ?_
          exact hret _ 92 ls (by rw [ft_f0 q47 q56]; rfl) dX0_fits_92
        · skip
          exact join59  (Or.inr q56) ls hl
  refine lv_aload_n hx hb dX0_fits_6 rfl (lv_at hl 2 rfl) ?_
  refine va_getN (D := D) (ci := 2) (v := .int (nI (cR i 5))) (C := RX2) (T := TX2) (N := 6) hx hb hts in_X2 hown hK hP (22 + i) (cW_rul (by omega)) xc2 5 (by decide) (va_Nw.use rfl (hN.1 _ q105 rfl)) (fun _ h9 => h9) rfl dX0_fits_7 ?_
  refine lv_iconst (v := (nI 2)) hx hb dX0_fits_10 (by decide) ?_
  refine rm_ceq (tgt := 31) hx hb dX0_fits_11 (by decide) (by first | omega | exact hcr _ _) (by decide) (fun q11 => ?_) (fun q11 => ?_)
  · skip
    refine lv_iconst (v := (nI 1)) hx hb dX0_fits_31 (by decide) ?_
    refine lv_goto (tgt := 36) hx hb dX0_fits_32 (by decide) ?_
    refine rm_top (y := (bI (cR i 5 == 2 || cR i 5 == tw.toNat))) (by rw [q11]; rfl) ?_
    exact join36   ls hl
  · skip
    refine lv_aload_n hx hb dX0_fits_14 rfl (lv_at hl 2 rfl) ?_
    refine va_getN (D := D) (ci := 2) (v := .int (nI (cR i 5))) (C := RX2) (T := TX2) (N := 6) hx hb hts in_X2 hown hK hP (22 + i) (cW_rul (by omega)) xc2 5 (by decide) (va_Nw.use rfl (hN.1 _ q105 rfl)) (fun _ h9 => h9) rfl dX0_fits_15 ?_
    have join28 : ∀ (ls : Array Slot), lv_has ls 8 [(6, .int (nI (ct S 10))), (0, .ref (b 0)), (1, .ref (ra i)), (2, .int (nI S)), (3, .int (nI c)), (4, .int (dI (sd (cN 0) S c))), (5, .int (bI tw))] → W p l e rmX0_fits s m ([.ref (b 0), .ref (ra i), .int (nI S), .int (nI c), .int (dI (sd (cN 0) S c)), .int (bI tw)] : List Value).toArray below meth cd s.heap [] 0 0 Q (F0 m 28 ls [.int (nI tw.toNat), .int (nI (cR i 5))]) := by
      intro   ls hl
      refine rm_cne (tgt := 35) hx hb dX0_fits_28 (by decide) (by first | omega | exact hcr _ _) (Nat.lt_of_le_of_lt (Bool.toNat_le _) (by decide)) (fun q28 => ?_) (fun q28 => ?_)
      · skip
        refine lv_iconst (v := (nI 0)) hx hb dX0_fits_35 (by decide) ?_
        refine rm_top (y := (bI (cR i 5 == 2 || cR i 5 == tw.toNat))) (by rw [show (cR i 5 == 2) = false from beq_eq_false_iff_ne.mpr q11, show (cR i 5 == tw.toNat) = false from beq_eq_false_iff_ne.mpr q28]; rfl) ?_
        exact join36   ls hl
      · skip
        refine lv_iconst (v := (nI 1)) hx hb dX0_fits_31 (by decide) ?_
        refine lv_goto (tgt := 36) hx hb dX0_fits_32 (by decide) ?_
        refine rm_top (y := (bI (cR i 5 == 2 || cR i 5 == tw.toNat))) (by rw [show (cR i 5 == tw.toNat) = true from beq_iff_eq.mpr q28, Bool.or_true]; rfl) ?_
        exact join36   ls hl
    refine lv_iload hx hb dX0_fits_18 (lv_at hl 6 rfl) ?_
    refine rm_beq (tgt := 27) hx hb dX0_fits_20 (by decide) (fun q20 => ?_) (fun q20 => ?_)
    · skip
      refine lv_iconst (v := (nI 0)) hx hb dX0_fits_27 (by decide) ?_
      refine rm_top (y := (nI tw.toNat)) (by rw [q20]; rfl) ?_
      exact join28   ls hl
    · skip
      refine lv_iconst (v := (nI 1)) hx hb dX0_fits_23 (by decide) ?_
      refine lv_goto (tgt := 28) hx hb dX0_fits_24 (by decide) ?_
      refine rm_top (y := (nI tw.toNat)) (by rw [q20]; rfl) ?_
      exact join28   ls hl
theorem cwX0_fits_X0 {R : Room} {s : State} {args : Array Value} (hts : ∀ w ∈ lw_all, w.before args s = true) (hR : (rmX0_fits).frames + 1 ≤ R.frames ∧ 8 + (8 + 11) + (rmX0_fits).locals ≤ R.locals) : CallW R s args RX0 RX0 219 yX0_fits cX0_fits 8 (some .boolean) (ws_ yX0_fits cX0_fits 8 (some .boolean)) rmX0_fits 0 0 5 := cwV 5 hts (lw_V q469 q471 qs14 q57 q472) rfl rfl rfl (by decide +kernel) hR
abbrev rmX0_ruleOf : Room := { frames := 5, cells := 0, slots := 0, locals := 122 }
set_option maxHeartbeats 4000000 in
theorem metX0_ruleOf (l : Launch) (D : va_G) (cA : Nat → ClassId) (b ra : Nat → Nat) (cN : Nat → Nat) (cV : Nat → Nat → Nat) (cM : Nat → Nat) (cR : Nat → Nat → Nat) (kp : Nat → Bool) (nu : Nat → Option Nat) (sO tO fS sP : Nat → Nat) (sN lA : Nat → Option Nat) (tG : Nat → Nat) (S T c : Nat) (hn3 : 3 ≤ cN 0) (hn10 : cN 0 ≤ 10) (hcr : ∀ i k, cR i k < 2 ^ 31) (hS : S < 1024) (hne : ne_ (cN 0) S) (hT : T < 1024) (hc : c < cN 0) (hm : cM 0 ≤ 10) : RO l yX0_ruleOf cX0_ruleOf 6 (some .int) rmX0_ruleOf [.ref (b 0), .int (nI S), .int (nI T), .int (nI c)] (wB D cA (cW b ra cA cN cV cM cR kp nu sO tO fS sP sN lA tG)) ((oI (rl (cN 0) S c (Nat.testBit T c) (cM 0) cR))) := by
  refine ro_int rfl (Nat.le_of_ble_eq_true rfl) ?_
  intro p e s m below meth cd Q ls hx hb hml hown hts hB hl hret
  obtain ⟨hP, hK, hN⟩ := hB
  have hown : s.vm.findClass RX0 = some m.cls := hown
  have hl : lv_has ls 6 [(0, .ref (b 0)), (1, .int (nI S)), (2, .int (nI T)), (3, .int (nI c))] := hl
  refine lv_aload_n hx hb dX0_ruleOf_0 rfl (lv_at hl 0 rfl) ?_
  refine lv_iload_n hx hb dX0_ruleOf_1 rfl (lv_at hl 1 rfl) ?_
  refine lv_iload_n hx hb dX0_ruleOf_2 rfl (lv_at hl 3 rfl) ?_
  refine rm_cV (ls := ls) (As := [.int (nI S), .int (nI c)]) (rest := []) ⟨hx, hb, hml, hown, hts⟩ (metX0_sideOf l D cA b ra cN cV cM cR kp nu sO tO fS sP sN lA tG S c (by first | assumption | omega) (by first | assumption | omega) (by first | assumption | omega) (by first | assumption | omega) (by first | assumption | omega)) (cwX0_sideOf_X0 hts ⟨Nat.le_of_ble_eq_true rfl, Nat.le_of_ble_eq_true rfl⟩) hP hK hN (va_recv hK hP xc0 (q0 := 0) rfl) rfl hl.1 rfl (Nat.le_of_ble_eq_true rfl) dX0_ruleOf_3 ⟨Nat.zero_le _, Nat.zero_le _⟩ ?_
  refine lv_istore (lv' := [(4, .int (dI (sd (cN 0) S c))), (0, .ref (b 0)), (1, .int (nI S)), (2, .int (nI T)), (3, .int (nI c))]) hx hb dX0_ruleOf_6 hl (by decide) rfl (fun ls hl => ?_)
  refine lv_iconst (v := (nI 0)) hx hb dX0_ruleOf_8 (by decide) ?_
  refine lv_istore (lv' := [(5, .int (nI 0)), (4, .int (dI (sd (cN 0) S c))), (0, .ref (b 0)), (1, .int (nI S)), (2, .int (nI T)), (3, .int (nI c))]) hx hb dX0_ruleOf_9 hl (by decide) rfl (fun ls hl => ?_)
  have loop11 : ∀ (N : Nat) (r : Nat), cM 0 - r < N → (r ≤ cM 0) → (fst_ (fun r => ft (cN 0) S c (Nat.testBit T c) (cR r)) (cM 0 - r) r = rl (cN 0) S c (Nat.testBit T c) (cM 0) cR) → ∀ (ls : Array Slot), lv_has ls 6 [(5, .int (nI r)), (4, .int (dI (sd (cN 0) S c))), (0, .ref (b 0)), (1, .int (nI S)), (2, .int (nI T)), (3, .int (nI c))] → W p l e rmX0_ruleOf s m ([.ref (b 0), .int (nI S), .int (nI T), .int (nI c)] : List Value).toArray below meth cd s.heap [] 0 0 Q (F0 m 11 ls []) := by
    intro N
    induction N with
    | zero => intro r hm; exact absurd hm (Nat.not_lt_zero _)
    | succ N ih11 =>
      intro r hm11 i11_0 i11_1 ls hl
      refine lv_iload hx hb dX0_ruleOf_11 (lv_at hl 0 rfl) ?_
      refine lv_aload_n hx hb dX0_ruleOf_13 rfl (lv_at hl 2 rfl) ?_
      refine va_get (D := D) (ci := 0) (v := .ref (b 1)) (C := RX0) (T := TX0) (N := 13) hx hb hts in_X0 hown hK hP 0 rfl xc0 0 (by decide) (hts _ q170) (fun _ h9 => h9) rfl dX0_ruleOf_14 ?_
      refine va_getN (D := D) (ci := 1) (v := .int (nI (cM 0))) (C := RX1) (T := TX1) (N := 4) hx hb hts in_X1 hown hK hP 1 rfl xc1 3 (by decide) (va_Nw.use rfl (hN.1 _ q128 rfl)) (fun _ h9 => h9) rfl dX0_ruleOf_17 ?_
      refine rm_cge (tgt := 67) hx hb dX0_ruleOf_20 (by decide) (by omega) (by omega) (fun q20 => ?_) (fun q20 => ?_)
      · skip
        refine lv_bipush (v := (-6)) hx hb dX0_ruleOf_67 (by decide) ?_
        exact hret _ 69 ls (by rw [← i11_1, show cM 0 - r = 0 by omega]; rfl) dX0_ruleOf_69
      · skip
        refine lv_aload_n hx hb dX0_ruleOf_23 rfl (lv_at hl 2 rfl) ?_
        refine lv_aload_n hx hb dX0_ruleOf_24 rfl (lv_at hl 2 rfl) ?_
        refine va_get (D := D) (ci := 0) (v := .ref (b 1)) (C := RX0) (T := TX0) (N := 13) hx hb hts in_X0 hown hK hP 0 rfl xc0 0 (by decide) (hts _ q170) (fun _ h9 => h9) rfl dX0_ruleOf_25 ?_
        refine va_getN (D := D) (ci := 1) (v := .ref (b 3)) (C := RX1) (T := TX1) (N := 4) hx hb hts in_X1 hown hK hP 1 rfl xc1 2 (by decide) (va_Nw.use rfl (hN.1 _ q126 rfl)) (fun _ h9 => h9) rfl dX0_ruleOf_28 ?_
        refine lv_iload hx hb dX0_ruleOf_31 (lv_at hl 0 rfl) ?_
        refine rm_ald (x := ra r) hx hb hK hP 3 2 rfl (xt2 cA) (by omega) (by decide) rfl dX0_ruleOf_33 ?_
        refine lv_iload_n hx hb dX0_ruleOf_34 rfl (lv_at hl 3 rfl) ?_
        refine lv_iload_n hx hb dX0_ruleOf_35 rfl (lv_at hl 5 rfl) ?_
        refine lv_iload hx hb dX0_ruleOf_36 (lv_at hl 1 rfl) ?_
        have join52 : ∀ (ls : Array Slot), lv_has ls 6 [(5, .int (nI r)), (4, .int (dI (sd (cN 0) S c))), (0, .ref (b 0)), (1, .int (nI S)), (2, .int (nI T)), (3, .int (nI c))] → W p l e rmX0_ruleOf s m ([.ref (b 0), .int (nI S), .int (nI T), .int (nI c)] : List Value).toArray below meth cd s.heap [] 0 0 Q (F0 m 52 ls [.int (bI (Nat.testBit T c)), .int (dI (sd (cN 0) S c)), .int (nI c), .int (nI S), .ref (ra r), .ref (b 0)]) := by
          intro   ls hl
          refine rm_cV (ls := ls) (As := [.ref (ra r), .int (nI S), .int (nI c), .int (dI (sd (cN 0) S c)), .int (bI (Nat.testBit T c))]) (rest := []) ⟨hx, hb, hml, hown, hts⟩ (metX0_fits l D cA b ra cN cV cM cR kp nu sO tO fS sP sN lA tG r S c (Nat.testBit T c) (by first | assumption | omega) (by first | assumption | omega) (by first | assumption | omega) (by first | assumption | omega) (by first | assumption | omega) (by first | assumption | omega) (by omega)) (cwX0_fits_X0 hts ⟨Nat.le_of_ble_eq_true rfl, Nat.le_of_ble_eq_true rfl⟩) hP hK hN (va_recv hK hP xc0 (q0 := 0) rfl) rfl hl.1 rfl (Nat.le_of_ble_eq_true rfl) dX0_ruleOf_52 ⟨Nat.zero_le _, Nat.zero_le _⟩ ?_
          refine rm_beq (tgt := 61) hx hb dX0_ruleOf_55 (by decide) (fun q55 => ?_) (fun q55 => ?_)
          · skip
            refine lv_iinc (v := (nI (r + 1))) (lv' := [(5, .int (nI (r + 1))), (4, .int (dI (sd (cN 0) S c))), (0, .ref (b 0)), (1, .int (nI S)), (2, .int (nI T)), (3, .int (nI c))]) hx hb dX0_ruleOf_61 hl (k := 0) rfl (rm_inc r 1) (by decide) rfl (fun ls hl => ?_)
            refine lv_goto (tgt := 11) hx hb dX0_ruleOf_64 (by decide) ?_
            rw [show cM 0 - r = (cM 0 - (r + 1)) + 1 by omega, fst_succ, if_neg (by rw [q55]; decide)] at i11_1
            exact ih11 (r + 1) (by omega) (by omega) i11_1 ls hl
          · skip
            refine lv_iload hx hb dX0_ruleOf_58 (lv_at hl 0 rfl) ?_
            exact hret _ 60 ls (by rw [← i11_1, show cM 0 - r = (cM 0 - (r + 1)) + 1 by omega, fst_succ, if_pos q55]; rfl) dX0_ruleOf_60
        refine lv_iload_n hx hb dX0_ruleOf_38 rfl (lv_at hl 4 rfl) ?_
        refine lv_iload_n hx hb dX0_ruleOf_39 rfl (lv_at hl 5 rfl) ?_
        refine rm_ishr hx hb dX0_ruleOf_40 (by omega) (by omega) ?_
        refine lv_iconst (v := (nI 1)) hx hb dX0_ruleOf_41 (by decide) ?_
        refine rm_bit hx hb dX0_ruleOf_42 ?_
        refine lv_iconst (v := (nI 1)) hx hb dX0_ruleOf_43 (by decide) ?_
        refine rm_b1ne (tgt := 51) hx hb dX0_ruleOf_44 (by decide) (fun q44 => ?_) (fun q44 => ?_)
        · skip
          refine lv_iconst (v := (nI 0)) hx hb dX0_ruleOf_51 (by decide) ?_
          refine rm_top (y := (bI (Nat.testBit T c))) (by rw [q44]; rfl) ?_
          exact join52   ls hl
        · skip
          refine lv_iconst (v := (nI 1)) hx hb dX0_ruleOf_47 (by decide) ?_
          refine lv_goto (tgt := 52) hx hb dX0_ruleOf_48 (by decide) ?_
          refine rm_top (y := (bI (Nat.testBit T c))) (by rw [q44]; rfl) ?_
          exact join52   ls hl
  exact loop11 _ 0 (Nat.lt_succ_self _) (Nat.zero_le _) rfl ls hl
theorem cwX0_ruleOf_X0 {R : Room} {s : State} {args : Array Value} (hts : ∀ w ∈ lw_all, w.before args s = true) (hR : (rmX0_ruleOf).frames + 1 ≤ R.frames ∧ 8 + (6 + 11) + (rmX0_ruleOf).locals ≤ R.locals) : CallW R s args RX0 RX0 223 yX0_ruleOf cX0_ruleOf 6 (some .int) (ws_ yX0_ruleOf cX0_ruleOf 6 (some .int)) rmX0_ruleOf 0 0 3 := cwV 3 hts (lw_V q465 q467 qs13 q57 q468) rfl rfl rfl (by decide +kernel) hR
theorem cwX0_ruleOf_X10 {R : Room} {s : State} {args : Array Value} (hts : ∀ w ∈ lw_all, w.before args s = true) (hN : xN s) (hR : (rmX0_ruleOf).frames + 1 ≤ R.frames ∧ 8 + (6 + 11) + (rmX0_ruleOf).locals ≤ R.locals) : va_CN R s args RX10 47 yX0_ruleOf "RingMeets" cX0_ruleOf 6 (some .int) (ws_ yX0_ruleOf cX0_ruleOf 6 (some .int)) rmX0_ruleOf 0 0 3 ∧ (Cond.instanceMethod yX0_ruleOf).before args s = true ∧ (Cond.selects RX0 yX0_ruleOf yX0_ruleOf).before args s = true := ⟨va_cnB 3 hts (lw_meth q468) rfl rfl rfl (hN.1 _ q552 rfl) (hts _ q57) (by decide +kernel) hR, hts _ q467, hts _ qs13⟩
abbrev rmX0_doneBy : Room := { frames := 0, cells := 0, slots := 0, locals := 0 }
set_option maxHeartbeats 4000000 in
theorem metX0_doneBy (l : Launch) (D : va_G) (cA : Nat → ClassId) (b ra : Nat → Nat) (cN : Nat → Nat) (cV : Nat → Nat → Nat) (cM : Nat → Nat) (cR : Nat → Nat → Nat) (kp : Nat → Bool) (nu : Nat → Option Nat) (sO tO fS sP : Nat → Nat) (sN lA : Nat → Option Nat) (tG : Nat → Nat) (o : Option Nat) (ho : ∀ r, o = some r → r < 10) : RO l yX0_doneBy cX0_doneBy 2 (some .int) rmX0_doneBy [.ref (b 0), .int (oI o)] (wB D cA (cW b ra cA cN cV cM cR kp nu sO tO fS sP sN lA tG)) ((nI (dn cR o))) := by
  refine ro_int rfl (Nat.le_of_ble_eq_true rfl) ?_
  intro p e s m below meth cd Q ls hx hb hml hown hts hB hl hret
  obtain ⟨hP, hK, hN⟩ := hB
  have hown : s.vm.findClass RX0 = some m.cls := hown
  have hl : lv_has ls 2 [(0, .ref (b 0)), (1, .int (oI o))] := hl
  refine lv_iload_n hx hb dX0_doneBy_0 rfl (lv_at hl 1 rfl) ?_
  refine rm_oge (tgt := 8) hx hb dX0_doneBy_1 (by decide) (fun v h => Nat.lt_trans (ho v h) (by decide)) (fun q1 => ?_) (fun q1 => ?_)
  · skip
    obtain ⟨r, rfl⟩ := q1
    have hr : r < 10 := ho r rfl
    have hl : lv_has ls 2 [(0, .ref (b 0)), (1, .int (nI r))] := hl
    refine lv_aload_n hx hb dX0_doneBy_8 rfl (lv_at hl 0 rfl) ?_
    refine va_get (D := D) (ci := 0) (v := .ref (b 1)) (C := RX0) (T := TX0) (N := 13) hx hb hts in_X0 hown hK hP 0 rfl xc0 0 (by decide) (hts _ q170) (fun _ h9 => h9) rfl dX0_doneBy_9 ?_
    refine va_getN (D := D) (ci := 1) (v := .ref (b 3)) (C := RX1) (T := TX1) (N := 4) hx hb hts in_X1 hown hK hP 1 rfl xc1 2 (by decide) (va_Nw.use rfl (hN.1 _ q126 rfl)) (fun _ h9 => h9) rfl dX0_doneBy_12 ?_
    refine lv_iload_n hx hb dX0_doneBy_15 rfl (lv_at hl 1 rfl) ?_
    refine rm_ald (x := ra r) hx hb hK hP 3 2 rfl (xt2 cA) (by omega) (by decide) rfl dX0_doneBy_16 ?_
    refine va_getN (D := D) (ci := 2) (v := .int (nI (cR r 4))) (C := RX2) (T := TX2) (N := 6) hx hb hts in_X2 hown hK hP (22 + r) (cW_rul (by omega)) xc2 4 (by decide) (va_Nw.use rfl (hN.1 _ q103 rfl)) (fun _ h9 => h9) rfl dX0_doneBy_17 ?_
    exact hret _ 20 ls rfl dX0_doneBy_20
  · skip
    subst q1
    refine lv_iconst (v := (nI 0)) hx hb dX0_doneBy_4 (by decide) ?_
    refine lv_goto (tgt := 20) hx hb dX0_doneBy_5 (by decide) ?_
    exact hret _ 20 ls rfl dX0_doneBy_20
theorem cwX0_doneBy_X0 {R : Room} {s : State} {args : Array Value} (hts : ∀ w ∈ lw_all, w.before args s = true) (hR : (rmX0_doneBy).frames + 1 ≤ R.frames ∧ 8 + (2 + 11) + (rmX0_doneBy).locals ≤ R.locals) : CallW R s args RX0 RX0 226 yX0_doneBy cX0_doneBy 2 (some .int) (ws_ yX0_doneBy cX0_doneBy 2 (some .int)) rmX0_doneBy 0 0 1 := cwV 1 hts (lw_V q477 q479 qs15 q57 q480) rfl rfl rfl (by decide +kernel) hR
theorem cwX0_doneBy_X10 {R : Room} {s : State} {args : Array Value} (hts : ∀ w ∈ lw_all, w.before args s = true) (hN : xN s) (hR : (rmX0_doneBy).frames + 1 ≤ R.frames ∧ 8 + (2 + 11) + (rmX0_doneBy).locals ≤ R.locals) : va_CN R s args RX10 57 yX0_doneBy "RingMeets" cX0_doneBy 2 (some .int) (ws_ yX0_doneBy cX0_doneBy 2 (some .int)) rmX0_doneBy 0 0 1 ∧ (Cond.instanceMethod yX0_doneBy).before args s = true ∧ (Cond.selects RX0 yX0_doneBy yX0_doneBy).before args s = true := ⟨va_cnB 1 hts (lw_meth q480) rfl rfl rfl (hN.1 _ q553 rfl) (hts _ q57) (by decide +kernel) hR, hts _ q479, hts _ qs15⟩
abbrev rmX0_goesTo : Room := { frames := 5, cells := 0, slots := 0, locals := 121 }
set_option maxHeartbeats 4000000 in
theorem metX0_goesTo (l : Launch) (D : va_G) (cA : Nat → ClassId) (b ra : Nat → Nat) (cN : Nat → Nat) (cV : Nat → Nat → Nat) (cM : Nat → Nat) (cR : Nat → Nat → Nat) (kp : Nat → Bool) (nu : Nat → Option Nat) (sO tO fS sP : Nat → Nat) (sN lA : Nat → Option Nat) (tG : Nat → Nat) (S c d : Nat) (hn3 : 3 ≤ cN 0) (hn10 : cN 0 ≤ 10) (hc : c < cN 0) (hd : d < 2 ^ 31) (hS : S < 1024) (hne : ne_ (cN 0) S) : RO l yX0_goesTo cX0_goesTo 4 (some .int) rmX0_goesTo [.ref (b 0), .int (nI S), .int (nI c), .int (nI d)] (wB D cA (cW b ra cA cN cV cM cR kp nu sO tO fS sP sN lA tG)) ((nI (gt_ (cN 0) S c d))) := by
  refine ro_int rfl (Nat.le_of_ble_eq_true rfl) ?_
  intro p e s m below meth cd Q ls hx hb hml hown hts hB hl hret
  obtain ⟨hP, hK, hN⟩ := hB
  have hown : s.vm.findClass RX0 = some m.cls := hown
  have hl : lv_has ls 4 [(0, .ref (b 0)), (1, .int (nI S)), (2, .int (nI c)), (3, .int (nI d))] := hl
  refine lv_iload_n hx hb dX0_goesTo_0 rfl (lv_at hl 3 rfl) ?_
  refine rm_ine (tgt := 8) hx hb dX0_goesTo_1 (by decide) (by omega) (fun q1 => ?_) (fun q1 => ?_)
  · skip
    refine lv_aload_n hx hb dX0_goesTo_8 rfl (lv_at hl 0 rfl) ?_
    refine lv_iload_n hx hb dX0_goesTo_9 rfl (lv_at hl 2 rfl) ?_
    refine lv_iload_n hx hb dX0_goesTo_10 rfl (lv_at hl 3 rfl) ?_
    refine lv_iconst (v := (nI 1)) hx hb dX0_goesTo_11 (by decide) ?_
    refine rm_cne (tgt := 24) hx hb dX0_goesTo_12 (by decide) (by omega) (by decide) (fun q12 => ?_) (fun q12 => ?_)
    · skip
      refine lv_aload_n hx hb dX0_goesTo_24 rfl (lv_at hl 0 rfl) ?_
      refine lv_iload_n hx hb dX0_goesTo_25 rfl (lv_at hl 1 rfl) ?_
      refine lv_iload_n hx hb dX0_goesTo_26 rfl (lv_at hl 2 rfl) ?_
      refine rm_cV (ls := ls) (As := [.int (nI S), .int (nI c)]) (rest := [.int (nI c), .ref (b 0)]) ⟨hx, hb, hml, hown, hts⟩ (metX0_sideOf l D cA b ra cN cV cM cR kp nu sO tO fS sP sN lA tG S c (by first | assumption | omega) (by first | assumption | omega) (by first | assumption | omega) (by first | assumption | omega) (by first | assumption | omega)) (cwX0_sideOf_X0 hts ⟨Nat.le_of_ble_eq_true rfl, Nat.le_of_ble_eq_true rfl⟩) hP hK hN (va_recv hK hP xc0 (q0 := 0) rfl) rfl hl.1 rfl (Nat.le_of_ble_eq_true rfl) dX0_goesTo_27 ⟨Nat.zero_le _, Nat.zero_le _⟩ ?_
      refine lv_ineg hx hb dX0_goesTo_30 ?_
      refine rm_top (y := (dI (!(sd (cN 0) S c)))) (dI_neg _) ?_
      refine rm_cV (ls := ls) (As := [.int (nI c), .int (dI (!(sd (cN 0) S c)))]) (rest := []) ⟨hx, hb, hml, hown, hts⟩ (metX0_beyond l D cA b ra cN cV cM cR kp nu sO tO fS sP sN lA tG c (dI (!(sd (cN 0) S c))) (!(sd (cN 0) S c)) 1 (by first | assumption | omega) (by first | assumption | omega) (by first | assumption | omega) (by first | assumption | omega) (by first | rfl | exact dI_1 _)) (cwX0_beyond_X0 hts ⟨Nat.le_of_ble_eq_true rfl, Nat.le_of_ble_eq_true rfl⟩) hP hK hN (va_recv hK hP xc0 (q0 := 0) rfl) rfl hl.1 rfl (Nat.le_of_ble_eq_true rfl) dX0_goesTo_31 ⟨Nat.zero_le _, Nat.zero_le _⟩ ?_
      exact hret _ 34 ls (by unfold gt_; rw [if_neg (by omega), if_neg (by omega)]) dX0_goesTo_34
    · skip
      refine lv_aload_n hx hb dX0_goesTo_15 rfl (lv_at hl 0 rfl) ?_
      refine lv_iload_n hx hb dX0_goesTo_16 rfl (lv_at hl 1 rfl) ?_
      refine lv_iload_n hx hb dX0_goesTo_17 rfl (lv_at hl 2 rfl) ?_
      refine rm_cV (ls := ls) (As := [.int (nI S), .int (nI c)]) (rest := [.int (nI c), .ref (b 0)]) ⟨hx, hb, hml, hown, hts⟩ (metX0_sideOf l D cA b ra cN cV cM cR kp nu sO tO fS sP sN lA tG S c (by first | assumption | omega) (by first | assumption | omega) (by first | assumption | omega) (by first | assumption | omega) (by first | assumption | omega)) (cwX0_sideOf_X0 hts ⟨Nat.le_of_ble_eq_true rfl, Nat.le_of_ble_eq_true rfl⟩) hP hK hN (va_recv hK hP xc0 (q0 := 0) rfl) rfl hl.1 rfl (Nat.le_of_ble_eq_true rfl) dX0_goesTo_18 ⟨Nat.zero_le _, Nat.zero_le _⟩ ?_
      refine lv_goto (tgt := 31) hx hb dX0_goesTo_21 (by decide) ?_
      refine rm_cV (ls := ls) (As := [.int (nI c), .int (dI (sd (cN 0) S c))]) (rest := []) ⟨hx, hb, hml, hown, hts⟩ (metX0_beyond l D cA b ra cN cV cM cR kp nu sO tO fS sP sN lA tG c (dI (sd (cN 0) S c)) (sd (cN 0) S c) 1 (by first | assumption | omega) (by first | assumption | omega) (by first | assumption | omega) (by first | assumption | omega) (by first | rfl | exact dI_1 _)) (cwX0_beyond_X0 hts ⟨Nat.le_of_ble_eq_true rfl, Nat.le_of_ble_eq_true rfl⟩) hP hK hN (va_recv hK hP xc0 (q0 := 0) rfl) rfl hl.1 rfl (Nat.le_of_ble_eq_true rfl) dX0_goesTo_31 ⟨Nat.zero_le _, Nat.zero_le _⟩ ?_
      exact hret _ 34 ls (by unfold gt_; rw [if_neg (by omega), if_pos q12]) dX0_goesTo_34
  · skip
    refine lv_iload_n hx hb dX0_goesTo_4 rfl (lv_at hl 2 rfl) ?_
    refine lv_goto (tgt := 34) hx hb dX0_goesTo_5 (by decide) ?_
    exact hret _ 34 ls (by unfold gt_; rw [if_pos q1]) dX0_goesTo_34
theorem cwX0_goesTo_X0 {R : Room} {s : State} {args : Array Value} (hts : ∀ w ∈ lw_all, w.before args s = true) (hR : (rmX0_goesTo).frames + 1 ≤ R.frames ∧ 8 + (4 + 11) + (rmX0_goesTo).locals ≤ R.locals) : CallW R s args RX0 RX0 229 yX0_goesTo cX0_goesTo 4 (some .int) (ws_ yX0_goesTo cX0_goesTo 4 (some .int)) rmX0_goesTo 0 0 3 := cwV 3 hts (lw_V q481 q483 qs16 q57 q484) rfl rfl rfl (by decide +kernel) hR
theorem cwX0_goesTo_X10 {R : Room} {s : State} {args : Array Value} (hts : ∀ w ∈ lw_all, w.before args s = true) (hN : xN s) (hR : (rmX0_goesTo).frames + 1 ≤ R.frames ∧ 8 + (4 + 11) + (rmX0_goesTo).locals ≤ R.locals) : va_CN R s args RX10 61 yX0_goesTo "RingMeets" cX0_goesTo 4 (some .int) (ws_ yX0_goesTo cX0_goesTo 4 (some .int)) rmX0_goesTo 0 0 3 ∧ (Cond.instanceMethod yX0_goesTo).before args s = true ∧ (Cond.selects RX0 yX0_goesTo yX0_goesTo).before args s = true := ⟨va_cnB 3 hts (lw_meth q484) rfl rfl rfl (hN.1 _ q554 rfl) (hts _ q57) (by decide +kernel) hR, hts _ q483, hts _ qs16⟩
abbrev rmX0_count : Room := { frames := 2, cells := 0, slots := 0, locals := 43 }
set_option maxHeartbeats 4000000 in
theorem metX0_count (l : Launch) (D : va_G) (cA : Nat → ClassId) (b ra : Nat → Nat) (cN : Nat → Nat) (cV : Nat → Nat → Nat) (cM : Nat → Nat) (cR : Nat → Nat → Nat) (kp : Nat → Bool) (nu : Nat → Option Nat) (sO tO fS sP : Nat → Nat) (sN lA : Nat → Option Nat) (tG : Nat → Nat) (what : Int32) (hn3 : 3 ≤ cN 0) (hn10 : cN 0 ≤ 10) (hcv : ∀ c, cV 0 c < 2 ^ 31) : RO l yX0_count cX0_count 2 (some .int) rmX0_count [.ref (b 0), .int what] (wB D cA (cW b ra cA cN cV cM cR kp nu sO tO fS sP sN lA tG)) ((coR (cN 0) (cV 0) (cM 0) kp what)) := by
  refine ro_int rfl (Nat.le_of_ble_eq_true rfl) ?_
  intro p e s m below meth cd Q ls hx hb hml hown hts hB hl hret
  obtain ⟨hP, hK, hN⟩ := hB
  have hown : s.vm.findClass RX0 = some m.cls := hown
  have hl : lv_has ls 2 [(0, .ref (b 0)), (1, .int what)] := hl
  refine lv_iload_n hx hb dX0_count_0 rfl (lv_at hl 1 rfl) ?_
  refine lv_i2l (v := what.toInt64) hx hb dX0_count_1 rfl ?_
  refine lv_ldc2 (v := 10) hx hb hown (hts _ q223) dX0_count_2 ?_
  refine lv_ldc2 (v := 19) hx hb hown (hts _ q632) dX0_count_5 ?_
  refine rm_cS (ls := ls) (As := [.long what.toInt64, .long 10, .long 19]) (rest := []) ⟨hx, hb, hml, hown, hts⟩ (metX0_isIn l what.toInt64 10 19 ) (cwX0_isIn_X0 hts ⟨Nat.le_of_ble_eq_true rfl, Nat.le_of_ble_eq_true rfl⟩) noB rfl hl.1 rfl (Nat.le_of_ble_eq_true rfl) dX0_count_8 ⟨Nat.zero_le _, Nat.zero_le _⟩ ?_
  refine rm_beq (tgt := 27) hx hb dX0_count_11 (by decide) (fun q11 => ?_) (fun q11 => ?_)
  · skip
    refine lv_iload_n hx hb dX0_count_27 rfl (lv_at hl 1 rfl) ?_
    by_cases hsw28 : inI 0 5 what = true
    · obtain ⟨ksw, hk0, hkh, esw⟩ := (inI_iff (by decide) (by decide)).mp hsw28
      have hk : ksw = 0 ∨ ksw = 1 ∨ ksw = 2 ∨ ksw = 3 ∨ ksw = 4 ∨ ksw = 5 := by omega
      rcases hk with rfl | rfl | rfl | rfl | rfl | rfl
      · skip
        subst esw
        refine lv_tableIn (off := 40) (tgt := 68) hx hb dX0_count_28 (by decide) (by decide) (by decide) (by decide) ?_
        refine lv_aload_n hx hb dX0_count_68 rfl (lv_at hl 0 rfl) ?_
        refine va_get (D := D) (ci := 0) (v := .ref (b 1)) (C := RX0) (T := TX0) (N := 13) hx hb hts in_X0 hown hK hP 0 rfl xc0 0 (by decide) (hts _ q170) (fun _ h9 => h9) rfl dX0_count_69 ?_
        refine va_getN (D := D) (ci := 1) (v := .int (nI (cN 0))) (C := RX1) (T := TX1) (N := 4) hx hb hts in_X1 hown hK hP 1 rfl xc1 0 (by decide) (va_Nw.use rfl (hN.1 _ q122 rfl)) (fun _ h9 => h9) rfl dX0_count_72 ?_
        exact hret _ 75 ls (by unfold coR; rw [if_neg (by rw [show inI 10 19 (nI 0) = false from (isIn_I 10 19 10 19 (by decide) (by decide)).symm.trans q11]; decide)]; exact sw_ret hsw28 (by decide) rfl) dX0_count_75
      · skip
        subst esw
        refine lv_tableIn (off := 48) (tgt := 76) hx hb dX0_count_28 (by decide) (by decide) (by decide) (by decide) ?_
        refine lv_aload_n hx hb dX0_count_76 rfl (lv_at hl 0 rfl) ?_
        refine va_get (D := D) (ci := 0) (v := .ref (b 1)) (C := RX0) (T := TX0) (N := 13) hx hb hts in_X0 hown hK hP 0 rfl xc0 0 (by decide) (hts _ q170) (fun _ h9 => h9) rfl dX0_count_77 ?_
        refine rm_cV (ls := ls) (As := []) (rest := []) ⟨hx, hb, hml, hown, hts⟩ (metX1_all l D cA (b 1) (b 2) (b 3) (cN 0) (cV 0) (cM 0)  ) (cwX1_all_X0 hts ⟨Nat.le_of_ble_eq_true rfl, Nat.le_of_ble_eq_true rfl⟩) (hP.sub (ws' := dkW (b 1) (b 2) (b 3) cA (cN 0) (cV 0) (cM 0)) [1, 2] rfl) hK hN (va_recv hK hP xc1 (q0 := 1) rfl) rfl hl.1 rfl (Nat.le_of_ble_eq_true rfl) dX0_count_80 ⟨Nat.zero_le _, Nat.zero_le _⟩ ?_
        exact hret _ 83 ls (by unfold coR; rw [if_neg (by rw [show inI 10 19 (nI 1) = false from (isIn_I 10 19 10 19 (by decide) (by decide)).symm.trans q11]; decide)]; exact sw_ret hsw28 (by decide) rfl) dX0_count_83
      · skip
        subst esw
        refine lv_tableIn (off := 56) (tgt := 84) hx hb dX0_count_28 (by decide) (by decide) (by decide) (by decide) ?_
        refine lv_aload_n hx hb dX0_count_84 rfl (lv_at hl 0 rfl) ?_
        refine rm_cV (ls := ls) (As := []) (rest := []) ⟨hx, hb, hml, hown, hts⟩ (metX0_stands l D cA b ra cN cV cM cR kp nu sO tO fS sP sN lA tG  (by first | assumption | omega) (by first | assumption | omega) (by first | assumption | omega)) (cwX0_stands_X0 hts ⟨Nat.le_of_ble_eq_true rfl, Nat.le_of_ble_eq_true rfl⟩) hP hK hN (va_recv hK hP xc0 (q0 := 0) rfl) rfl hl.1 rfl (Nat.le_of_ble_eq_true rfl) dX0_count_85 ⟨Nat.zero_le _, Nat.zero_le _⟩ ?_
        exact hret _ 88 ls (by unfold coR; rw [if_neg (by rw [show inI 10 19 (nI 2) = false from (isIn_I 10 19 10 19 (by decide) (by decide)).symm.trans q11]; decide)]; exact sw_ret hsw28 (by decide) rfl) dX0_count_88
      · skip
        subst esw
        refine lv_tableIn (off := 61) (tgt := 89) hx hb dX0_count_28 (by decide) (by decide) (by decide) (by decide) ?_
        refine lv_aload_n hx hb dX0_count_89 rfl (lv_at hl 0 rfl) ?_
        refine va_get (D := D) (ci := 0) (v := .ref (b 1)) (C := RX0) (T := TX0) (N := 13) hx hb hts in_X0 hown hK hP 0 rfl xc0 0 (by decide) (hts _ q170) (fun _ h9 => h9) rfl dX0_count_90 ?_
        refine lv_iconst (v := (nI 2)) hx hb dX0_count_93 (by decide) ?_
        refine rm_cV (ls := ls) (As := [.int (nI 2)]) (rest := []) ⟨hx, hb, hml, hown, hts⟩ (metX1_with l D cA (b 1) (b 2) (b 3) (cN 0) (cV 0) (cM 0) 2 hn10 hcv (by decide)) (cwX1_with_X0 hts ⟨Nat.le_of_ble_eq_true rfl, Nat.le_of_ble_eq_true rfl⟩) (hP.sub (ws' := dkW (b 1) (b 2) (b 3) cA (cN 0) (cV 0) (cM 0)) [1, 2] rfl) hK hN (va_recv hK hP xc1 (q0 := 1) rfl) rfl hl.1 rfl (Nat.le_of_ble_eq_true rfl) dX0_count_94 ⟨Nat.zero_le _, Nat.zero_le _⟩ ?_
        exact hret _ 97 ls (by unfold coR; rw [if_neg (by rw [show inI 10 19 (nI 3) = false from (isIn_I 10 19 10 19 (by decide) (by decide)).symm.trans q11]; decide)]; exact sw_ret hsw28 (by decide) rfl) dX0_count_97
      · skip
        subst esw
        refine lv_tableIn (off := 70) (tgt := 98) hx hb dX0_count_28 (by decide) (by decide) (by decide) (by decide) ?_
        refine lv_aload_n hx hb dX0_count_98 rfl (lv_at hl 0 rfl) ?_
        refine va_get (D := D) (ci := 0) (v := .ref (b 1)) (C := RX0) (T := TX0) (N := 13) hx hb hts in_X0 hown hK hP 0 rfl xc0 0 (by decide) (hts _ q170) (fun _ h9 => h9) rfl dX0_count_99 ?_
        refine va_getN (D := D) (ci := 1) (v := .int (nI (cM 0))) (C := RX1) (T := TX1) (N := 4) hx hb hts in_X1 hown hK hP 1 rfl xc1 3 (by decide) (va_Nw.use rfl (hN.1 _ q128 rfl)) (fun _ h9 => h9) rfl dX0_count_102 ?_
        exact hret _ 105 ls (by unfold coR; rw [if_neg (by rw [show inI 10 19 (nI 4) = false from (isIn_I 10 19 10 19 (by decide) (by decide)).symm.trans q11]; decide)]; exact sw_ret hsw28 (by decide) rfl) dX0_count_105
      · skip
        subst esw
        refine lv_tableIn (off := 78) (tgt := 106) hx hb dX0_count_28 (by decide) (by decide) (by decide) (by decide) ?_
        have join120 : ∀ (ls : Array Slot), lv_has ls 2 [(0, .ref (b 0)), (1, .int (nI 5))] → W p l e rmX0_count s m ([.ref (b 0), .int (nI 5)] : List Value).toArray below meth cd s.heap [] 0 0 Q (F0 m 120 ls [.int (nI ((kp 0).toNat))]) := by
          intro   ls hl
          have join134 : ∀ (ls : Array Slot), lv_has ls 2 [(0, .ref (b 0)), (1, .int (nI 5))] → W p l e rmX0_count s m ([.ref (b 0), .int (nI 5)] : List Value).toArray below meth cd s.heap [] 0 0 Q (F0 m 134 ls [.int (nI (2 * (kp 1).toNat)), .int (nI ((kp 0).toNat))]) := by
            intro   ls hl
            refine rm_iadd hx hb dX0_count_134 ?_
            exact hret _ 135 ls (by unfold coR; rw [if_neg (by rw [show inI 10 19 (nI 5) = false from (isIn_I 10 19 10 19 (by decide) (by decide)).symm.trans q11]; decide)]; exact sw_ret hsw28 (by decide) rfl) dX0_count_135
          refine lv_aload_n hx hb dX0_count_120 rfl (lv_at hl 0 rfl) ?_
          refine va_get (D := D) (ci := 0) (v := .ref (b 5)) (C := RX0) (T := TX0) (N := 13) hx hb hts in_X0 hown hK hP 0 rfl xc0 2 (by decide) (hts _ q172) (fun _ h9 => h9) rfl dX0_count_121 ?_
          refine lv_iconst (v := (nI 1)) hx hb dX0_count_124 (by decide) ?_
          refine rm_zld hx hb hK hP 5 rfl (by omega) (by decide) dX0_count_125 ?_
          refine rm_beq (tgt := 133) hx hb dX0_count_126 (by decide) (fun q126 => ?_) (fun q126 => ?_)
          · skip
            refine lv_iconst (v := (nI 0)) hx hb dX0_count_133 (by decide) ?_
            refine rm_top (y := (nI (2 * (kp 1).toNat))) (by rw [q126]; rfl) ?_
            exact join134   ls hl
          · skip
            refine lv_iconst (v := (nI 2)) hx hb dX0_count_129 (by decide) ?_
            refine lv_goto (tgt := 134) hx hb dX0_count_130 (by decide) ?_
            refine rm_top (y := (nI (2 * (kp 1).toNat))) (by rw [q126]; rfl) ?_
            exact join134   ls hl
        refine lv_aload_n hx hb dX0_count_106 rfl (lv_at hl 0 rfl) ?_
        refine va_get (D := D) (ci := 0) (v := .ref (b 5)) (C := RX0) (T := TX0) (N := 13) hx hb hts in_X0 hown hK hP 0 rfl xc0 2 (by decide) (hts _ q172) (fun _ h9 => h9) rfl dX0_count_107 ?_
        refine lv_iconst (v := (nI 0)) hx hb dX0_count_110 (by decide) ?_
        refine rm_zld hx hb hK hP 5 rfl (by omega) (by decide) dX0_count_111 ?_
        refine rm_beq (tgt := 119) hx hb dX0_count_112 (by decide) (fun q112 => ?_) (fun q112 => ?_)
        · skip
          refine lv_iconst (v := (nI 0)) hx hb dX0_count_119 (by decide) ?_
          refine rm_top (y := (nI ((kp 0).toNat))) (by rw [q112]; rfl) ?_
          exact join120   ls hl
        · skip
          refine lv_iconst (v := (nI 1)) hx hb dX0_count_115 (by decide) ?_
          refine lv_goto (tgt := 120) hx hb dX0_count_116 (by decide) ?_
          refine rm_top (y := (nI ((kp 0).toNat))) (by rw [q112]; rfl) ?_
          exact join120   ls hl
    · skip
      refine lv_tableOut (tgt := 136) hx hb dX0_count_28 (sw_out (by decide) (by decide) hsw28) (by decide) ?_
      refine lv_bipush (v := (-2)) hx hb dX0_count_136 (by decide) ?_
      exact hret _ 138 ls (by unfold coR; rw [if_neg (by rw [show inI 10 19 what = false from (isIn_I 10 19 10 19 (by decide) (by decide)).symm.trans q11]; decide), if_neg hsw28]) dX0_count_138
  · skip
    have q11 : inI 10 19 what = true := (isIn_I 10 19 10 19 (by decide) (by decide)).symm.trans q11
    have hWh := q11
    obtain ⟨j, hj1, hj2, rfl⟩ := (inI_iff (lo := 10) (hi := 19) (by decide) (by decide)).mp q11
    refine lv_aload_n hx hb dX0_count_14 rfl (lv_at hl 0 rfl) ?_
    refine va_get (D := D) (ci := 0) (v := .ref (b 1)) (C := RX0) (T := TX0) (N := 13) hx hb hts in_X0 hown hK hP 0 rfl xc0 0 (by decide) (hts _ q170) (fun _ h9 => h9) rfl dX0_count_15 ?_
    refine va_getN (D := D) (ci := 1) (v := .ref (b 2)) (C := RX1) (T := TX1) (N := 4) hx hb hts in_X1 hown hK hP 1 rfl xc1 1 (by decide) (va_Nw.use rfl (hN.1 _ q124 rfl)) (fun _ h9 => h9) rfl dX0_count_18 ?_
    refine lv_iload_n hx hb dX0_count_21 rfl (lv_at hl 1 rfl) ?_
    refine lv_bipush (v := (nI 10)) hx hb dX0_count_22 (by decide) ?_
    refine rm_isub hx hb dX0_count_24 (by omega) ?_
    refine rm_nld hx hb hK hP 2 rfl (by omega) (by decide) dX0_count_25 ?_
    exact hret _ 26 ls (by unfold coR; rw [if_pos hWh, nI_clamp (by omega)]) dX0_count_26
theorem cwX0_count_L {R : Room} {s : State} {args : Array Value} (hts : ∀ w ∈ lw_all, w.before args s = true) (hR : (rmX0_count).frames + 1 ≤ R.frames ∧ 8 + (2 + 11) + (rmX0_count).locals ≤ R.locals) : CallW R s args "RingMeetsLaw" RX0 85 yX0_count cX0_count 2 (some .int) (ws_ yX0_count cX0_count 2 (some .int)) rmX0_count 0 0 1 := cwV 1 hts (lw_V q628 q629 q630 q57 q631) rfl rfl rfl (by decide +kernel) hR
