set_option maxRecDepth 100000

abbrev rmJ1_bitCount : Room := { frames := 0, cells := 0, slots := 0, locals := 0 }
set_option maxHeartbeats 4000000 in
theorem metJ1_bitCount (l : Launch) (S : Nat) (hS : S < 1024) : RO l yJ1_bitCount cJ1_bitCount 1 (some .int) rmJ1_bitCount [.int (nI S)] (fun _ => True) ((nI (ct S 10))) := by
  refine ro_int rfl (Nat.le_of_ble_eq_true rfl) ?_
  intro p e s m below meth cd Q ls hx hb hml hown hts hB hl hret
  have hown : s.vm.findClass RJ1 = some m.cls := hown
  have hl : lv_has ls 1 [(0, .int (nI S))] := hl
  refine lv_iload_n hx hb dJ1_bitCount_0 rfl (lv_at hl 0 rfl) ?_
  refine lv_iload_n hx hb dJ1_bitCount_1 rfl (lv_at hl 0 rfl) ?_
  refine lv_iconst (v := (nI 1)) hx hb dJ1_bitCount_2 (by decide) ?_
  refine lv_iushr (v := (((nI S).toUInt32 >>> ((nI 1).toUInt32 &&& Int32.toUInt32 31)).toInt32)) hx hb dJ1_bitCount_3 rfl ?_
  refine lv_ldcw (v := (nI 1431655765)) hx hb hown (hts _ q260) dJ1_bitCount_4 ?_
  refine lv_iand hx hb dJ1_bitCount_7 ?_
  refine lv_isub hx hb dJ1_bitCount_8 ?_
  refine rm_top (y := (bc1 (nI S))) rfl ?_
  refine lv_istore_n (lv' := [(0, .int (bc1 (nI S)))]) hx hb dJ1_bitCount_9 rfl hl (by decide) rfl (fun ls hl => ?_)
  refine lv_iload_n hx hb dJ1_bitCount_10 rfl (lv_at hl 0 rfl) ?_
  refine lv_ldcw (v := (nI 858993459)) hx hb hown (hts _ q261) dJ1_bitCount_11 ?_
  refine lv_iand hx hb dJ1_bitCount_14 ?_
  refine lv_iload_n hx hb dJ1_bitCount_15 rfl (lv_at hl 0 rfl) ?_
  refine lv_iconst (v := (nI 2)) hx hb dJ1_bitCount_16 (by decide) ?_
  refine lv_iushr (v := (((bc1 (nI S)).toUInt32 >>> ((nI 2).toUInt32 &&& Int32.toUInt32 31)).toInt32)) hx hb dJ1_bitCount_17 rfl ?_
  refine lv_ldcw (v := (nI 858993459)) hx hb hown (hts _ q261) dJ1_bitCount_18 ?_
  refine lv_iand hx hb dJ1_bitCount_21 ?_
  refine lv_iadd hx hb dJ1_bitCount_22 ?_
  refine rm_top (y := (bc2 (bc1 (nI S)))) rfl ?_
  refine lv_istore_n (lv' := [(0, .int (bc2 (bc1 (nI S))))]) hx hb dJ1_bitCount_23 rfl hl (by decide) rfl (fun ls hl => ?_)
  refine lv_iload_n hx hb dJ1_bitCount_24 rfl (lv_at hl 0 rfl) ?_
  refine lv_iload_n hx hb dJ1_bitCount_25 rfl (lv_at hl 0 rfl) ?_
  refine lv_iconst (v := (nI 4)) hx hb dJ1_bitCount_26 (by decide) ?_
  refine lv_iushr (v := (((bc2 (bc1 (nI S))).toUInt32 >>> ((nI 4).toUInt32 &&& Int32.toUInt32 31)).toInt32)) hx hb dJ1_bitCount_27 rfl ?_
  refine lv_iadd hx hb dJ1_bitCount_28 ?_
  refine lv_ldcw (v := (nI 252645135)) hx hb hown (hts _ q262) dJ1_bitCount_29 ?_
  refine lv_iand hx hb dJ1_bitCount_32 ?_
  refine rm_top (y := (bc3 (bc2 (bc1 (nI S))))) rfl ?_
  refine lv_istore_n (lv' := [(0, .int (bc3 (bc2 (bc1 (nI S)))))]) hx hb dJ1_bitCount_33 rfl hl (by decide) rfl (fun ls hl => ?_)
  refine lv_iload_n hx hb dJ1_bitCount_34 rfl (lv_at hl 0 rfl) ?_
  refine lv_iload_n hx hb dJ1_bitCount_35 rfl (lv_at hl 0 rfl) ?_
  refine lv_bipush (v := (nI 8)) hx hb dJ1_bitCount_36 (by decide) ?_
  refine lv_iushr (v := (((bc3 (bc2 (bc1 (nI S)))).toUInt32 >>> ((nI 8).toUInt32 &&& Int32.toUInt32 31)).toInt32)) hx hb dJ1_bitCount_38 rfl ?_
  refine lv_iadd hx hb dJ1_bitCount_39 ?_
  refine rm_top (y := (bc4 (bc3 (bc2 (bc1 (nI S)))))) rfl ?_
  refine lv_istore_n (lv' := [(0, .int (bc4 (bc3 (bc2 (bc1 (nI S))))))]) hx hb dJ1_bitCount_40 rfl hl (by decide) rfl (fun ls hl => ?_)
  refine lv_iload_n hx hb dJ1_bitCount_41 rfl (lv_at hl 0 rfl) ?_
  refine lv_iload_n hx hb dJ1_bitCount_42 rfl (lv_at hl 0 rfl) ?_
  refine lv_bipush (v := (nI 16)) hx hb dJ1_bitCount_43 (by decide) ?_
  refine lv_iushr (v := (((bc4 (bc3 (bc2 (bc1 (nI S))))).toUInt32 >>> ((nI 16).toUInt32 &&& Int32.toUInt32 31)).toInt32)) hx hb dJ1_bitCount_45 rfl ?_
  refine lv_iadd hx hb dJ1_bitCount_46 ?_
  refine rm_top (y := (bc5 (bc4 (bc3 (bc2 (bc1 (nI S))))))) rfl ?_
  refine lv_istore_n (lv' := [(0, .int (bc5 (bc4 (bc3 (bc2 (bc1 (nI S)))))))]) hx hb dJ1_bitCount_47 rfl hl (by decide) rfl (fun ls hl => ?_)
  refine lv_iload_n hx hb dJ1_bitCount_48 rfl (lv_at hl 0 rfl) ?_
  refine lv_bipush (v := (nI 63)) hx hb dJ1_bitCount_49 (by decide) ?_
  refine lv_iand hx hb dJ1_bitCount_51 ?_
  exact hret _ 52 ls (bc_all S hS) dJ1_bitCount_52
theorem cwJ1_bitCount_X0 {R : Room} {s : State} {args : Array Value} (hts : ∀ w ∈ lw_all, w.before args s = true) (hR : (rmJ1_bitCount).frames + 1 ≤ R.frames ∧ 8 + (1 + 11) + (rmJ1_bitCount).locals ≤ R.locals) : CallB R s args RX0 108 yJ1_bitCount cJ1_bitCount 1 (some .int) (ws_ yJ1_bitCount cJ1_bitCount 1 (some .int)) rmJ1_bitCount 0 0 1 ∧ (Cond.static yJ1_bitCount).before args s = true := va_cwS 1 hts (lw_S q257 q258 q65 q259) rfl rfl rfl (by decide +kernel) hR
theorem cwJ1_bitCount_X10 {R : Room} {s : State} {args : Array Value} (hts : ∀ w ∈ lw_all, w.before args s = true) (hR : (rmJ1_bitCount).frames + 1 ≤ R.frames ∧ 8 + (1 + 11) + (rmJ1_bitCount).locals ≤ R.locals) : CallB R s args RX10 68 yJ1_bitCount cJ1_bitCount 1 (some .int) (ws_ yJ1_bitCount cJ1_bitCount 1 (some .int)) rmJ1_bitCount 0 0 1 ∧ (Cond.static yJ1_bitCount).before args s = true := va_cwS 1 hts (lw_S q547 q258 q65 q259) rfl rfl rfl (by decide +kernel) hR
abbrev rmJ1_lowestOneBit : Room := { frames := 0, cells := 0, slots := 0, locals := 0 }
set_option maxHeartbeats 4000000 in
theorem metJ1_lowestOneBit (l : Launch) (z : Nat) (hz : z < 1024) : RO l yJ1_lowestOneBit cJ1_lowestOneBit 1 (some .int) rmJ1_lowestOneBit [.int (nI z)] (fun _ => True) ((nI (nxs z 0))) := by
  refine ro_int rfl (Nat.le_of_ble_eq_true rfl) ?_
  intro p e s m below meth cd Q ls hx hb hml hown hts hB hl hret
  have hown : s.vm.findClass RJ1 = some m.cls := hown
  have hl : lv_has ls 1 [(0, .int (nI z))] := hl
  refine lv_iload_n hx hb dJ1_lowestOneBit_0 rfl (lv_at hl 0 rfl) ?_
  refine lv_iload_n hx hb dJ1_lowestOneBit_1 rfl (lv_at hl 0 rfl) ?_
  refine lv_ineg hx hb dJ1_lowestOneBit_2 ?_
  refine lv_iand hx hb dJ1_lowestOneBit_3 ?_
  exact hret _ 4 ls (low1_all z hz) dJ1_lowestOneBit_4
theorem cwJ1_lowestOneBit_X11 {R : Room} {s : State} {args : Array Value} (hts : ∀ w ∈ lw_all, w.before args s = true) (hR : (rmJ1_lowestOneBit).frames + 1 ≤ R.frames ∧ 8 + (1 + 11) + (rmJ1_lowestOneBit).locals ≤ R.locals) : CallB R s args RX11 7 yJ1_lowestOneBit cJ1_lowestOneBit 1 (some .int) (ws_ yJ1_lowestOneBit cJ1_lowestOneBit 1 (some .int)) rmJ1_lowestOneBit 0 0 1 ∧ (Cond.static yJ1_lowestOneBit).before args s = true := va_cwS 1 hts (lw_S q561 q562 q65 q563) rfl rfl rfl (by decide +kernel) hR
abbrev rmJ2_floorMod : Room := { frames := 0, cells := 0, slots := 0, locals := 0 }
set_option maxHeartbeats 4000000 in
theorem metJ2_floorMod (l : Launch) (x y : Int32) (hy : ¬ y = 0) : RO l yJ2_floorMod cJ2_floorMod 3 (some .int) rmJ2_floorMod [.int x, .int y] (fun _ => True) ((fmF x y)) := by
  refine ro_intF (by decide +kernel) (Nat.le_of_ble_eq_true rfl) ?_
  intro p e s m below meth cd Q ls hx hb hml hown hts hB hl hret
  have hown : s.vm.findClass RJ2 = some m.cls := hown
  have hl : lv_has ls 3 [(0, .int x), (1, .int y)] := hl
  refine lv_iload_n hx hb dJ2_floorMod_0 rfl (lv_at hl 0 rfl) ?_
  refine lv_iload_n hx hb dJ2_floorMod_1 rfl (lv_at hl 1 rfl) ?_
  refine lv_irem hx hb dJ2_floorMod_2 hy ?_
  refine lv_istore_n (lv' := [(2, .int (x - x / y * y)), (0, .int x), (1, .int y)]) hx hb dJ2_floorMod_3 rfl hl (by decide) rfl (fun ls hl => ?_)
  refine lv_iload_n hx hb dJ2_floorMod_4 rfl (lv_at hl 1 rfl) ?_
  refine lv_iload_n hx hb dJ2_floorMod_5 rfl (lv_at hl 2 rfl) ?_
  refine lv_ixor hx hb dJ2_floorMod_6 ?_
  refine lv_if_ge (tgt := 18) hx hb dJ2_floorMod_7 (by decide) (fun q7 => ?_) (fun q7 => ?_)
  · skip
    refine lv_iload_n hx hb dJ2_floorMod_18 rfl (lv_at hl 0 rfl) ?_
    exact hret _ 19 ls (by unfold fmF; rw [if_pos q7]) dJ2_floorMod_19
  · skip
    refine lv_iload_n hx hb dJ2_floorMod_10 rfl (lv_at hl 0 rfl) ?_
    refine lv_if_eq (tgt := 18) hx hb dJ2_floorMod_11 (by decide) (fun q11 => ?_) (fun q11 => ?_)
    · skip
      refine lv_iload_n hx hb dJ2_floorMod_18 rfl (lv_at hl 0 rfl) ?_
      exact hret _ 19 ls (by unfold fmF; rw [if_neg q7, if_pos q11]) dJ2_floorMod_19
    · skip
      refine lv_iload_n hx hb dJ2_floorMod_14 rfl (lv_at hl 0 rfl) ?_
      refine lv_iload_n hx hb dJ2_floorMod_15 rfl (lv_at hl 2 rfl) ?_
      refine lv_iadd hx hb dJ2_floorMod_16 ?_
      exact hret _ 17 ls (by unfold fmF; rw [if_neg q7, if_neg q11]) dJ2_floorMod_17
theorem cwJ2_floorMod_X0 {R : Room} {s : State} {args : Array Value} (hts : ∀ w ∈ lw_all, w.before args s = true) (hR : (rmJ2_floorMod).frames + 1 ≤ R.frames ∧ 8 + (3 + 11) + (rmJ2_floorMod).locals ≤ R.locals) : CallB R s args RX0 95 yJ2_floorMod cJ2_floorMod 3 (some .int) (ws_ yJ2_floorMod cJ2_floorMod 3 (some .int)) rmJ2_floorMod 0 0 2 ∧ (Cond.static yJ2_floorMod).before args s = true := va_cwS 2 hts (lw_S q279 q280 q66 q281) rfl rfl rfl (by decide +kernel) hR
abbrev rmJ2_max : Room := { frames := 0, cells := 0, slots := 0, locals := 0 }
set_option maxHeartbeats 4000000 in
theorem metJ2_max (l : Launch) (x y : Nat) (hx1 : x < 2 ^ 31) (hy1 : y < 2 ^ 31) : RO l yJ2_max cJ2_max 2 (some .int) rmJ2_max [.int (nI x), .int (nI y)] (fun _ => True) ((nI (max x y))) := by
  refine ro_intF (by decide +kernel) (Nat.le_of_ble_eq_true rfl) ?_
  intro p e s m below meth cd Q ls hx hb hml hown hts hB hl hret
  have hown : s.vm.findClass RJ2 = some m.cls := hown
  have hl : lv_has ls 2 [(0, .int (nI x)), (1, .int (nI y))] := hl
  refine lv_iload_n hx hb dJ2_max_0 rfl (lv_at hl 0 rfl) ?_
  refine lv_iload_n hx hb dJ2_max_1 rfl (lv_at hl 1 rfl) ?_
  refine rm_clt (tgt := 9) hx hb dJ2_max_2 (by decide) (by omega) (by omega) (fun q2 => ?_) (fun q2 => ?_)
  · skip
    refine lv_iload_n hx hb dJ2_max_9 rfl (lv_at hl 1 rfl) ?_
    exact hret _ 10 ls (by rw [Nat.max_eq_right (Nat.le_of_lt q2)]) dJ2_max_10
  · skip
    refine lv_iload_n hx hb dJ2_max_5 rfl (lv_at hl 0 rfl) ?_
    refine lv_goto (tgt := 10) hx hb dJ2_max_6 (by decide) ?_
    exact hret _ 10 ls (by rw [Nat.max_eq_left q2]) dJ2_max_10
theorem cwJ2_max_X10 {R : Room} {s : State} {args : Array Value} (hts : ∀ w ∈ lw_all, w.before args s = true) (hR : (rmJ2_max).frames + 1 ≤ R.frames ∧ 8 + (2 + 11) + (rmJ2_max).locals ≤ R.locals) : CallB R s args RX10 109 yJ2_max cJ2_max 2 (some .int) (ws_ yJ2_max cJ2_max 2 (some .int)) rmJ2_max 0 0 2 ∧ (Cond.static yJ2_max).before args s = true := va_cwS 2 hts (lw_S q583 q584 q66 q585) rfl rfl rfl (by decide +kernel) hR
abbrev rmJ2_min : Room := { frames := 0, cells := 0, slots := 0, locals := 0 }
set_option maxHeartbeats 4000000 in
theorem metJ2_min (l : Launch) (x y : Nat) (hx1 : x < 2 ^ 31) (hy1 : y < 2 ^ 31) : RO l yJ2_min cJ2_min 2 (some .int) rmJ2_min [.int (nI x), .int (nI y)] (fun _ => True) ((nI (min x y))) := by
  refine ro_intF (by decide +kernel) (Nat.le_of_ble_eq_true rfl) ?_
  intro p e s m below meth cd Q ls hx hb hml hown hts hB hl hret
  have hown : s.vm.findClass RJ2 = some m.cls := hown
  have hl : lv_has ls 2 [(0, .int (nI x)), (1, .int (nI y))] := hl
  refine lv_iload_n hx hb dJ2_min_0 rfl (lv_at hl 0 rfl) ?_
  refine lv_iload_n hx hb dJ2_min_1 rfl (lv_at hl 1 rfl) ?_
  refine rm_cgt (tgt := 9) hx hb dJ2_min_2 (by decide) (by omega) (by omega) (fun q2 => ?_) (fun q2 => ?_)
  · skip
    refine lv_iload_n hx hb dJ2_min_9 rfl (lv_at hl 1 rfl) ?_
    exact hret _ 10 ls (by rw [Nat.min_eq_right (Nat.le_of_lt q2)]) dJ2_min_10
  · skip
    refine lv_iload_n hx hb dJ2_min_5 rfl (lv_at hl 0 rfl) ?_
    refine lv_goto (tgt := 10) hx hb dJ2_min_6 (by decide) ?_
    exact hret _ 10 ls (by rw [Nat.min_eq_left q2]) dJ2_min_10
theorem cwJ2_min_X0 {R : Room} {s : State} {args : Array Value} (hts : ∀ w ∈ lw_all, w.before args s = true) (hR : (rmJ2_min).frames + 1 ≤ R.frames ∧ 8 + (2 + 11) + (rmJ2_min).locals ≤ R.locals) : CallB R s args RX0 283 yJ2_min cJ2_min 2 (some .int) (ws_ yJ2_min cJ2_min 2 (some .int)) rmJ2_min 0 0 2 ∧ (Cond.static yJ2_min).before args s = true := va_cwS 2 hts (lw_S q608 q609 q66 q610) rfl rfl rfl (by decide +kernel) hR
abbrev rmJ1_numberOfTrailingZeros : Room := { frames := 0, cells := 0, slots := 0, locals := 0 }
set_option maxHeartbeats 4000000 in
theorem metJ1_numberOfTrailingZeros (l : Launch) (z : Nat) (hz : z < 1024) (hz0 : 0 < z) : RO l yJ1_numberOfTrailingZeros cJ1_numberOfTrailingZeros 2 (some .int) rmJ1_numberOfTrailingZeros [.int (nI z)] (fun _ => True) ((nI (ntz z))) := by
  refine ro_int rfl (Nat.le_of_ble_eq_true rfl) ?_
  intro p e s m below meth cd Q ls hx hb hml hown hts hB hl hret
  have hown : s.vm.findClass RJ1 = some m.cls := hown
  have hl : lv_has ls 2 [(0, .int (nI z))] := hl
  obtain ⟨hlo, hlo2⟩ := lowm_all z hz hz0
  obtain ⟨i, ei⟩ : ∃ y, y = lowm z := ⟨_, rfl⟩
  rw [← ei] at hlo hlo2
  refine lv_iload_n hx hb dJ1_numberOfTrailingZeros_0 rfl (lv_at hl 0 rfl) ?_
  refine lv_iconst (v := (-1)) hx hb dJ1_numberOfTrailingZeros_1 (by decide) ?_
  refine lv_ixor hx hb dJ1_numberOfTrailingZeros_2 ?_
  refine lv_iload_n hx hb dJ1_numberOfTrailingZeros_3 rfl (lv_at hl 0 rfl) ?_
  refine lv_iconst (v := (nI 1)) hx hb dJ1_numberOfTrailingZeros_4 (by decide) ?_
  refine lv_isub hx hb dJ1_numberOfTrailingZeros_5 ?_
  refine lv_iand hx hb dJ1_numberOfTrailingZeros_6 ?_
  refine rm_top (y := (nI i)) hlo ?_
  refine lv_istore_n (lv' := [(0, .int (nI i))]) hx hb dJ1_numberOfTrailingZeros_7 rfl hl (by decide) rfl (fun ls hl => ?_)
  refine lv_iload_n hx hb dJ1_numberOfTrailingZeros_8 rfl (lv_at hl 0 rfl) ?_
  refine rm_igt (tgt := 17) hx hb dJ1_numberOfTrailingZeros_9 (by decide) (by omega) (fun q9 => ?_) (fun q9 => ?_)
  · skip
    refine lv_iconst (v := (nI 1)) hx hb dJ1_numberOfTrailingZeros_17 (by decide) ?_
    refine lv_istore_n (lv' := [(1, .int (nI 1)), (0, .int (nI i))]) hx hb dJ1_numberOfTrailingZeros_18 rfl hl (by decide) rfl (fun ls hl => ?_)
    refine lv_iload_n hx hb dJ1_numberOfTrailingZeros_19 rfl (lv_at hl 1 rfl) ?_
    refine lv_ldcw (v := (nI 65536)) hx hb hown (hts _ q351) dJ1_numberOfTrailingZeros_20 ?_
    refine rm_cle (tgt := 34) hx hb dJ1_numberOfTrailingZeros_23 (by decide) (by omega) (by decide) (fun q23 => ?_) (fun q23 => ?_)
    · skip
      have join49 : ∀ (i1 : Nat) (n1 : Nat), (i1 < 2 ^ 31) → (tz3 i1 n1 = tz4 i 1) → ∀ (ls : Array Slot), lv_has ls 2 [(0, .int (nI i1)), (1, .int (nI n1))] → W p l e rmJ1_numberOfTrailingZeros s m ([.int (nI z)] : List Value).toArray below meth cd s.heap [] 0 0 Q (F0 m 49 ls []) := by
        intro i1 n1 i49_0 i49_1 ls hl
        have join62 : ∀ (i2 : Nat) (n2 : Nat), (i2 < 2 ^ 31) → (tz2 i2 n2 = tz4 i 1) → ∀ (ls : Array Slot), lv_has ls 2 [(0, .int (nI i2)), (1, .int (nI n2))] → W p l e rmJ1_numberOfTrailingZeros s m ([.int (nI z)] : List Value).toArray below meth cd s.heap [] 0 0 Q (F0 m 62 ls []) := by
          intro i2 n2 i62_0 i62_1 ls hl
          have join74 : ∀ (i3 : Nat) (n3 : Nat), (i3 < 2 ^ 31) → (tz1 i3 n3 = tz4 i 1) → ∀ (ls : Array Slot), lv_has ls 2 [(0, .int (nI i3)), (1, .int (nI n3))] → W p l e rmJ1_numberOfTrailingZeros s m ([.int (nI z)] : List Value).toArray below meth cd s.heap [] 0 0 Q (F0 m 74 ls []) := by
            intro i3 n3 i74_0 i74_1 ls hl
            refine lv_iload_n hx hb dJ1_numberOfTrailingZeros_74 rfl (lv_at hl 1 rfl) ?_
            refine lv_iload_n hx hb dJ1_numberOfTrailingZeros_75 rfl (lv_at hl 0 rfl) ?_
            refine lv_iconst (v := (nI 1)) hx hb dJ1_numberOfTrailingZeros_76 (by decide) ?_
            refine lv_iushr (v := (nI (i3 / 2 ^ 1))) hx hb dJ1_numberOfTrailingZeros_77 (nI_ushr (by omega) (by decide)) ?_
            refine rm_iadd hx hb dJ1_numberOfTrailingZeros_78 ?_
            exact hret _ 79 ls (by unfold ntz; rw [← ei, if_neg (by omega), ← i74_1]; rfl) dJ1_numberOfTrailingZeros_79
          refine lv_iload_n hx hb dJ1_numberOfTrailingZeros_62 rfl (lv_at hl 0 rfl) ?_
          refine lv_iconst (v := (nI 4)) hx hb dJ1_numberOfTrailingZeros_63 (by decide) ?_
          refine rm_cle (tgt := 74) hx hb dJ1_numberOfTrailingZeros_64 (by decide) (by omega) (by decide) (fun q64 => ?_) (fun q64 => ?_)
          · skip
            exact join74 i2 n2 (by omega) (by rw [← i62_1]; unfold tz2; rw [if_neg (by omega)]) ls hl
          · skip
            refine lv_iinc (v := (nI (n2 + 2))) (lv' := [(1, .int (nI (n2 + 2))), (0, .int (nI i2))]) hx hb dJ1_numberOfTrailingZeros_67 hl (k := 1) rfl (rm_inc n2 2) (by decide) rfl (fun ls hl => ?_)
            refine lv_iload_n hx hb dJ1_numberOfTrailingZeros_70 rfl (lv_at hl 1 rfl) ?_
            refine lv_iconst (v := (nI 2)) hx hb dJ1_numberOfTrailingZeros_71 (by decide) ?_
            refine lv_iushr (v := (nI (i2 / 2 ^ 2))) hx hb dJ1_numberOfTrailingZeros_72 (nI_ushr (by omega) (by decide)) ?_
            refine lv_istore_n (lv' := [(0, .int (nI (i2 / 2 ^ 2))), (1, .int (nI (n2 + 2)))]) hx hb dJ1_numberOfTrailingZeros_73 rfl hl (by decide) rfl (fun ls hl => ?_)
            exact join74 (i2 / 2 ^ 2) (n2 + 2) (by omega) (by rw [← i62_1]; unfold tz2; rw [if_pos (by omega)]) ls hl
        refine lv_iload_n hx hb dJ1_numberOfTrailingZeros_49 rfl (lv_at hl 0 rfl) ?_
        refine lv_bipush (v := (nI 16)) hx hb dJ1_numberOfTrailingZeros_50 (by decide) ?_
        refine rm_cle (tgt := 62) hx hb dJ1_numberOfTrailingZeros_52 (by decide) (by omega) (by decide) (fun q52 => ?_) (fun q52 => ?_)
        · skip
          exact join62 i1 n1 (by omega) (by rw [← i49_1]; unfold tz3; rw [if_neg (by omega)]) ls hl
        · skip
          refine lv_iinc (v := (nI (n1 + 4))) (lv' := [(1, .int (nI (n1 + 4))), (0, .int (nI i1))]) hx hb dJ1_numberOfTrailingZeros_55 hl (k := 1) rfl (rm_inc n1 4) (by decide) rfl (fun ls hl => ?_)
          refine lv_iload_n hx hb dJ1_numberOfTrailingZeros_58 rfl (lv_at hl 1 rfl) ?_
          refine lv_iconst (v := (nI 4)) hx hb dJ1_numberOfTrailingZeros_59 (by decide) ?_
          refine lv_iushr (v := (nI (i1 / 2 ^ 4))) hx hb dJ1_numberOfTrailingZeros_60 (nI_ushr (by omega) (by decide)) ?_
          refine lv_istore_n (lv' := [(0, .int (nI (i1 / 2 ^ 4))), (1, .int (nI (n1 + 4)))]) hx hb dJ1_numberOfTrailingZeros_61 rfl hl (by decide) rfl (fun ls hl => ?_)
          exact join62 (i1 / 2 ^ 4) (n1 + 4) (by omega) (by rw [← i49_1]; unfold tz3; rw [if_pos (by omega)]) ls hl
      refine lv_iload_n hx hb dJ1_numberOfTrailingZeros_34 rfl (lv_at hl 1 rfl) ?_
      refine lv_sipush (v := (nI 256)) hx hb dJ1_numberOfTrailingZeros_35 (by decide) ?_
      refine rm_cle (tgt := 49) hx hb dJ1_numberOfTrailingZeros_38 (by decide) (by omega) (by decide) (fun q38 => ?_) (fun q38 => ?_)
      · skip
        exact join49 i 1 (by omega) (by unfold tz4; rw [if_neg (by omega)]) ls (lv_sub hl [1, 0] rfl)
      · skip
        refine lv_iinc (v := (nI (1 + 8))) (lv' := [(1, .int (nI (1 + 8))), (0, .int (nI i))]) hx hb dJ1_numberOfTrailingZeros_41 hl (k := 0) rfl (rm_inc 1 8) (by decide) rfl (fun ls hl => ?_)
        refine lv_iload_n hx hb dJ1_numberOfTrailingZeros_44 rfl (lv_at hl 1 rfl) ?_
        refine lv_bipush (v := (nI 8)) hx hb dJ1_numberOfTrailingZeros_45 (by decide) ?_
        refine lv_iushr (v := (nI (i / 2 ^ 8))) hx hb dJ1_numberOfTrailingZeros_47 (nI_ushr (by omega) (by decide)) ?_
        refine lv_istore_n (lv' := [(0, .int (nI (i / 2 ^ 8))), (1, .int (nI (1 + 8)))]) hx hb dJ1_numberOfTrailingZeros_48 rfl hl (by decide) rfl (fun ls hl => ?_)
        exact join49 (i / 2 ^ 8) (1 + 8) (by omega) (by unfold tz4; rw [if_pos (by omega)]) ls hl
    · skip
      exact absurd q23 (by omega)
  · skip
    refine lv_iload_n hx hb dJ1_numberOfTrailingZeros_12 rfl (lv_at hl 0 rfl) ?_
    refine lv_bipush (v := (nI 32)) hx hb dJ1_numberOfTrailingZeros_13 (by decide) ?_
    refine rm_iand hx hb dJ1_numberOfTrailingZeros_15 ?_
    exact hret _ 16 ls (by unfold ntz; rw [← ei, q9, if_pos rfl]; rfl) dJ1_numberOfTrailingZeros_16
theorem cwJ1_numberOfTrailingZeros_X8 {R : Room} {s : State} {args : Array Value} (hts : ∀ w ∈ lw_all, w.before args s = true) (hR : (rmJ1_numberOfTrailingZeros).frames + 1 ≤ R.frames ∧ 8 + (2 + 11) + (rmJ1_numberOfTrailingZeros).locals ≤ R.locals) : CallB R s args RX8 22 yJ1_numberOfTrailingZeros cJ1_numberOfTrailingZeros 2 (some .int) (ws_ yJ1_numberOfTrailingZeros cJ1_numberOfTrailingZeros 2 (some .int)) rmJ1_numberOfTrailingZeros 0 0 1 ∧ (Cond.static yJ1_numberOfTrailingZeros).before args s = true := va_cwS 1 hts (lw_S q348 q349 q65 q350) rfl rfl rfl (by decide +kernel) hR
abbrev rmX0_isIn : Room := { frames := 0, cells := 0, slots := 0, locals := 0 }
set_option maxHeartbeats 4000000 in
theorem metX0_isIn (l : Launch) (v lo hi : Int64)  : RO l yX0_isIn cX0_isIn 6 (some .boolean) rmX0_isIn [.long v, .long lo, .long hi] (fun _ => True) (bI (decide (lo ≤ v) && decide (v ≤ hi))) := by
  refine ro_bool rfl (Nat.le_of_ble_eq_true rfl) ?_
  intro p e s m below meth cd Q ls hx hb hml hown hts hB hl hret
  have hown : s.vm.findClass RX0 = some m.cls := hown
  have hl : lv_has ls 6 [(0, .long v), (2, .long lo), (4, .long hi)] := hl
  refine lv_lload_n hx hb dX0_isIn_0 rfl (lv_at hl 0 rfl) ?_
  refine lv_lload_n hx hb dX0_isIn_1 rfl (lv_at hl 1 rfl) ?_
  refine W.lcmp hx hb dX0_isIn_2 ?_
  refine lv_if_lt (tgt := 17) hx hb dX0_isIn_3 (by decide) (fun q3 => ?_) (fun q3 => ?_)
  · skip
    refine lv_iconst (v := (nI 0)) hx hb dX0_isIn_17 (by decide) ?_
    exact hret _ 18 ls (by rw [decide_eq_false (Int64.not_le.mpr ((lg_cmp_lt _ _).mp q3))]; rfl) dX0_isIn_18
  · skip
    refine lv_lload_n hx hb dX0_isIn_6 rfl (lv_at hl 0 rfl) ?_
    refine lv_lload hx hb dX0_isIn_7 (lv_at hl 2 rfl) ?_
    refine W.lcmp hx hb dX0_isIn_9 ?_
    refine lv_if_gt (tgt := 17) hx hb dX0_isIn_10 (by decide) (fun q10 => ?_) (fun q10 => ?_)
    · skip
      refine lv_iconst (v := (nI 0)) hx hb dX0_isIn_17 (by decide) ?_
      exact hret _ 18 ls (by rw [decide_eq_false (Int64.not_le.mpr ((lg_cmp_gt _ _).mp q10)), Bool.and_false]; rfl) dX0_isIn_18
    · skip
      refine lv_iconst (v := (nI 1)) hx hb dX0_isIn_13 (by decide) ?_
      refine lv_goto (tgt := 18) hx hb dX0_isIn_14 (by decide) ?_
      exact hret _ 18 ls (by rw [decide_eq_true (Int64.not_lt.mp (fun h => q3 ((lg_cmp_lt _ _).mpr h))), decide_eq_true (Int64.not_lt.mp (fun h => q10 ((lg_cmp_gt _ _).mpr h)))]; rfl) dX0_isIn_18
theorem cwX0_isIn_X0 {R : Room} {s : State} {args : Array Value} (hts : ∀ w ∈ lw_all, w.before args s = true) (hR : (rmX0_isIn).frames + 1 ≤ R.frames ∧ 8 + (6 + 11) + (rmX0_isIn).locals ≤ R.locals) : CallB R s args RX0 1 yX0_isIn cX0_isIn 6 (some .boolean) (ws_ yX0_isIn cX0_isIn 6 (some .boolean)) rmX0_isIn 0 0 3 ∧ (Cond.static yX0_isIn).before args s = true := va_cwS 3 hts (lw_S q224 q225 q57 q226) rfl rfl rfl (by decide +kernel) hR
abbrev rmX0_isEnd : Room := { frames := 1, cells := 0, slots := 0, locals := 25 }
set_option maxHeartbeats 4000000 in
theorem metX0_isEnd (l : Launch) (v : Int32)  : RO l yX0_isEnd cX0_isEnd 1 (some .boolean) rmX0_isEnd [.int v] (fun _ => True) (bI (inI 0 1 v)) := by
  refine ro_bool rfl (Nat.le_of_ble_eq_true rfl) ?_
  intro p e s m below meth cd Q ls hx hb hml hown hts hB hl hret
  have hown : s.vm.findClass RX0 = some m.cls := hown
  have hl : lv_has ls 1 [(0, .int v)] := hl
  refine lv_iload_n hx hb dX0_isEnd_0 rfl (lv_at hl 0 rfl) ?_
  refine lv_i2l (v := v.toInt64) hx hb dX0_isEnd_1 rfl ?_
  refine lv_lconst (v := 0) hx hb dX0_isEnd_2 (by decide) ?_
  refine lv_lconst (v := 1) hx hb dX0_isEnd_3 (by decide) ?_
  refine rm_cS (ls := ls) (As := [.long v.toInt64, .long 0, .long 1]) (rest := []) ⟨hx, hb, hml, hown, hts⟩ (metX0_isIn l v.toInt64 0 1 ) (cwX0_isIn_X0 hts ⟨Nat.le_of_ble_eq_true rfl, Nat.le_of_ble_eq_true rfl⟩) noB rfl hl.1 rfl (Nat.le_of_ble_eq_true rfl) dX0_isEnd_4 ⟨Nat.zero_le _, Nat.zero_le _⟩ ?_
  exact hret _ 7 ls (by rw [isIn_I 0 1 0 1 (by decide) (by decide)]) dX0_isEnd_7
theorem cwX0_isEnd_X0 {R : Room} {s : State} {args : Array Value} (hts : ∀ w ∈ lw_all, w.before args s = true) (hR : (rmX0_isEnd).frames + 1 ≤ R.frames ∧ 8 + (1 + 11) + (rmX0_isEnd).locals ≤ R.locals) : CallB R s args RX0 286 yX0_isEnd cX0_isEnd 1 (some .boolean) (ws_ yX0_isEnd cX0_isEnd 1 (some .boolean)) rmX0_isEnd 0 0 1 ∧ (Cond.static yX0_isEnd).before args s = true := va_cwS 1 hts (lw_S q615 q616 q57 q617) rfl rfl rfl (by decide +kernel) hR
abbrev rmX0_isSchedule : Room := { frames := 1, cells := 0, slots := 0, locals := 25 }
set_option maxHeartbeats 4000000 in
theorem metX0_isSchedule (l : Launch) (v : Int32)  : RO l yX0_isSchedule cX0_isSchedule 1 (some .boolean) rmX0_isSchedule [.int v] (fun _ => True) (bI (inI 0 2 v)) := by
  refine ro_bool rfl (Nat.le_of_ble_eq_true rfl) ?_
  intro p e s m below meth cd Q ls hx hb hml hown hts hB hl hret
  have hown : s.vm.findClass RX0 = some m.cls := hown
  have hl : lv_has ls 1 [(0, .int v)] := hl
  refine lv_iload_n hx hb dX0_isSchedule_0 rfl (lv_at hl 0 rfl) ?_
  refine lv_i2l (v := v.toInt64) hx hb dX0_isSchedule_1 rfl ?_
  refine lv_lconst (v := 0) hx hb dX0_isSchedule_2 (by decide) ?_
  refine lv_ldc2 (v := 2) hx hb hown (hts _ q248) dX0_isSchedule_3 ?_
  refine rm_cS (ls := ls) (As := [.long v.toInt64, .long 0, .long 2]) (rest := []) ⟨hx, hb, hml, hown, hts⟩ (metX0_isIn l v.toInt64 0 2 ) (cwX0_isIn_X0 hts ⟨Nat.le_of_ble_eq_true rfl, Nat.le_of_ble_eq_true rfl⟩) noB rfl hl.1 rfl (Nat.le_of_ble_eq_true rfl) dX0_isSchedule_6 ⟨Nat.zero_le _, Nat.zero_le _⟩ ?_
  exact hret _ 9 ls (by rw [isIn_I 0 2 0 2 (by decide) (by decide)]) dX0_isSchedule_9
theorem cwX0_isSchedule_X0 {R : Room} {s : State} {args : Array Value} (hts : ∀ w ∈ lw_all, w.before args s = true) (hR : (rmX0_isSchedule).frames + 1 ≤ R.frames ∧ 8 + (1 + 11) + (rmX0_isSchedule).locals ≤ R.locals) : CallB R s args RX0 253 yX0_isSchedule cX0_isSchedule 1 (some .boolean) (ws_ yX0_isSchedule cX0_isSchedule 1 (some .boolean)) rmX0_isSchedule 0 0 1 ∧ (Cond.static yX0_isSchedule).before args s = true := va_cwS 1 hts (lw_S q496 q497 q57 q498) rfl rfl rfl (by decide +kernel) hR
abbrev rmX0_isCell : Room := { frames := 1, cells := 0, slots := 0, locals := 25 }
set_option maxHeartbeats 4000000 in
theorem metX0_isCell (l : Launch) (D : va_G) (cA : Nat → ClassId) (b ra : Nat → Nat) (cN : Nat → Nat) (cV : Nat → Nat → Nat) (cM : Nat → Nat) (cR : Nat → Nat → Nat) (kp : Nat → Bool) (nu : Nat → Option Nat) (sO tO fS sP : Nat → Nat) (sN lA : Nat → Option Nat) (tG : Nat → Nat) (v : Int32) (hn3 : 3 ≤ cN 0) (hn10 : cN 0 ≤ 10) : RO l yX0_isCell cX0_isCell 2 (some .boolean) rmX0_isCell [.ref (b 0), .int v] (wB D cA (cW b ra cA cN cV cM cR kp nu sO tO fS sP sN lA tG)) (bI (inL (cN 0) v)) := by
  refine ro_bool rfl (Nat.le_of_ble_eq_true rfl) ?_
  intro p e s m below meth cd Q ls hx hb hml hown hts hB hl hret
  obtain ⟨hP, hK, hN⟩ := hB
  have hown : s.vm.findClass RX0 = some m.cls := hown
  have hl : lv_has ls 2 [(0, .ref (b 0)), (1, .int v)] := hl
  refine lv_iload_n hx hb dX0_isCell_0 rfl (lv_at hl 1 rfl) ?_
  refine lv_i2l (v := v.toInt64) hx hb dX0_isCell_1 rfl ?_
  refine lv_lconst (v := 0) hx hb dX0_isCell_2 (by decide) ?_
  refine lv_aload_n hx hb dX0_isCell_3 rfl (lv_at hl 0 rfl) ?_
  refine va_get (D := D) (ci := 0) (v := .ref (b 1)) (C := RX0) (T := TX0) (N := 13) hx hb hts in_X0 hown hK hP 0 rfl xc0 0 (by decide) (hts _ q170) (fun _ h9 => h9) rfl dX0_isCell_4 ?_
  refine va_getN (D := D) (ci := 1) (v := .int (nI (cN 0))) (C := RX1) (T := TX1) (N := 4) hx hb hts in_X1 hown hK hP 1 rfl xc1 0 (by decide) (va_Nw.use rfl (hN.1 _ q122 rfl)) (fun _ h9 => h9) rfl dX0_isCell_7 ?_
  refine lv_i2l (v := (nI (cN 0)).toInt64) hx hb dX0_isCell_10 rfl ?_
  refine lv_lconst (v := 1) hx hb dX0_isCell_11 (by decide) ?_
  refine lv_lsub hx hb dX0_isCell_12 ?_
  refine rm_cS (ls := ls) (As := [.long v.toInt64, .long 0, .long (((nI (cN 0)).toInt64) - 1)]) (rest := []) ⟨hx, hb, hml, hown, hts⟩ (metX0_isIn l v.toInt64 0 (((nI (cN 0)).toInt64) - 1) ) (cwX0_isIn_X0 hts ⟨Nat.le_of_ble_eq_true rfl, Nat.le_of_ble_eq_true rfl⟩) noB rfl hl.1 rfl (Nat.le_of_ble_eq_true rfl) dX0_isCell_13 ⟨Nat.zero_le _, Nat.zero_le _⟩ ?_
  exact hret _ 16 ls (by rw [isIn_L (by omega)]) dX0_isCell_16
theorem cwX0_isCell_X0 {R : Room} {s : State} {args : Array Value} (hts : ∀ w ∈ lw_all, w.before args s = true) (hR : (rmX0_isCell).frames + 1 ≤ R.frames ∧ 8 + (2 + 11) + (rmX0_isCell).locals ≤ R.locals) : CallW R s args RX0 RX0 78 yX0_isCell cX0_isCell 2 (some .boolean) (ws_ yX0_isCell cX0_isCell 2 (some .boolean)) rmX0_isCell 0 0 1 := cwV 1 hts (lw_V q231 q233 qs0 q57 q234) rfl rfl rfl (by decide +kernel) hR
abbrev rmX0_isRule : Room := { frames := 1, cells := 0, slots := 0, locals := 25 }
set_option maxHeartbeats 4000000 in
theorem metX0_isRule (l : Launch) (D : va_G) (cA : Nat → ClassId) (b ra : Nat → Nat) (cN : Nat → Nat) (cV : Nat → Nat → Nat) (cM : Nat → Nat) (cR : Nat → Nat → Nat) (kp : Nat → Bool) (nu : Nat → Option Nat) (sO tO fS sP : Nat → Nat) (sN lA : Nat → Option Nat) (tG : Nat → Nat) (v : Int32) (hm : cM 0 ≤ 10) : RO l yX0_isRule cX0_isRule 2 (some .boolean) rmX0_isRule [.ref (b 0), .int v] (wB D cA (cW b ra cA cN cV cM cR kp nu sO tO fS sP sN lA tG)) (bI (inL (cM 0) v)) := by
  refine ro_bool rfl (Nat.le_of_ble_eq_true rfl) ?_
  intro p e s m below meth cd Q ls hx hb hml hown hts hB hl hret
  obtain ⟨hP, hK, hN⟩ := hB
  have hown : s.vm.findClass RX0 = some m.cls := hown
  have hl : lv_has ls 2 [(0, .ref (b 0)), (1, .int v)] := hl
  refine lv_iload_n hx hb dX0_isRule_0 rfl (lv_at hl 1 rfl) ?_
  refine lv_i2l (v := v.toInt64) hx hb dX0_isRule_1 rfl ?_
  refine lv_lconst (v := 0) hx hb dX0_isRule_2 (by decide) ?_
  refine lv_aload_n hx hb dX0_isRule_3 rfl (lv_at hl 0 rfl) ?_
  refine va_get (D := D) (ci := 0) (v := .ref (b 1)) (C := RX0) (T := TX0) (N := 13) hx hb hts in_X0 hown hK hP 0 rfl xc0 0 (by decide) (hts _ q170) (fun _ h9 => h9) rfl dX0_isRule_4 ?_
  refine va_getN (D := D) (ci := 1) (v := .int (nI (cM 0))) (C := RX1) (T := TX1) (N := 4) hx hb hts in_X1 hown hK hP 1 rfl xc1 3 (by decide) (va_Nw.use rfl (hN.1 _ q128 rfl)) (fun _ h9 => h9) rfl dX0_isRule_7 ?_
  refine lv_i2l (v := (nI (cM 0)).toInt64) hx hb dX0_isRule_10 rfl ?_
  refine lv_lconst (v := 1) hx hb dX0_isRule_11 (by decide) ?_
  refine lv_lsub hx hb dX0_isRule_12 ?_
  refine rm_cS (ls := ls) (As := [.long v.toInt64, .long 0, .long (((nI (cM 0)).toInt64) - 1)]) (rest := []) ⟨hx, hb, hml, hown, hts⟩ (metX0_isIn l v.toInt64 0 (((nI (cM 0)).toInt64) - 1) ) (cwX0_isIn_X0 hts ⟨Nat.le_of_ble_eq_true rfl, Nat.le_of_ble_eq_true rfl⟩) noB rfl hl.1 rfl (Nat.le_of_ble_eq_true rfl) dX0_isRule_13 ⟨Nat.zero_le _, Nat.zero_le _⟩ ?_
  exact hret _ 16 ls (by rw [isIn_L (by omega)]) dX0_isRule_16
theorem cwX0_isRule_X0 {R : Room} {s : State} {args : Array Value} (hts : ∀ w ∈ lw_all, w.before args s = true) (hR : (rmX0_isRule).frames + 1 ≤ R.frames ∧ 8 + (2 + 11) + (rmX0_isRule).locals ≤ R.locals) : CallW R s args RX0 RX0 209 yX0_isRule cX0_isRule 2 (some .boolean) (ws_ yX0_isRule cX0_isRule 2 (some .boolean)) rmX0_isRule 0 0 1 := cwV 1 hts (lw_V q445 q447 qs12 q57 q448) rfl rfl rfl (by decide +kernel) hR
abbrev rmX1_all : Room := { frames := 0, cells := 0, slots := 0, locals := 0 }
set_option maxHeartbeats 4000000 in
theorem metX1_all (l : Launch) (D : va_G) (cA : Nat → ClassId) (a1 a2 a3 : Nat) (n : Nat) (w : Nat → Nat) (m : Nat)   : RO l yX1_all cX1_all 6 (some .int) rmX1_all [.ref a1] (wB D cA (dkW a1 a2 a3 cA n w m)) ((nI (sm w 10))) := by
  refine ro_int rfl (Nat.le_of_ble_eq_true rfl) ?_
  intro p e s m below meth cd Q ls hx hb hml hown hts hB hl hret
  obtain ⟨hP, hK, hN⟩ := hB
  have hown : s.vm.findClass RX1 = some m.cls := hown
  have hl : lv_has ls 6 [(0, .ref a1)] := hl
  refine lv_iconst (v := (nI 0)) hx hb dX1_all_0 (by decide) ?_
  refine lv_istore_n (lv' := [(1, .int (nI 0)), (0, .ref a1)]) hx hb dX1_all_1 rfl hl (by decide) rfl (fun ls hl => ?_)
  refine lv_aload_n hx hb dX1_all_2 rfl (lv_at hl 1 rfl) ?_
  refine va_get (D := D) (ci := 1) (v := .ref a2) (C := RX1) (T := TX1) (N := 4) hx hb hts in_X1 hown hK hP 0 rfl xc1 1 (by decide) (hts _ q123) (fun _ h9 => h9) rfl dX1_all_3 ?_
  refine lv_astore_n (lv' := [(2, .ref a2), (1, .int (nI 0)), (0, .ref a1)]) hx hb dX1_all_6 rfl hl (by decide) rfl (fun ls hl => ?_)
  refine lv_aload_n hx hb dX1_all_7 rfl (lv_at hl 0 rfl) ?_
  refine va_alen (v := nI 10) hx hb hK hP 1 0 rfl (xt0 cA) rfl dX1_all_8 ?_
  refine lv_istore_n (lv' := [(3, .int (nI 10)), (2, .ref a2), (1, .int (nI 0)), (0, .ref a1)]) hx hb dX1_all_9 rfl hl (by decide) rfl (fun ls hl => ?_)
  refine lv_iconst (v := (nI 0)) hx hb dX1_all_10 (by decide) ?_
  refine lv_istore (lv' := [(4, .int (nI 0)), (3, .int (nI 10)), (2, .ref a2), (1, .int (nI 0)), (0, .ref a1)]) hx hb dX1_all_11 hl (by decide) rfl (fun ls hl => ?_)
  have loop13 : ∀ (N : Nat) (c : Nat), 10 - c < N → (c ≤ 10) → ∀ (ls : Array Slot), lv_has ls 6 [(4, .int (nI c)), (1, .int (nI (sm w c))), (3, .int (nI 10)), (2, .ref a2), (0, .ref a1)] → W p l e rmX1_all s m ([.ref a1] : List Value).toArray below meth cd s.heap [] 0 0 Q (F0 m 13 ls []) := by
    intro N
    induction N with
    | zero => intro c hm; exact absurd hm (Nat.not_lt_zero _)
    | succ N ih13 =>
      intro c hm13 i13_0 ls hl
      refine lv_iload hx hb dX1_all_13 (lv_at hl 0 rfl) ?_
      refine lv_iload_n hx hb dX1_all_15 rfl (lv_at hl 2 rfl) ?_
      refine rm_cge (tgt := 36) hx hb dX1_all_16 (by decide) (by omega) (by decide) (fun q16 => ?_) (fun q16 => ?_)
      · skip
        refine lv_iload_n hx hb dX1_all_36 rfl (lv_at hl 1 rfl) ?_
        exact hret _ 37 ls (by rw [show c = 10 by omega]) dX1_all_37
      · skip
        refine lv_aload_n hx hb dX1_all_19 rfl (lv_at hl 3 rfl) ?_
        refine lv_iload hx hb dX1_all_20 (lv_at hl 0 rfl) ?_
        refine rm_nld hx hb hK hP 1 rfl (by omega) (by decide) dX1_all_22 ?_
        refine lv_istore (lv' := [(5, .int (nI (w c))), (4, .int (nI c)), (1, .int (nI (sm w c))), (3, .int (nI 10)), (2, .ref a2), (0, .ref a1)]) hx hb dX1_all_23 hl (by decide) rfl (fun ls hl => ?_)
        refine lv_iload_n hx hb dX1_all_25 rfl (lv_at hl 2 rfl) ?_
        refine lv_iload hx hb dX1_all_26 (lv_at hl 0 rfl) ?_
        refine rm_iadd hx hb dX1_all_28 ?_
        refine lv_istore_n (lv' := [(1, .int (nI ((sm w c) + (w c)))), (5, .int (nI (w c))), (4, .int (nI c)), (3, .int (nI 10)), (2, .ref a2), (0, .ref a1)]) hx hb dX1_all_29 rfl hl (by decide) rfl (fun ls hl => ?_)
        refine lv_iinc (v := (nI (c + 1))) (lv' := [(4, .int (nI (c + 1))), (1, .int (nI ((sm w c) + (w c)))), (5, .int (nI (w c))), (3, .int (nI 10)), (2, .ref a2), (0, .ref a1)]) hx hb dX1_all_30 hl (k := 2) rfl (rm_inc c 1) (by decide) rfl (fun ls hl => ?_)
        refine lv_goto (tgt := 13) hx hb dX1_all_33 (by decide) ?_
        exact ih13 (c + 1) (by omega) (by omega) ls (lv_sub hl [0, 1, 3, 4, 5] rfl)
  exact loop13 _ 0 (Nat.lt_succ_self _) (by omega) ls (lv_sub hl [0, 3, 1, 2, 4] rfl)
theorem cwX1_all_X0 {R : Room} {s : State} {args : Array Value} (hts : ∀ w ∈ lw_all, w.before args s = true) (hR : (rmX1_all).frames + 1 ≤ R.frames ∧ 8 + (6 + 11) + (rmX1_all).locals ≤ R.locals) : CallW R s args RX0 RX1 91 yX1_all cX1_all 6 (some .int) (ws_ yX1_all cX1_all 6 (some .int)) rmX1_all 0 0 0 := cwV 0 hts (lw_V q236 q237 q238 q58 q239) rfl rfl rfl (by decide +kernel) hR
abbrev rmX1_with : Room := { frames := 0, cells := 0, slots := 0, locals := 0 }
set_option maxHeartbeats 4000000 in
theorem metX1_with (l : Launch) (D : va_G) (cA : Nat → ClassId) (a1 a2 a3 : Nat) (n : Nat) (w : Nat → Nat) (m : Nat) (k : Nat) (hn : n ≤ 10) (hw : ∀ c, w c < 2 ^ 31) (hk : k < 2 ^ 31) : RO l yX1_with cX1_with 4 (some .int) rmX1_with [.ref a1, .int (nI k)] (wB D cA (dkW a1 a2 a3 cA n w m)) ((nI (bs (fun c => decide (k ≤ w c)) n))) := by
  refine ro_int rfl (Nat.le_of_ble_eq_true rfl) ?_
  intro p e s m below meth cd Q ls hx hb hml hown hts hB hl hret
  obtain ⟨hP, hK, hN⟩ := hB
  have hown : s.vm.findClass RX1 = some m.cls := hown
  have hl : lv_has ls 4 [(0, .ref a1), (1, .int (nI k))] := hl
  refine lv_iconst (v := (nI 0)) hx hb dX1_with_0 (by decide) ?_
  refine lv_istore_n (lv' := [(2, .int (nI 0)), (0, .ref a1), (1, .int (nI k))]) hx hb dX1_with_1 rfl hl (by decide) rfl (fun ls hl => ?_)
  refine lv_iconst (v := (nI 0)) hx hb dX1_with_2 (by decide) ?_
  refine lv_istore_n (lv' := [(3, .int (nI 0)), (2, .int (nI 0)), (0, .ref a1), (1, .int (nI k))]) hx hb dX1_with_3 rfl hl (by decide) rfl (fun ls hl => ?_)
  have loop4 : ∀ (N : Nat) (c : Nat), n - c < N → (c ≤ n) → ∀ (ls : Array Slot), lv_has ls 4 [(3, .int (nI c)), (2, .int (nI (bs (fun c => decide (k ≤ w c)) c))), (0, .ref a1), (1, .int (nI k))] → W p l e rmX1_with s m ([.ref a1, .int (nI k)] : List Value).toArray below meth cd s.heap [] 0 0 Q (F0 m 4 ls []) := by
    intro N
    induction N with
    | zero => intro c hm; exact absurd hm (Nat.not_lt_zero _)
    | succ N ih4 =>
      intro c hm4 i4_0 ls hl
      refine lv_iload_n hx hb dX1_with_4 rfl (lv_at hl 0 rfl) ?_
      refine lv_aload_n hx hb dX1_with_5 rfl (lv_at hl 2 rfl) ?_
      refine va_get (D := D) (ci := 1) (v := .int (nI n)) (C := RX1) (T := TX1) (N := 4) hx hb hts in_X1 hown hK hP 0 rfl xc1 0 (by decide) (hts _ q120) (fun _ h9 => h9) rfl dX1_with_6 ?_
      refine rm_cge (tgt := 38) hx hb dX1_with_9 (by decide) (by first | omega | exact hw _) (by first | omega | exact hw _) (fun q9 => ?_) (fun q9 => ?_)
      · skip
        refine lv_iload_n hx hb dX1_with_38 rfl (lv_at hl 1 rfl) ?_
        exact hret _ 39 ls (by rw [show c = n by omega]) dX1_with_39
      · skip
        refine lv_iload_n hx hb dX1_with_12 rfl (lv_at hl 1 rfl) ?_
        have join30 : ∀ (ls : Array Slot), lv_has ls 4 [(3, .int (nI c)), (2, .int (nI (bs (fun c => decide (k ≤ w c)) c))), (0, .ref a1), (1, .int (nI k))] → W p l e rmX1_with s m ([.ref a1, .int (nI k)] : List Value).toArray below meth cd s.heap [] 0 0 Q (F0 m 30 ls [.int (nI (if decide (k ≤ w c) then 2 ^ c else 0)), .int (nI (bs (fun c => decide (k ≤ w c)) c))]) := by
          intro   ls hl
          refine rm_ior hx hb dX1_with_30 ?_
          refine lv_istore_n (lv' := [(2, .int (nI ((bs (fun c => decide (k ≤ w c)) c) ||| (if decide (k ≤ w c) then 2 ^ c else 0)))), (3, .int (nI c)), (0, .ref a1), (1, .int (nI k))]) hx hb dX1_with_31 rfl hl (by decide) rfl (fun ls hl => ?_)
          refine lv_iinc (v := (nI (c + 1))) (lv' := [(3, .int (nI (c + 1))), (2, .int (nI ((bs (fun c => decide (k ≤ w c)) c) ||| (if decide (k ≤ w c) then 2 ^ c else 0)))), (0, .ref a1), (1, .int (nI k))]) hx hb dX1_with_32 hl (k := 1) rfl (rm_inc c 1) (by decide) rfl (fun ls hl => ?_)
          refine lv_goto (tgt := 4) hx hb dX1_with_35 (by decide) ?_
          exact ih4 (c + 1) (by omega) (by omega) ls hl
        refine lv_aload_n hx hb dX1_with_13 rfl (lv_at hl 2 rfl) ?_
        refine va_get (D := D) (ci := 1) (v := .ref a2) (C := RX1) (T := TX1) (N := 4) hx hb hts in_X1 hown hK hP 0 rfl xc1 1 (by decide) (hts _ q123) (fun _ h9 => h9) rfl dX1_with_14 ?_
        refine lv_iload_n hx hb dX1_with_17 rfl (lv_at hl 0 rfl) ?_
        refine rm_nld hx hb hK hP 1 rfl (by omega) (by decide) dX1_with_18 ?_
        refine lv_iload_n hx hb dX1_with_19 rfl (lv_at hl 3 rfl) ?_
        refine rm_clt (tgt := 29) hx hb dX1_with_20 (by decide) (by first | omega | exact hw _) (by first | omega | exact hw _) (fun q20 => ?_) (fun q20 => ?_)
        · skip
          refine lv_iconst (v := (nI 0)) hx hb dX1_with_29 (by decide) ?_
          refine rm_top (y := (nI (if decide (k ≤ w c) then 2 ^ c else 0))) (by rw [decide_eq_false (by omega)]; rfl) ?_
          exact join30   ls hl
        · skip
          refine lv_iconst (v := (nI 1)) hx hb dX1_with_23 (by decide) ?_
          refine lv_iload_n hx hb dX1_with_24 rfl (lv_at hl 0 rfl) ?_
          refine rm_ishl1 hx hb dX1_with_25 (by omega) ?_
          refine lv_goto (tgt := 30) hx hb dX1_with_26 (by decide) ?_
          refine rm_top (y := (nI (if decide (k ≤ w c) then 2 ^ c else 0))) (by rw [decide_eq_true (by omega)]; rfl) ?_
          exact join30   ls hl
  exact loop4 _ 0 (Nat.lt_succ_self _) (by omega) ls hl
theorem cwX1_with_X0 {R : Room} {s : State} {args : Array Value} (hts : ∀ w ∈ lw_all, w.before args s = true) (hR : (rmX1_with).frames + 1 ≤ R.frames ∧ 8 + (4 + 11) + (rmX1_with).locals ≤ R.locals) : CallW R s args RX0 RX1 74 yX1_with cX1_with 4 (some .int) (ws_ yX1_with cX1_with 4 (some .int)) rmX1_with 0 0 1 := cwV 1 hts (lw_V q253 q254 q255 q58 q256) rfl rfl rfl (by decide +kernel) hR
abbrev rmX2_isSo : Room := { frames := 0, cells := 0, slots := 0, locals := 0 }
set_option maxHeartbeats 4000000 in
theorem metX2_isSo (l : Launch) (D : va_G) (cA : Nat → ClassId) (a1 : Nat) (f : Nat → Nat) (g : Nat) (hf : ∀ k, f k < 2 ^ 31) (hg : g < 2 ^ 31) : RO l yX2_isSo cX2_isSo 2 (some .boolean) rmX2_isSo [.ref a1, .int (nI g)] (wB D cA ([(a1, .inr (2, rV f))])) (bI (if f 2 = 0 then decide (g < f 3) else if f 2 = 1 then decide (g = f 3) else decide (f 3 < g))) := by
  refine ro_bool rfl (Nat.le_of_ble_eq_true rfl) ?_
  intro p e s m below meth cd Q ls hx hb hml hown hts hB hl hret
  obtain ⟨hP, hK, hN⟩ := hB
  have hown : s.vm.findClass RX2 = some m.cls := hown
  have hl : lv_has ls 2 [(0, .ref a1), (1, .int (nI g))] := hl
  refine lv_aload_n hx hb dX2_isSo_0 rfl (lv_at hl 0 rfl) ?_
  refine va_get (D := D) (ci := 2) (v := .int (nI (f 2))) (C := RX2) (T := TX2) (N := 6) hx hb hts in_X2 hown hK hP 0 rfl xc2 2 (by decide) (hts _ q98) (fun _ h9 => h9) rfl dX2_isSo_1 ?_
  refine rm_ine (tgt := 23) hx hb dX2_isSo_4 (by decide) (by first | omega | exact hf _) (fun q4 => ?_) (fun q4 => ?_)
  · skip
    refine lv_aload_n hx hb dX2_isSo_23 rfl (lv_at hl 0 rfl) ?_
    refine va_get (D := D) (ci := 2) (v := .int (nI (f 2))) (C := RX2) (T := TX2) (N := 6) hx hb hts in_X2 hown hK hP 0 rfl xc2 2 (by decide) (hts _ q98) (fun _ h9 => h9) rfl dX2_isSo_24 ?_
    refine lv_iconst (v := (nI 1)) hx hb dX2_isSo_27 (by decide) ?_
    refine rm_cne (tgt := 47) hx hb dX2_isSo_28 (by decide) (by first | omega | exact hf _) (by decide) (fun q28 => ?_) (fun q28 => ?_)
    · skip
      refine lv_iload_n hx hb dX2_isSo_47 rfl (lv_at hl 1 rfl) ?_
      refine lv_aload_n hx hb dX2_isSo_48 rfl (lv_at hl 0 rfl) ?_
      refine va_get (D := D) (ci := 2) (v := .int (nI (f 3))) (C := RX2) (T := TX2) (N := 6) hx hb hts in_X2 hown hK hP 0 rfl xc2 3 (by decide) (hts _ q100) (fun _ h9 => h9) rfl dX2_isSo_49 ?_
      refine rm_cle (tgt := 59) hx hb dX2_isSo_52 (by decide) (by first | omega | exact hf _) (by first | omega | exact hf _) (fun q52 => ?_) (fun q52 => ?_)
      · skip
        refine lv_iconst (v := (nI 0)) hx hb dX2_isSo_59 (by decide) ?_
        exact hret _ 60 ls (by rw [if_neg (by omega), if_neg q28, decide_eq_false (by omega)]; rfl) dX2_isSo_60
      · skip
        refine lv_iconst (v := (nI 1)) hx hb dX2_isSo_55 (by decide) ?_
        refine lv_goto (tgt := 60) hx hb dX2_isSo_56 (by decide) ?_
        exact hret _ 60 ls (by rw [if_neg (by omega), if_neg q28, decide_eq_true q52]; rfl) dX2_isSo_60
    · skip
      refine lv_iload_n hx hb dX2_isSo_31 rfl (lv_at hl 1 rfl) ?_
      refine lv_aload_n hx hb dX2_isSo_32 rfl (lv_at hl 0 rfl) ?_
      refine va_get (D := D) (ci := 2) (v := .int (nI (f 3))) (C := RX2) (T := TX2) (N := 6) hx hb hts in_X2 hown hK hP 0 rfl xc2 3 (by decide) (hts _ q100) (fun _ h9 => h9) rfl dX2_isSo_33 ?_
      refine rm_cne (tgt := 43) hx hb dX2_isSo_36 (by decide) (by first | omega | exact hf _) (by first | omega | exact hf _) (fun q36 => ?_) (fun q36 => ?_)
      · skip
        refine lv_iconst (v := (nI 0)) hx hb dX2_isSo_43 (by decide) ?_
        refine lv_goto (tgt := 60) hx hb dX2_isSo_44 (by decide) ?_
        exact hret _ 60 ls (by rw [if_neg (by omega), if_pos q28, decide_eq_false q36]; rfl) dX2_isSo_60
      · skip
        refine lv_iconst (v := (nI 1)) hx hb dX2_isSo_39 (by decide) ?_
        refine lv_goto (tgt := 60) hx hb dX2_isSo_40 (by decide) ?_
        exact hret _ 60 ls (by rw [if_neg (by omega), if_pos q28, decide_eq_true q36]; rfl) dX2_isSo_60
  · skip
    refine lv_iload_n hx hb dX2_isSo_7 rfl (lv_at hl 1 rfl) ?_
    refine lv_aload_n hx hb dX2_isSo_8 rfl (lv_at hl 0 rfl) ?_
    refine va_get (D := D) (ci := 2) (v := .int (nI (f 3))) (C := RX2) (T := TX2) (N := 6) hx hb hts in_X2 hown hK hP 0 rfl xc2 3 (by decide) (hts _ q100) (fun _ h9 => h9) rfl dX2_isSo_9 ?_
    refine rm_cge (tgt := 19) hx hb dX2_isSo_12 (by decide) (by first | omega | exact hf _) (by first | omega | exact hf _) (fun q12 => ?_) (fun q12 => ?_)
    · skip
      refine lv_iconst (v := (nI 0)) hx hb dX2_isSo_19 (by decide) ?_
      refine lv_goto (tgt := 60) hx hb dX2_isSo_20 (by decide) ?_
      exact hret _ 60 ls (by rw [if_pos q4, decide_eq_false (by omega)]; rfl) dX2_isSo_60
    · skip
      refine lv_iconst (v := (nI 1)) hx hb dX2_isSo_15 (by decide) ?_
      refine lv_goto (tgt := 60) hx hb dX2_isSo_16 (by decide) ?_
      exact hret _ 60 ls (by rw [if_pos q4, decide_eq_true q12]; rfl) dX2_isSo_60
theorem cwX2_isSo_X0 {R : Room} {s : State} {args : Array Value} (hts : ∀ w ∈ lw_all, w.before args s = true) (hR : (rmX2_isSo).frames + 1 ≤ R.frames ∧ 8 + (2 + 11) + (rmX2_isSo).locals ≤ R.locals) : CallW R s args RX0 RX2 216 yX2_isSo cX2_isSo 2 (some .boolean) (ws_ yX2_isSo cX2_isSo 2 (some .boolean)) rmX2_isSo 0 0 1 := cwV 1 hts (lw_V q473 q474 q475 q59 q476) rfl rfl rfl (by decide +kernel) hR
