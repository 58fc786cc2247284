set_option maxRecDepth 100000

abbrev rmX6_of : Room := { frames := 2, cells := 0, slots := 0, locals := 43 }
set_option maxHeartbeats 4000000 in
theorem metX6_of (l : Launch) (D : va_G) (cA : Nat → ClassId) (a : Nat → Nat) (st im : Nat → Nat) (kp : Nat → Bool) (nx li : Nat → Nat) (isl : Nat → Bool) (mv : Nat → Nat) (so la : Nat → Option Nat) (cm : Nat → Nat) (ld us : Nat) (bl : Bool) (v what : Int32) (hm : st 11 ≤ 10) : RO l yX6_of cX6_of 3 (some .int) rmX6_of [.ref (a 0), .int v, .int what] (wB D cA (mW a cA st im kp nx li isl mv so la cm ld us bl)) ((ofR (st 11) (rS st) v what)) := by
  refine ro_int rfl (Nat.le_of_ble_eq_true rfl) ?_
  intro p e s m below meth cd Q ls hx hb hml hown hts hB hl hret
  obtain ⟨hP, hK, hN⟩ := hB
  have hown : s.vm.findClass RX6 = some m.cls := hown
  have hl : lv_has ls 3 [(0, .ref (a 0)), (1, .int v), (2, .int what)] := hl
  refine lv_aload_n hx hb dX6_of_0 rfl (lv_at hl 0 rfl) ?_
  refine lv_iload_n hx hb dX6_of_1 rfl (lv_at hl 1 rfl) ?_
  refine rm_cV (ls := ls) (As := [.int v]) (rest := []) ⟨hx, hb, hml, hown, hts⟩ (metX6_isRule l D cA a st im kp nx li isl mv so la cm ld us bl v (by first | assumption | omega)) (cwX6_isRule_X6 hts ⟨Nat.le_of_ble_eq_true rfl, Nat.le_of_ble_eq_true rfl⟩) hP hK hN (va_recv hK hP xc5 (q0 := 0) rfl) rfl hl.1 rfl (Nat.le_of_ble_eq_true rfl) dX6_of_2 ⟨Nat.zero_le _, Nat.zero_le _⟩ ?_
  refine rm_bne (tgt := 10) hx hb dX6_of_5 (by decide) (fun q5 => ?_) (fun q5 => ?_)
  · skip
    have hV : inL (st 11) v = true := q5
    refine lv_iload_n hx hb dX6_of_10 rfl (lv_at hl 2 rfl) ?_
    refine lv_iconst (v := (nI 0)) hx hb dX6_of_11 (by decide) ?_
    refine lv_iconst (v := (nI 5)) hx hb dX6_of_12 (by decide) ?_
    refine rm_cS (ls := ls) (As := [.int what, .int (nI 0), .int (nI 5)]) (rest := []) ⟨hx, hb, hml, hown, hts⟩ (metX6_in l what (nI 0) (nI 5) ) (cwX6_in_X6 hts ⟨Nat.le_of_ble_eq_true rfl, Nat.le_of_ble_eq_true rfl⟩) noB rfl hl.1 rfl (Nat.le_of_ble_eq_true rfl) dX6_of_13 ⟨Nat.zero_le _, Nat.zero_le _⟩ ?_
    refine rm_beq (tgt := 36) hx hb dX6_of_16 (by decide) (fun q16 => ?_) (fun q16 => ?_)
    · skip
      refine lv_bipush (v := (-2)) hx hb dX6_of_36 (by decide) ?_
      exact hret _ 38 ls (by unfold ofR; rw [hV, show inI 0 5 what = false from q16]; rfl) dX6_of_38
    · skip
      have hWh : inI 0 5 what = true := q16
      obtain ⟨j, hj, rfl⟩ := (inL_iff (by omega)).mp q5
      obtain ⟨t, ht0, ht2, rfl⟩ := (inI_iff (lo := 0) (hi := 5) (by decide) (by decide)).mp q16
      refine lv_aload_n hx hb dX6_of_19 rfl (lv_at hl 0 rfl) ?_
      refine va_get (D := D) (ci := 5) (v := .ref (a 1)) (C := RX6) (T := TX6) (N := 14) hx hb hts in_X6 hown hK hP 0 rfl xc5 0 (by decide) (hts _ q640) (fun _ h9 => h9) rfl dX6_of_20 ?_
      refine lv_bipush (v := (nI 12)) hx hb dX6_of_23 (by decide) ?_
      refine lv_bipush (v := (nI 6)) hx hb dX6_of_25 (by decide) ?_
      refine lv_iload_n hx hb dX6_of_27 rfl (lv_at hl 1 rfl) ?_
      refine rm_imul hx hb dX6_of_28 ?_
      refine rm_iadd hx hb dX6_of_29 ?_
      refine lv_iload_n hx hb dX6_of_30 rfl (lv_at hl 2 rfl) ?_
      refine rm_iadd hx hb dX6_of_31 ?_
      refine rm_nld hx hb hK hP 1 rfl (by omega) (by decide) dX6_of_32 ?_
      refine lv_goto (tgt := 38) hx hb dX6_of_33 (by decide) ?_
      exact hret _ 38 ls (by unfold ofR; rw [hV, hWh, nI_clamp (by omega), nI_clamp (by omega)]; rfl) dX6_of_38
  · skip
    refine lv_iconst (v := (-1)) hx hb dX6_of_8 (by decide) ?_
    exact hret _ 9 ls (by unfold ofR; rw [q5]; rfl) dX6_of_9
theorem cwX6_of_L {R : Room} {s : State} {args : Array Value} (hts : ∀ w ∈ lw_all, w.before args s = true) (hR : (rmX6_of).frames + 1 ≤ R.frames ∧ 8 + (3 + 11) + (rmX6_of).locals ≤ R.locals) : CallW R s args "RingMeetsLaw" RX6 48 yX6_of cX6_of 3 (some .int) (ws_ yX6_of cX6_of 3 (some .int)) rmX6_of 0 0 2 := cwV 2 hts (lw_V q788 q789 q790 q63 q791) rfl rfl rfl (by decide +kernel) hR
abbrev rmX6_fits : Room := { frames := 6, cells := 0, slots := 0, locals := 143 }
set_option maxHeartbeats 4000000 in
theorem metX6_fits (l : Launch) (D : va_G) (cA : Nat → ClassId) (a : Nat → Nat) (st im : Nat → Nat) (kp : Nat → Bool) (nx li : Nat → Nat) (isl : Nat → Bool) (mv : Nat → Nat) (so la : Nat → Option Nat) (cm : Nat → Nat) (ld us : Nat) (bl : Bool) (r S c : Nat) (tw : Bool) (hn3 : 3 ≤ st 0) (hn10 : st 0 ≤ 10) (hst : ∀ j, st j < 2 ^ 31) (hS : S < 1024) (hne : ne_ (st 0) S) (hc : c < st 0) (hr : r < 10) (hw : rS st r 5 ≤ 2) : RO l yX6_fits cX6_fits 8 (some .boolean) rmX6_fits [.ref (a 0), .int (nI r), .int (nI S), .int (nI c), .int (bI tw)] (wB D cA (mW a cA st im kp nx li isl mv so la cm ld us bl)) (bI (ft (st 0) S c tw (rS st r))) := by
  refine ro_bool rfl (Nat.le_of_ble_eq_true rfl) ?_
  intro p e s m below meth cd Q ls hx hb hml hown hts hB hl hret
  obtain ⟨hP, hK, hN⟩ := hB
  have hown : s.vm.findClass RX6 = some m.cls := hown
  have hl : lv_has ls 8 [(0, .ref (a 0)), (1, .int (nI r)), (2, .int (nI S)), (3, .int (nI c)), (4, .int (bI tw))] := hl
  have hct : ct S 10 ≤ 10 := ct_le S 10
  refine lv_bipush (v := (nI 12)) hx hb dX6_fits_0 (by decide) ?_
  refine lv_bipush (v := (nI 6)) hx hb dX6_fits_2 (by decide) ?_
  refine lv_iload_n hx hb dX6_fits_4 rfl (lv_at hl 1 rfl) ?_
  refine rm_imul hx hb dX6_fits_5 ?_
  refine rm_iadd hx hb dX6_fits_6 ?_
  refine lv_istore (lv' := [(5, .int (nI (12 + (6 * r)))), (0, .ref (a 0)), (1, .int (nI r)), (2, .int (nI S)), (3, .int (nI c)), (4, .int (bI tw))]) hx hb dX6_fits_7 hl (by decide) rfl (fun ls hl => ?_)
  refine lv_iload_n hx hb dX6_fits_9 rfl (lv_at hl 3 rfl) ?_
  refine rm_cS (ls := ls) (As := [.int (nI S)]) (rest := []) ⟨hx, hb, hml, hown, hts⟩ (metX6_size l S (by first | assumption | omega)) (cwX6_size_X6 hts ⟨Nat.le_of_ble_eq_true rfl, Nat.le_of_ble_eq_true rfl⟩) noB rfl hl.1 rfl (Nat.le_of_ble_eq_true rfl) dX6_fits_10 ⟨Nat.zero_le _, Nat.zero_le _⟩ ?_
  refine lv_istore (lv' := [(6, .int (nI (ct S 10))), (5, .int (nI (12 + (6 * r)))), (0, .ref (a 0)), (1, .int (nI r)), (2, .int (nI S)), (3, .int (nI c)), (4, .int (bI tw))]) hx hb dX6_fits_13 hl (by decide) rfl (fun ls hl => ?_)
  have join37 : ((rS st r 0 = 0 ∨ rS st r 0 = ct S 10)) → ∀ (ls : Array Slot), lv_has ls 8 [(6, .int (nI (ct S 10))), (5, .int (nI (12 + (6 * r)))), (0, .ref (a 0)), (1, .int (nI r)), (2, .int (nI S)), (3, .int (nI c)), (4, .int (bI tw))] → W p l e rmX6_fits s m ([.ref (a 0), .int (nI r), .int (nI S), .int (nI c), .int (bI tw)] : List Value).toArray below meth cd s.heap [] 0 0 Q (F0 m 37 ls []) := by
    intro  i37_0 ls hl
    refine lv_aload_n hx hb dX6_fits_37 rfl (lv_at hl 2 rfl) ?_
    refine va_get (D := D) (ci := 5) (v := .ref (a 1)) (C := RX6) (T := TX6) (N := 14) hx hb hts in_X6 hown hK hP 0 rfl xc5 0 (by decide) (hts _ q640) (fun _ h9 => h9) rfl dX6_fits_38 ?_
    refine lv_iload hx hb dX6_fits_41 (lv_at hl 1 rfl) ?_
    refine lv_iconst (v := (nI 1)) hx hb dX6_fits_43 (by decide) ?_
    refine rm_iadd hx hb dX6_fits_44 ?_
    refine rm_nld hx hb hK hP 1 rfl (by omega) (by decide) dX6_fits_45 ?_
    refine lv_iload hx hb dX6_fits_46 (lv_at hl 0 rfl) ?_
    refine rm_cge (tgt := 73) hx hb dX6_fits_48 (by decide) (by first | omega | exact hst _) (by first | omega | exact hst _) (fun q48 => ?_) (fun q48 => ?_)
    · skip
      refine lv_iconst (v := (nI 0)) hx hb dX6_fits_73 (by decide) ?_
      exact hret _ 74 ls (by rw [ft_f1 q48]; rfl) dX6_fits_74
    · skip
      refine lv_aload_n hx hb dX6_fits_51 rfl (lv_at hl 2 rfl) ?_
      refine va_get (D := D) (ci := 5) (v := .ref (a 1)) (C := RX6) (T := TX6) (N := 14) hx hb hts in_X6 hown hK hP 0 rfl xc5 0 (by decide) (hts _ q640) (fun _ h9 => h9) rfl dX6_fits_52 ?_
      refine lv_iload hx hb dX6_fits_55 (lv_at hl 1 rfl) ?_
      refine lv_iconst (v := (nI 5)) hx hb dX6_fits_57 (by decide) ?_
      refine rm_iadd hx hb dX6_fits_58 ?_
      refine rm_nld hx hb hK hP 1 rfl (by omega) (by decide) dX6_fits_59 ?_
      have join70 : ∀ (ls : Array Slot), lv_has ls 8 [(6, .int (nI (ct S 10))), (5, .int (nI (12 + (6 * r)))), (0, .ref (a 0)), (1, .int (nI r)), (2, .int (nI S)), (3, .int (nI c)), (4, .int (bI tw))] → W p l e rmX6_fits s m ([.ref (a 0), .int (nI r), .int (nI S), .int (nI c), .int (bI tw)] : List Value).toArray below meth cd s.heap [] 0 0 Q (F0 m 70 ls [.int (nI (if tw then 0 else 1)), .int (nI (st ((12 + (6 * r)) + 5)))]) := by
        intro   ls hl
        refine rm_cne (tgt := 75) hx hb dX6_fits_70 (by decide) (by first | omega | exact hst _) (by split <;> decide) (fun q70 => ?_) (fun q70 => ?_)
        · skip
          refine lv_aload_n hx hb dX6_fits_75 rfl (lv_at hl 2 rfl) ?_
          refine lv_iload_n hx hb dX6_fits_76 rfl (lv_at hl 4 rfl) ?_
          refine lv_iload_n hx hb dX6_fits_77 rfl (lv_at hl 5 rfl) ?_
          refine lv_aload_n hx hb dX6_fits_78 rfl (lv_at hl 2 rfl) ?_
          refine lv_iload_n hx hb dX6_fits_79 rfl (lv_at hl 4 rfl) ?_
          refine lv_iload_n hx hb dX6_fits_80 rfl (lv_at hl 5 rfl) ?_
          refine rm_cV (ls := ls) (As := [.int (nI S), .int (nI c)]) (rest := [.int (nI c), .int (nI S), .ref (a 0)]) ⟨hx, hb, hml, hown, hts⟩ (metX6_viewWay l D cA a st im kp nx li isl mv so la cm ld us bl S c (by first | assumption | omega) (by first | assumption | omega) (by first | assumption | omega) (by first | assumption | omega) (by first | assumption | omega)) (cwX6_viewWay_X6 hts ⟨Nat.le_of_ble_eq_true rfl, Nat.le_of_ble_eq_true rfl⟩) hP hK hN (va_recv hK hP xc5 (q0 := 0) rfl) rfl hl.1 rfl (Nat.le_of_ble_eq_true rfl) dX6_fits_81 ⟨Nat.zero_le _, Nat.zero_le _⟩ ?_
          refine lv_aload_n hx hb dX6_fits_84 rfl (lv_at hl 2 rfl) ?_
          refine va_get (D := D) (ci := 5) (v := .ref (a 1)) (C := RX6) (T := TX6) (N := 14) hx hb hts in_X6 hown hK hP 0 rfl xc5 0 (by decide) (hts _ q640) (fun _ h9 => h9) rfl dX6_fits_85 ?_
          refine lv_iload hx hb dX6_fits_88 (lv_at hl 1 rfl) ?_
          refine lv_iconst (v := (nI 1)) hx hb dX6_fits_90 (by decide) ?_
          refine rm_iadd hx hb dX6_fits_91 ?_
          refine rm_nld hx hb hK hP 1 rfl (by omega) (by decide) dX6_fits_92 ?_
          refine rm_cV (ls := ls) (As := [.int (nI S), .int (nI c), .int (dI (sd (st 0) S c)), .int (nI (st ((12 + (6 * r)) + 1)))]) (rest := []) ⟨hx, hb, hml, hown, hts⟩ (metX6_gapAt l D cA a st im kp nx li isl mv so la cm ld us bl S c (sd (st 0) S c) (st ((12 + (6 * r)) + 1)) (by first | assumption | omega) (by first | assumption | omega) (by first | assumption | omega) (by first | assumption | omega) (by first | assumption | omega) (hst _)) (cwX6_gapAt_X6 hts ⟨Nat.le_of_ble_eq_true rfl, Nat.le_of_ble_eq_true rfl⟩) hP hK hN (va_recv hK hP xc5 (q0 := 0) rfl) rfl hl.1 rfl (Nat.le_of_ble_eq_true rfl) dX6_fits_93 ⟨Nat.zero_le _, Nat.zero_le _⟩ ?_
          refine lv_istore (lv' := [(7, .int (nI (ga (st 0) S (sd (st 0) S c) c (st ((12 + (6 * r)) + 1))))), (6, .int (nI (ct S 10))), (5, .int (nI (12 + (6 * r)))), (0, .ref (a 0)), (1, .int (nI r)), (2, .int (nI S)), (3, .int (nI c)), (4, .int (bI tw))]) hx hb dX6_fits_96 hl (by decide) rfl (fun ls hl => ?_)
          refine lv_aload_n hx hb dX6_fits_98 rfl (lv_at hl 3 rfl) ?_
          refine va_get (D := D) (ci := 5) (v := .ref (a 1)) (C := RX6) (T := TX6) (N := 14) hx hb hts in_X6 hown hK hP 0 rfl xc5 0 (by decide) (hts _ q640) (fun _ h9 => h9) rfl dX6_fits_99 ?_
          refine lv_iload hx hb dX6_fits_102 (lv_at hl 2 rfl) ?_
          refine lv_iconst (v := (nI 2)) hx hb dX6_fits_104 (by decide) ?_
          refine rm_iadd hx hb dX6_fits_105 ?_
          refine rm_nld hx hb hK hP 1 rfl (by omega) (by decide) dX6_fits_106 ?_
          refine rm_ine (tgt := 132) hx hb dX6_fits_107 (by decide) (by first | omega | exact hst _) (fun q107 => ?_) (fun q107 => ?_)
          · skip
            refine lv_aload_n hx hb dX6_fits_132 rfl (lv_at hl 3 rfl) ?_
            refine va_get (D := D) (ci := 5) (v := .ref (a 1)) (C := RX6) (T := TX6) (N := 14) hx hb hts in_X6 hown hK hP 0 rfl xc5 0 (by decide) (hts _ q640) (fun _ h9 => h9) rfl dX6_fits_133 ?_
            refine lv_iload hx hb dX6_fits_136 (lv_at hl 2 rfl) ?_
            refine lv_iconst (v := (nI 2)) hx hb dX6_fits_138 (by decide) ?_
            refine rm_iadd hx hb dX6_fits_139 ?_
            refine rm_nld hx hb hK hP 1 rfl (by omega) (by decide) dX6_fits_140 ?_
            refine lv_iconst (v := (nI 1)) hx hb dX6_fits_141 (by decide) ?_
            refine rm_cne (tgt := 167) hx hb dX6_fits_142 (by decide) (by first | omega | exact hst _) (by decide) (fun q142 => ?_) (fun q142 => ?_)
            · skip
              refine lv_iload hx hb dX6_fits_167 (lv_at hl 0 rfl) ?_
              refine lv_aload_n hx hb dX6_fits_169 rfl (lv_at hl 3 rfl) ?_
              refine va_get (D := D) (ci := 5) (v := .ref (a 1)) (C := RX6) (T := TX6) (N := 14) hx hb hts in_X6 hown hK hP 0 rfl xc5 0 (by decide) (hts _ q640) (fun _ h9 => h9) rfl dX6_fits_170 ?_
              refine lv_iload hx hb dX6_fits_173 (lv_at hl 2 rfl) ?_
              refine lv_iconst (v := (nI 3)) hx hb dX6_fits_175 (by decide) ?_
              refine rm_iadd hx hb dX6_fits_176 ?_
              refine rm_nld hx hb hK hP 1 rfl (by omega) (by decide) dX6_fits_177 ?_
              refine rm_cle (tgt := 185) hx hb dX6_fits_178 (by decide) (Nat.lt_of_le_of_lt (ga_le hne _ _ _) (by omega)) (by first | omega | exact hst _) (fun q178 => ?_) (fun q178 => ?_)
              · skip
                refine lv_iconst (v := (nI 0)) hx hb dX6_fits_185 (by decide) ?_
                exact hret _ 186 ls (by rw [ft_c2f (f := rS st r) i37_0 q48 q70 hw q107 q142 q178]; rfl) dX6_fits_186
              · skip
                refine lv_iconst (v := (nI 1)) hx hb dX6_fits_181 (by decide) ?_
                refine lv_goto (tgt := 186) hx hb dX6_fits_182 (by decide) ?_
                exact hret _ 186 ls (by rw [ft_c2t (f := rS st r) i37_0 q48 q70 hw q107 q142 q178]; rfl) dX6_fits_186
            · skip
              refine lv_iload hx hb dX6_fits_145 (lv_at hl 0 rfl) ?_
              refine lv_aload_n hx hb dX6_fits_147 rfl (lv_at hl 3 rfl) ?_
              refine va_get (D := D) (ci := 5) (v := .ref (a 1)) (C := RX6) (T := TX6) (N := 14) hx hb hts in_X6 hown hK hP 0 rfl xc5 0 (by decide) (hts _ q640) (fun _ h9 => h9) rfl dX6_fits_148 ?_
              refine lv_iload hx hb dX6_fits_151 (lv_at hl 2 rfl) ?_
              refine lv_iconst (v := (nI 3)) hx hb dX6_fits_153 (by decide) ?_
              refine rm_iadd hx hb dX6_fits_154 ?_
              refine rm_nld hx hb hK hP 1 rfl (by omega) (by decide) dX6_fits_155 ?_
              refine rm_cne (tgt := 163) hx hb dX6_fits_156 (by decide) (Nat.lt_of_le_of_lt (ga_le hne _ _ _) (by omega)) (by first | omega | exact hst _) (fun q156 => ?_) (fun q156 => ?_)
              · skip
                refine lv_iconst (v := (nI 0)) hx hb dX6_fits_163 (by decide) ?_
                refine lv_goto (tgt := 186) hx hb dX6_fits_164 (by decide) ?_
                exact hret _ 186 ls (by rw [ft_c1f (f := rS st r) i37_0 q48 q70 hw q142 q156]; rfl) dX6_fits_186
              · skip
                refine lv_iconst (v := (nI 1)) hx hb dX6_fits_159 (by decide) ?_
                refine lv_goto (tgt := 186) hx hb dX6_fits_160 (by decide) ?_
                exact hret _ 186 ls (by rw [ft_c1t (f := rS st r) i37_0 q48 q70 hw q142 q156]; rfl) dX6_fits_186
          · skip
            refine lv_iload hx hb dX6_fits_110 (lv_at hl 0 rfl) ?_
            refine lv_aload_n hx hb dX6_fits_112 rfl (lv_at hl 3 rfl) ?_
            refine va_get (D := D) (ci := 5) (v := .ref (a 1)) (C := RX6) (T := TX6) (N := 14) hx hb hts in_X6 hown hK hP 0 rfl xc5 0 (by decide) (hts _ q640) (fun _ h9 => h9) rfl dX6_fits_113 ?_
            refine lv_iload hx hb dX6_fits_116 (lv_at hl 2 rfl) ?_
            refine lv_iconst (v := (nI 3)) hx hb dX6_fits_118 (by decide) ?_
            refine rm_iadd hx hb dX6_fits_119 ?_
            refine rm_nld hx hb hK hP 1 rfl (by omega) (by decide) dX6_fits_120 ?_
            refine rm_cge (tgt := 128) hx hb dX6_fits_121 (by decide) (Nat.lt_of_le_of_lt (ga_le hne _ _ _) (by omega)) (by first | omega | exact hst _) (fun q121 => ?_) (fun q121 => ?_)
            · skip
              refine lv_iconst (v := (nI 0)) hx hb dX6_fits_128 (by decide) ?_
              refine lv_goto (tgt := 186) hx hb dX6_fits_129 (by decide) ?_
              exact hret _ 186 ls (by rw [ft_c0f (f := rS st r) i37_0 q48 q70 hw q107 q121]; rfl) dX6_fits_186
            · skip
              refine lv_iconst (v := (nI 1)) hx hb dX6_fits_124 (by decide) ?_
              refine lv_goto (tgt := 186) hx hb dX6_fits_125 (by decide) ?_
              exact hret _ 186 ls (by rw [ft_c0t (f := rS st r) i37_0 q48 q70 hw q107 q121]; rfl) dX6_fits_186
        · skip
          refine lv_iconst (v := (nI 0)) hx hb dX6_fits_73 (by decide) ?_
          exact hret _ 74 ls (by rw [ft_f5 q70]; rfl) dX6_fits_74
      refine lv_iload hx hb dX6_fits_60 (lv_at hl 6 rfl) ?_
      refine rm_beq (tgt := 69) hx hb dX6_fits_62 (by decide) (fun q62 => ?_) (fun q62 => ?_)
      · skip
        refine lv_iconst (v := (nI 1)) hx hb dX6_fits_69 (by decide) ?_
        refine rm_top (y := (nI (if tw then 0 else 1))) (by rw [q62]; rfl) ?_
        exact join70   ls hl
      · skip
        refine lv_iconst (v := (nI 0)) hx hb dX6_fits_65 (by decide) ?_
        refine lv_goto (tgt := 70) hx hb dX6_fits_66 (by decide) ?_
        refine rm_top (y := (nI (if tw then 0 else 1))) (by rw [q62]; rfl) ?_
        exact join70   ls hl
  refine lv_aload_n hx hb dX6_fits_15 rfl (lv_at hl 2 rfl) ?_
  refine va_get (D := D) (ci := 5) (v := .ref (a 1)) (C := RX6) (T := TX6) (N := 14) hx hb hts in_X6 hown hK hP 0 rfl xc5 0 (by decide) (hts _ q640) (fun _ h9 => h9) rfl dX6_fits_16 ?_
  refine lv_iload hx hb dX6_fits_19 (lv_at hl 1 rfl) ?_
  refine rm_nld hx hb hK hP 1 rfl (by omega) (by decide) dX6_fits_21 ?_
  refine rm_ile (tgt := 37) hx hb dX6_fits_22 (by decide) (by first | omega | exact hst _) (fun q22 => ?_) (fun q22 => ?_)
  · skip
    exact join37  (Or.inl q22) ls hl
  · skip
    refine lv_aload_n hx hb dX6_fits_25 rfl (lv_at hl 2 rfl) ?_
    refine va_get (D := D) (ci := 5) (v := .ref (a 1)) (C := RX6) (T := TX6) (N := 14) hx hb hts in_X6 hown hK hP 0 rfl xc5 0 (by decide) (hts _ q640) (fun _ h9 => h9) rfl dX6_fits_26 ?_
    refine lv_iload hx hb dX6_fits_29 (lv_at hl 1 rfl) ?_
    refine rm_nld hx hb hK hP 1 rfl (by omega) (by decide) dX6_fits_31 ?_
    refine lv_iload hx hb dX6_fits_32 (lv_at hl 0 rfl) ?_
    refine rm_cne (tgt := 73) hx hb dX6_fits_34 (by decide) (by first | omega | exact hst _) (by first | omega | exact hst _) (fun q34 => ?_) (fun q34 => ?_)
    · skip
      refine lv_iconst (v := (nI 0)) hx hb dX6_fits_73 (by decide) ?_
      exact hret _ 74 ls (by rw [ft_f0 q22 q34]; rfl) dX6_fits_74
    · skip
      exact join37  (Or.inr q34) ls hl
theorem cwX6_fits_X6 {R : Room} {s : State} {args : Array Value} (hts : ∀ w ∈ lw_all, w.before args s = true) (hR : (rmX6_fits).frames + 1 ≤ R.frames ∧ 8 + (8 + 11) + (rmX6_fits).locals ≤ R.locals) : CallW R s args RX6 RX6 114 yX6_fits cX6_fits 8 (some .boolean) (ws_ yX6_fits cX6_fits 8 (some .boolean)) rmX6_fits 0 0 4 := cwV 4 hts (lw_V q800 q802 qs40 q63 q803) rfl rfl rfl (by decide +kernel) hR
abbrev rmX6_ruleOf : Room := { frames := 7, cells := 0, slots := 0, locals := 170 }
set_option maxHeartbeats 4000000 in
theorem metX6_ruleOf (l : Launch) (D : va_G) (cA : Nat → ClassId) (a : Nat → Nat) (st im : Nat → Nat) (kp : Nat → Bool) (nx li : Nat → Nat) (isl : Nat → Bool) (mv : Nat → Nat) (so la : Nat → Option Nat) (cm : Nat → Nat) (ld us : Nat) (bl : Bool) (S c : Nat) (tw : Bool) (hn3 : 3 ≤ st 0) (hn10 : st 0 ≤ 10) (hst : ∀ j, st j < 2 ^ 31) (hS : S < 1024) (hne : ne_ (st 0) S) (hc : c < st 0) (hm : st 11 ≤ 10) (hru : ∀ r, r < st 11 → rS st r 5 ≤ 2) : RO l yX6_ruleOf cX6_ruleOf 5 (some .int) rmX6_ruleOf [.ref (a 0), .int (nI S), .int (nI c), .int (bI tw)] (wB D cA (mW a cA st im kp nx li isl mv so la cm ld us bl)) ((oI (rl (st 0) S c tw (st 11) (rS st)))) := by
  refine ro_int rfl (Nat.le_of_ble_eq_true rfl) ?_
  intro p e s m below meth cd Q ls hx hb hml hown hts hB hl hret
  obtain ⟨hP, hK, hN⟩ := hB
  have hown : s.vm.findClass RX6 = some m.cls := hown
  have hl : lv_has ls 5 [(0, .ref (a 0)), (1, .int (nI S)), (2, .int (nI c)), (3, .int (bI tw))] := hl
  refine lv_iconst (v := (nI 0)) hx hb dX6_ruleOf_0 (by decide) ?_
  refine lv_istore (lv' := [(4, .int (nI 0)), (0, .ref (a 0)), (1, .int (nI S)), (2, .int (nI c)), (3, .int (bI tw))]) hx hb dX6_ruleOf_1 hl (by decide) rfl (fun ls hl => ?_)
  have loop3 : ∀ (N : Nat) (r : Nat), st 11 - r < N → (r ≤ st 11) → (fst_ (fun r => ft (st 0) S c tw (rS st r)) (st 11 - r) r = rl (st 0) S c tw (st 11) (rS st)) → ∀ (ls : Array Slot), lv_has ls 5 [(4, .int (nI r)), (0, .ref (a 0)), (1, .int (nI S)), (2, .int (nI c)), (3, .int (bI tw))] → W p l e rmX6_ruleOf s m ([.ref (a 0), .int (nI S), .int (nI c), .int (bI tw)] : List Value).toArray below meth cd s.heap [] 0 0 Q (F0 m 3 ls []) := by
    intro N
    induction N with
    | zero => intro r hm; exact absurd hm (Nat.not_lt_zero _)
    | succ N ih3 =>
      intro r hm3 i3_0 i3_1 ls hl
      refine lv_iload hx hb dX6_ruleOf_3 (lv_at hl 0 rfl) ?_
      refine lv_aload_n hx hb dX6_ruleOf_5 rfl (lv_at hl 1 rfl) ?_
      refine va_get (D := D) (ci := 5) (v := .ref (a 1)) (C := RX6) (T := TX6) (N := 14) hx hb hts in_X6 hown hK hP 0 rfl xc5 0 (by decide) (hts _ q640) (fun _ h9 => h9) rfl dX6_ruleOf_6 ?_
      refine lv_bipush (v := (nI 11)) hx hb dX6_ruleOf_9 (by decide) ?_
      refine rm_nld hx hb hK hP 1 rfl (by omega) (by decide) dX6_ruleOf_11 ?_
      refine rm_cge (tgt := 36) hx hb dX6_ruleOf_12 (by decide) (by first | omega | exact hst _) (by first | omega | exact hst _) (fun q12 => ?_) (fun q12 => ?_)
      · skip
        refine lv_bipush (v := (-6)) hx hb dX6_ruleOf_36 (by decide) ?_
        exact hret _ 38 ls (by rw [← i3_1, show st 11 - r = 0 by omega]; rfl) dX6_ruleOf_38
      · skip
        refine lv_aload_n hx hb dX6_ruleOf_15 rfl (lv_at hl 1 rfl) ?_
        refine lv_iload hx hb dX6_ruleOf_16 (lv_at hl 0 rfl) ?_
        refine lv_iload_n hx hb dX6_ruleOf_18 rfl (lv_at hl 2 rfl) ?_
        refine lv_iload_n hx hb dX6_ruleOf_19 rfl (lv_at hl 3 rfl) ?_
        refine lv_iload_n hx hb dX6_ruleOf_20 rfl (lv_at hl 4 rfl) ?_
        refine rm_cV (ls := ls) (As := [.int (nI r), .int (nI S), .int (nI c), .int (bI tw)]) (rest := []) ⟨hx, hb, hml, hown, hts⟩ (metX6_fits l D cA a st im kp nx li isl mv so la cm ld us bl r S c tw (by first | assumption | omega) (by first | assumption | omega) (by first | assumption | omega) (by first | assumption | omega) (by first | assumption | omega) (by first | assumption | omega) (by omega) (hru r q12)) (cwX6_fits_X6 hts ⟨Nat.le_of_ble_eq_true rfl, Nat.le_of_ble_eq_true rfl⟩) hP hK hN (va_recv hK hP xc5 (q0 := 0) rfl) rfl hl.1 rfl (Nat.le_of_ble_eq_true rfl) dX6_ruleOf_21 ⟨Nat.zero_le _, Nat.zero_le _⟩ ?_
        refine rm_beq (tgt := 30) hx hb dX6_ruleOf_24 (by decide) (fun q24 => ?_) (fun q24 => ?_)
        · skip
          refine lv_iinc (v := (nI (r + 1))) (lv' := [(4, .int (nI (r + 1))), (0, .ref (a 0)), (1, .int (nI S)), (2, .int (nI c)), (3, .int (bI tw))]) hx hb dX6_ruleOf_30 hl (k := 0) rfl (rm_inc r 1) (by decide) rfl (fun ls hl => ?_)
          refine lv_goto (tgt := 3) hx hb dX6_ruleOf_33 (by decide) ?_
          rw [show st 11 - r = (st 11 - (r + 1)) + 1 by omega, fst_succ, if_neg (by rw [q24]; decide)] at i3_1
          exact ih3 (r + 1) (by omega) (by omega) i3_1 ls hl
        · skip
          refine lv_iload hx hb dX6_ruleOf_27 (lv_at hl 0 rfl) ?_
          exact hret _ 29 ls (by rw [← i3_1, show st 11 - r = (st 11 - (r + 1)) + 1 by omega, fst_succ, if_pos q24]; rfl) dX6_ruleOf_29
  exact loop3 _ 0 (Nat.lt_succ_self _) (Nat.zero_le _) rfl ls hl
theorem cwX6_ruleOf_X6 {R : Room} {s : State} {args : Array Value} (hts : ∀ w ∈ lw_all, w.before args s = true) (hR : (rmX6_ruleOf).frames + 1 ≤ R.frames ∧ 8 + (5 + 11) + (rmX6_ruleOf).locals ≤ R.locals) : CallW R s args RX6 RX6 118 yX6_ruleOf cX6_ruleOf 5 (some .int) (ws_ yX6_ruleOf cX6_ruleOf 5 (some .int)) rmX6_ruleOf 0 0 3 := cwV 3 hts (lw_V q796 q798 qs39 q63 q799) rfl rfl rfl (by decide +kernel) hR
abbrev rmX6_doneBy : Room := { frames := 0, cells := 0, slots := 0, locals := 0 }
set_option maxHeartbeats 4000000 in
theorem metX6_doneBy (l : Launch) (D : va_G) (cA : Nat → ClassId) (a : Nat → Nat) (st im : Nat → Nat) (kp : Nat → Bool) (nx li : Nat → Nat) (isl : Nat → Bool) (mv : Nat → Nat) (so la : Nat → Option Nat) (cm : Nat → Nat) (ld us : Nat) (bl : Bool) (o : Option Nat) (ho : ∀ r, o = some r → r < 10) : RO l yX6_doneBy cX6_doneBy 2 (some .int) rmX6_doneBy [.ref (a 0), .int (oI o)] (wB D cA (mW a cA st im kp nx li isl mv so la cm ld us bl)) ((nI (dn (rS st) o))) := by
  refine ro_int rfl (Nat.le_of_ble_eq_true rfl) ?_
  intro p e s m below meth cd Q ls hx hb hml hown hts hB hl hret
  obtain ⟨hP, hK, hN⟩ := hB
  have hown : s.vm.findClass RX6 = some m.cls := hown
  have hl : lv_has ls 2 [(0, .ref (a 0)), (1, .int (oI o))] := hl
  refine lv_iload_n hx hb dX6_doneBy_0 rfl (lv_at hl 1 rfl) ?_
  refine rm_oge (tgt := 8) hx hb dX6_doneBy_1 (by decide) (fun v h => Nat.lt_trans (ho v h) (by decide)) (fun q1 => ?_) (fun q1 => ?_)
  · skip
    obtain ⟨r, rfl⟩ := q1
    have hr : r < 10 := ho r rfl
    have hl : lv_has ls 2 [(0, .ref (a 0)), (1, .int (nI r))] := hl
    refine lv_aload_n hx hb dX6_doneBy_8 rfl (lv_at hl 0 rfl) ?_
    refine va_get (D := D) (ci := 5) (v := .ref (a 1)) (C := RX6) (T := TX6) (N := 14) hx hb hts in_X6 hown hK hP 0 rfl xc5 0 (by decide) (hts _ q640) (fun _ h9 => h9) rfl dX6_doneBy_9 ?_
    refine lv_bipush (v := (nI 12)) hx hb dX6_doneBy_12 (by decide) ?_
    refine lv_bipush (v := (nI 6)) hx hb dX6_doneBy_14 (by decide) ?_
    refine lv_iload_n hx hb dX6_doneBy_16 rfl (lv_at hl 1 rfl) ?_
    refine rm_imul hx hb dX6_doneBy_17 ?_
    refine rm_iadd hx hb dX6_doneBy_18 ?_
    refine lv_iconst (v := (nI 4)) hx hb dX6_doneBy_19 (by decide) ?_
    refine rm_iadd hx hb dX6_doneBy_20 ?_
    refine rm_nld hx hb hK hP 1 rfl (by omega) (by decide) dX6_doneBy_21 ?_
    exact hret _ 22 ls rfl dX6_doneBy_22
  · skip
    subst q1
    refine lv_iconst (v := (nI 0)) hx hb dX6_doneBy_4 (by decide) ?_
    refine lv_goto (tgt := 22) hx hb dX6_doneBy_5 (by decide) ?_
    exact hret _ 22 ls rfl dX6_doneBy_22
theorem cwX6_doneBy_X6 {R : Room} {s : State} {args : Array Value} (hts : ∀ w ∈ lw_all, w.before args s = true) (hR : (rmX6_doneBy).frames + 1 ≤ R.frames ∧ 8 + (2 + 11) + (rmX6_doneBy).locals ≤ R.locals) : CallW R s args RX6 RX6 122 yX6_doneBy cX6_doneBy 2 (some .int) (ws_ yX6_doneBy cX6_doneBy 2 (some .int)) rmX6_doneBy 0 0 1 := cwV 1 hts (lw_V q804 q806 qs41 q63 q807) rfl rfl rfl (by decide +kernel) hR
abbrev rmX6_behind : Room := { frames := 6, cells := 0, slots := 0, locals := 143 }
set_option maxHeartbeats 4000000 in
theorem metX6_behind (l : Launch) (D : va_G) (cA : Nat → ClassId) (a : Nat → Nat) (st im : Nat → Nat) (kp : Nat → Bool) (nx li : Nat → Nat) (isl : Nat → Bool) (mv : Nat → Nat) (so la : Nat → Option Nat) (cm : Nat → Nat) (ld us : Nat) (bl : Bool) (S c d : Nat) (hn3 : 3 ≤ st 0) (hn10 : st 0 ≤ 10) (hS : S < 1024) (hne : ne_ (st 0) S) (hc : c < st 0) (hd : d < 2 ^ 31) : RO l yX6_behind cX6_behind 5 (some .int) rmX6_behind [.ref (a 0), .int (nI S), .int (nI c), .int (nI d)] (wB D cA (mW a cA st im kp nx li isl mv so la cm ld us bl)) ((nI (gt_ (st 0) S c d))) := by
  refine ro_int rfl (Nat.le_of_ble_eq_true rfl) ?_
  intro p e s m below meth cd Q ls hx hb hml hown hts hB hl hret
  obtain ⟨hP, hK, hN⟩ := hB
  have hown : s.vm.findClass RX6 = some m.cls := hown
  have hl : lv_has ls 5 [(0, .ref (a 0)), (1, .int (nI S)), (2, .int (nI c)), (3, .int (nI d))] := hl
  refine lv_aload_n hx hb dX6_behind_0 rfl (lv_at hl 0 rfl) ?_
  refine lv_iload_n hx hb dX6_behind_1 rfl (lv_at hl 1 rfl) ?_
  refine lv_iload_n hx hb dX6_behind_2 rfl (lv_at hl 2 rfl) ?_
  refine rm_cV (ls := ls) (As := [.int (nI S), .int (nI c)]) (rest := []) ⟨hx, hb, hml, hown, hts⟩ (metX6_viewWay l D cA a st im kp nx li isl mv so la cm ld us bl S c (by first | assumption | omega) (by first | assumption | omega) (by first | assumption | omega) (by first | assumption | omega) (by first | assumption | omega)) (cwX6_viewWay_X6 hts ⟨Nat.le_of_ble_eq_true rfl, Nat.le_of_ble_eq_true rfl⟩) hP hK hN (va_recv hK hP xc5 (q0 := 0) rfl) rfl hl.1 rfl (Nat.le_of_ble_eq_true rfl) dX6_behind_3 ⟨Nat.zero_le _, Nat.zero_le _⟩ ?_
  refine lv_istore (lv' := [(4, .int (dI (sd (st 0) S c))), (0, .ref (a 0)), (1, .int (nI S)), (2, .int (nI c)), (3, .int (nI d))]) hx hb dX6_behind_6 hl (by decide) rfl (fun ls hl => ?_)
  refine lv_iload_n hx hb dX6_behind_8 rfl (lv_at hl 4 rfl) ?_
  refine rm_ine (tgt := 16) hx hb dX6_behind_9 (by decide) (by omega) (fun q9 => ?_) (fun q9 => ?_)
  · skip
    refine lv_aload_n hx hb dX6_behind_16 rfl (lv_at hl 1 rfl) ?_
    refine lv_iload_n hx hb dX6_behind_17 rfl (lv_at hl 3 rfl) ?_
    refine lv_iload_n hx hb dX6_behind_18 rfl (lv_at hl 4 rfl) ?_
    refine lv_iconst (v := (nI 1)) hx hb dX6_behind_19 (by decide) ?_
    refine rm_cne (tgt := 28) hx hb dX6_behind_20 (by decide) (by omega) (by decide) (fun q20 => ?_) (fun q20 => ?_)
    · skip
      refine lv_iload hx hb dX6_behind_28 (lv_at hl 0 rfl) ?_
      refine lv_ineg hx hb dX6_behind_30 ?_
      refine rm_top (y := (dI (!(sd (st 0) S c)))) (dI_neg _) ?_
      refine rm_cV (ls := ls) (As := [.int (nI c), .int (dI (!(sd (st 0) S c)))]) (rest := []) ⟨hx, hb, hml, hown, hts⟩ (metX6_beside l D cA a st im kp nx li isl mv so la cm ld us bl c (dI (!(sd (st 0) S c))) (!(sd (st 0) S c)) 1 (by first | assumption | omega) (by first | assumption | omega) (by first | assumption | omega) (by first | assumption | omega) (by first | rfl | exact dI_1 _)) (cwX6_beside_X6 hts ⟨Nat.le_of_ble_eq_true rfl, Nat.le_of_ble_eq_true rfl⟩) hP hK hN (va_recv hK hP xc5 (q0 := 0) rfl) rfl hl.1 rfl (Nat.le_of_ble_eq_true rfl) dX6_behind_31 ⟨Nat.zero_le _, Nat.zero_le _⟩ ?_
      exact hret _ 34 ls (by unfold gt_; rw [if_neg (by omega), if_neg (by omega)]) dX6_behind_34
    · skip
      refine lv_iload hx hb dX6_behind_23 (lv_at hl 0 rfl) ?_
      refine lv_goto (tgt := 31) hx hb dX6_behind_25 (by decide) ?_
      refine rm_cV (ls := ls) (As := [.int (nI c), .int (dI (sd (st 0) S c))]) (rest := []) ⟨hx, hb, hml, hown, hts⟩ (metX6_beside l D cA a st im kp nx li isl mv so la cm ld us bl c (dI (sd (st 0) S c)) (sd (st 0) S c) 1 (by first | assumption | omega) (by first | assumption | omega) (by first | assumption | omega) (by first | assumption | omega) (by first | rfl | exact dI_1 _)) (cwX6_beside_X6 hts ⟨Nat.le_of_ble_eq_true rfl, Nat.le_of_ble_eq_true rfl⟩) hP hK hN (va_recv hK hP xc5 (q0 := 0) rfl) rfl hl.1 rfl (Nat.le_of_ble_eq_true rfl) dX6_behind_31 ⟨Nat.zero_le _, Nat.zero_le _⟩ ?_
      exact hret _ 34 ls (by unfold gt_; rw [if_neg (by omega), if_pos q20]) dX6_behind_34
  · skip
    refine lv_iload_n hx hb dX6_behind_12 rfl (lv_at hl 3 rfl) ?_
    refine lv_goto (tgt := 34) hx hb dX6_behind_13 (by decide) ?_
    exact hret _ 34 ls (by unfold gt_; rw [if_pos q9]) dX6_behind_34
theorem cwX6_behind_X6 {R : Room} {s : State} {args : Array Value} (hts : ∀ w ∈ lw_all, w.before args s = true) (hR : (rmX6_behind).frames + 1 ≤ R.frames ∧ 8 + (5 + 11) + (rmX6_behind).locals ≤ R.locals) : CallW R s args RX6 RX6 125 yX6_behind cX6_behind 5 (some .int) (ws_ yX6_behind cX6_behind 5 (some .int)) rmX6_behind 0 0 3 := cwV 3 hts (lw_V q808 q810 qs42 q63 q811) rfl rfl rfl (by decide +kernel) hR
abbrev rmX6_does : Room := { frames := 8, cells := 0, slots := 0, locals := 194 }
set_option maxHeartbeats 4000000 in
theorem metX6_does (l : Launch) (D : va_G) (cA : Nat → ClassId) (a : Nat → Nat) (st im : Nat → Nat) (kp : Nat → Bool) (nx li : Nat → Nat) (isl : Nat → Bool) (mv : Nat → Nat) (so la : Nat → Option Nat) (cm : Nat → Nat) (ld us : Nat) (bl : Bool) (v what : Int32) (hn3 : 3 ≤ st 0) (hn10 : st 0 ≤ 10) (hst : ∀ j, st j < 2 ^ 31) (hm : st 11 ≤ 10) (hru : ∀ r, r < st 11 → rS st r 5 ≤ 2) : RO l yX6_does cX6_does 5 (some .int) rmX6_does [.ref (a 0), .int v, .int what] (wB D cA (mW a cA st im kp nx li isl mv so la cm ld us bl)) ((doR (st 0) (fun c => st (1 + c)) (st 11) (rS st) v what)) := by
  refine ro_int rfl (Nat.le_of_ble_eq_true rfl) ?_
  intro p e s m below meth cd Q ls hx hb hml hown hts hB hl hret
  obtain ⟨hP, hK, hN⟩ := hB
  have hown : s.vm.findClass RX6 = some m.cls := hown
  have hl : lv_has ls 5 [(0, .ref (a 0)), (1, .int v), (2, .int what)] := hl
  have hS : SS (st 0) (fun c => st (1 + c)) < 1024 := SS_lt _ hn10
  refine lv_aload_n hx hb dX6_does_0 rfl (lv_at hl 0 rfl) ?_
  refine lv_iload_n hx hb dX6_does_1 rfl (lv_at hl 1 rfl) ?_
  refine rm_cV (ls := ls) (As := [.int v]) (rest := []) ⟨hx, hb, hml, hown, hts⟩ (metX6_isStand l D cA a st im kp nx li isl mv so la cm ld us bl v (by first | assumption | omega) (by first | assumption | omega) (by first | assumption | omega)) (cwX6_isStand_X6 hts ⟨Nat.le_of_ble_eq_true rfl, Nat.le_of_ble_eq_true rfl⟩) hP hK hN (va_recv hK hP xc5 (q0 := 0) rfl) rfl hl.1 rfl (Nat.le_of_ble_eq_true rfl) dX6_does_2 ⟨Nat.zero_le _, Nat.zero_le _⟩ ?_
  refine rm_bne (tgt := 10) hx hb dX6_does_5 (by decide) (fun q5 => ?_) (fun q5 => ?_)
  · skip
    have hSt : isSt (st 0) (fun c => st (1 + c)) v = true := q5
    obtain ⟨j, hj, hwj, rfl⟩ := (isSt_iff (by omega)).mp q5
    have hne : ne_ (st 0) (SS (st 0) (fun c => st (1 + c))) := SS_ne (w := (fun c => st (1 + c))) hj hwj
    refine lv_aload_n hx hb dX6_does_10 rfl (lv_at hl 0 rfl) ?_
    refine lv_aload_n hx hb dX6_does_11 rfl (lv_at hl 0 rfl) ?_
    refine rm_cV (ls := ls) (As := []) (rest := [.ref (a 0)]) ⟨hx, hb, hml, hown, hts⟩ (metX6_now l D cA a st im kp nx li isl mv so la cm ld us bl  (by first | assumption | omega) (by first | assumption | omega) (by first | assumption | omega)) (cwX6_now_X6 hts ⟨Nat.le_of_ble_eq_true rfl, Nat.le_of_ble_eq_true rfl⟩) hP hK hN (va_recv hK hP xc5 (q0 := 0) rfl) rfl hl.1 rfl (Nat.le_of_ble_eq_true rfl) dX6_does_12 ⟨Nat.zero_le _, Nat.zero_le _⟩ ?_
    refine rm_cV (ls := ls) (As := [.int (nI (cdw (fun c => st (1 + c)) (st 0)))]) (rest := []) ⟨hx, hb, hml, hown, hts⟩ (metX6_standsOf l D cA a st im kp nx li isl mv so la cm ld us bl (cdw (fun c => st (1 + c)) (st 0)) (by first | assumption | omega) (by first | assumption | omega) (SS_lt31 hn10 _)) (cwX6_standsOf_X6 hts ⟨Nat.le_of_ble_eq_true rfl, Nat.le_of_ble_eq_true rfl⟩) hP hK hN (va_recv hK hP xc5 (q0 := 0) rfl) rfl hl.1 rfl (Nat.le_of_ble_eq_true rfl) dX6_does_15 ⟨Nat.zero_le _, Nat.zero_le _⟩ ?_
    refine rm_top (y := (nI (SS (st 0) (fun c => st (1 + c))))) (by rw [stS_cdw]) ?_
    refine lv_istore_n (lv' := [(3, .int (nI (SS (st 0) (fun c => st (1 + c))))), (0, .ref (a 0)), (1, .int (nI j)), (2, .int what)]) hx hb dX6_does_18 rfl hl (by decide) rfl (fun ls hl => ?_)
    refine lv_aload_n hx hb dX6_does_19 rfl (lv_at hl 1 rfl) ?_
    refine lv_iload_n hx hb dX6_does_20 rfl (lv_at hl 0 rfl) ?_
    refine lv_iload_n hx hb dX6_does_21 rfl (lv_at hl 2 rfl) ?_
    have join39 : ∀ (ls : Array Slot), lv_has ls 5 [(3, .int (nI (SS (st 0) (fun c => st (1 + c))))), (0, .ref (a 0)), (1, .int (nI j)), (2, .int what)] → W p l e rmX6_does s m ([.ref (a 0), .int (nI j), .int what] : List Value).toArray below meth cd s.heap [] 0 0 Q (F0 m 39 ls [.int (bI (decide (1 < st (1 + j)))), .int (nI j), .int (nI (SS (st 0) (fun c => st (1 + c)))), .ref (a 0)]) := by
      intro   ls hl
      refine rm_cV (ls := ls) (As := [.int (nI (SS (st 0) (fun c => st (1 + c)))), .int (nI j), .int (bI (decide (1 < st (1 + j))))]) (rest := []) ⟨hx, hb, hml, hown, hts⟩ (metX6_ruleOf l D cA a st im kp nx li isl mv so la cm ld us bl (SS (st 0) (fun c => st (1 + c))) j (decide (1 < st (1 + j))) (by first | assumption | omega) (by first | assumption | omega) (by first | assumption | omega) (by first | assumption | omega) (by first | assumption | omega) (by first | assumption | omega) (by first | assumption | omega) (by first | assumption | omega)) (cwX6_ruleOf_X6 hts ⟨Nat.le_of_ble_eq_true rfl, Nat.le_of_ble_eq_true rfl⟩) hP hK hN (va_recv hK hP xc5 (q0 := 0) rfl) rfl hl.1 rfl (Nat.le_of_ble_eq_true rfl) dX6_does_39 ⟨Nat.zero_le _, Nat.zero_le _⟩ ?_
      refine lv_istore (lv' := [(4, .int (oI (rl (st 0) (SS (st 0) (fun c => st (1 + c))) j (decide (1 < st (1 + j))) (st 11) (rS st)))), (3, .int (nI (SS (st 0) (fun c => st (1 + c))))), (0, .ref (a 0)), (1, .int (nI j)), (2, .int what)]) hx hb dX6_does_42 hl (by decide) rfl (fun ls hl => ?_)
      refine lv_iload_n hx hb dX6_does_44 rfl (lv_at hl 4 rfl) ?_
      by_cases hsw45 : inI 0 4 what = true
      · obtain ⟨ksw, hk0, hkh, esw⟩ := (inI_iff (by decide) (by decide)).mp hsw45
        have hk : ksw = 0 ∨ ksw = 1 ∨ ksw = 2 ∨ ksw = 3 ∨ ksw = 4 := by omega
        rcases hk with rfl | rfl | rfl | rfl | rfl
        · skip
          subst esw
          refine lv_tableIn (off := 35) (tgt := 80) hx hb dX6_does_45 (by decide) (by decide) (by decide) (by decide) ?_
          refine lv_aload_n hx hb dX6_does_80 rfl (lv_at hl 2 rfl) ?_
          refine lv_iload_n hx hb dX6_does_81 rfl (lv_at hl 1 rfl) ?_
          refine lv_iload_n hx hb dX6_does_82 rfl (lv_at hl 3 rfl) ?_
          refine rm_cV (ls := ls) (As := [.int (nI (SS (st 0) (fun c => st (1 + c)))), .int (nI j)]) (rest := []) ⟨hx, hb, hml, hown, hts⟩ (metX6_viewWay l D cA a st im kp nx li isl mv so la cm ld us bl (SS (st 0) (fun c => st (1 + c))) j (by first | assumption | omega) (by first | assumption | omega) (by first | assumption | omega) (by first | assumption | omega) (by first | assumption | omega)) (cwX6_viewWay_X6 hts ⟨Nat.le_of_ble_eq_true rfl, Nat.le_of_ble_eq_true rfl⟩) hP hK hN (va_recv hK hP xc5 (q0 := 0) rfl) rfl hl.1 rfl (Nat.le_of_ble_eq_true rfl) dX6_does_83 ⟨Nat.zero_le _, Nat.zero_le _⟩ ?_
          refine lv_iconst (v := (nI 1)) hx hb dX6_does_86 (by decide) ?_
          refine lv_icmp_ne (tgt := 94) hx hb dX6_does_87 (by decide) (fun q87 => ?_) (fun q87 => ?_)
          · skip
            refine lv_iconst (v := (nI 0)) hx hb dX6_does_94 (by decide) ?_
            exact hret _ 95 ls (by unfold doR; rw [if_pos hSt, nI_clamp (by omega)]; refine sw_ret hsw45 (by decide) ?_; show _ = bI (sd _ _ _); rw [Bool.eq_false_iff.mpr (fun h => q87 (dI_eq1.mpr h))]; rfl) dX6_does_95
          · skip
            refine lv_iconst (v := (nI 1)) hx hb dX6_does_90 (by decide) ?_
            refine lv_goto (tgt := 95) hx hb dX6_does_91 (by decide) ?_
            exact hret _ 95 ls (by unfold doR; rw [if_pos hSt, nI_clamp (by omega)]; refine sw_ret hsw45 (by decide) ?_; show _ = bI (sd _ _ _); rw [dI_eq1.mp q87]; rfl) dX6_does_95
        · skip
          subst esw
          refine lv_tableIn (off := 51) (tgt := 96) hx hb dX6_does_45 (by decide) (by decide) (by decide) (by decide) ?_
          refine lv_aload_n hx hb dX6_does_96 rfl (lv_at hl 2 rfl) ?_
          refine lv_iload_n hx hb dX6_does_97 rfl (lv_at hl 1 rfl) ?_
          refine lv_iload_n hx hb dX6_does_98 rfl (lv_at hl 3 rfl) ?_
          refine lv_iconst (v := (nI 1)) hx hb dX6_does_99 (by decide) ?_
          refine lv_iload_n hx hb dX6_does_100 rfl (lv_at hl 3 rfl) ?_
          refine lv_iconst (v := (-1)) hx hb dX6_does_101 (by decide) ?_
          refine rm_cV (ls := ls) (As := [.int (nI (SS (st 0) (fun c => st (1 + c)))), .int (nI j), .int (dI true), .int (nI j), .int (dI false)]) (rest := []) ⟨hx, hb, hml, hown, hts⟩ (metX6_held l D cA a st im kp nx li isl mv so la cm ld us bl (SS (st 0) (fun c => st (1 + c))) j true j false (by first | assumption | omega) (by first | assumption | omega) (by first | assumption | omega) (by first | assumption | omega) (by first | assumption | omega) (by first | assumption | omega)) (cwX6_held_X6 hts ⟨Nat.le_of_ble_eq_true rfl, Nat.le_of_ble_eq_true rfl⟩) hP hK hN (va_recv hK hP xc5 (q0 := 0) rfl) rfl hl.1 rfl (Nat.le_of_ble_eq_true rfl) dX6_does_102 ⟨Nat.zero_le _, Nat.zero_le _⟩ ?_
          refine lv_if_ne (tgt := 112) hx hb dX6_does_105 (by decide) (fun q105 => ?_) (fun q105 => ?_)
          · skip
            refine lv_iconst (v := (nI 0)) hx hb dX6_does_112 (by decide) ?_
            exact hret _ 113 ls (by unfold doR; rw [if_pos hSt, nI_clamp (by omega)]; refine sw_ret hsw45 (by decide) ?_; show _ = bI (decide _); rw [decide_eq_false q105]; rfl) dX6_does_113
          · skip
            refine lv_iconst (v := (nI 1)) hx hb dX6_does_108 (by decide) ?_
            refine lv_goto (tgt := 113) hx hb dX6_does_109 (by decide) ?_
            exact hret _ 113 ls (by unfold doR; rw [if_pos hSt, nI_clamp (by omega)]; refine sw_ret hsw45 (by decide) ?_; show _ = bI (decide _); rw [decide_eq_true q105]; rfl) dX6_does_113
        · skip
          subst esw
          refine lv_tableIn (off := 69) (tgt := 114) hx hb dX6_does_45 (by decide) (by decide) (by decide) (by decide) ?_
          refine lv_iload hx hb dX6_does_114 (lv_at hl 0 rfl) ?_
          exact hret _ 116 ls (by unfold doR; rw [if_pos hSt, nI_clamp (by omega)]; exact sw_ret hsw45 (by decide) rfl) dX6_does_116
        · skip
          subst esw
          refine lv_tableIn (off := 72) (tgt := 117) hx hb dX6_does_45 (by decide) (by decide) (by decide) (by decide) ?_
          refine lv_aload_n hx hb dX6_does_117 rfl (lv_at hl 2 rfl) ?_
          refine lv_iload hx hb dX6_does_118 (lv_at hl 0 rfl) ?_
          refine rm_cV (ls := ls) (As := [.int (oI (rl (st 0) (SS (st 0) (fun c => st (1 + c))) j (decide (1 < st (1 + j))) (st 11) (rS st)))]) (rest := []) ⟨hx, hb, hml, hown, hts⟩ (metX6_doneBy l D cA a st im kp nx li isl mv so la cm ld us bl (rl (st 0) (SS (st 0) (fun c => st (1 + c))) j (decide (1 < st (1 + j))) (st 11) (rS st)) (fun r h => Nat.lt_of_lt_of_le (rl_lt h) hm)) (cwX6_doneBy_X6 hts ⟨Nat.le_of_ble_eq_true rfl, Nat.le_of_ble_eq_true rfl⟩) hP hK hN (va_recv hK hP xc5 (q0 := 0) rfl) rfl hl.1 rfl (Nat.le_of_ble_eq_true rfl) dX6_does_120 ⟨Nat.zero_le _, Nat.zero_le _⟩ ?_
          exact hret _ 123 ls (by unfold doR; rw [if_pos hSt, nI_clamp (by omega)]; exact sw_ret hsw45 (by decide) rfl) dX6_does_123
        · skip
          subst esw
          refine lv_tableIn (off := 79) (tgt := 124) hx hb dX6_does_45 (by decide) (by decide) (by decide) (by decide) ?_
          refine lv_aload_n hx hb dX6_does_124 rfl (lv_at hl 2 rfl) ?_
          refine lv_iload_n hx hb dX6_does_125 rfl (lv_at hl 1 rfl) ?_
          refine lv_iload_n hx hb dX6_does_126 rfl (lv_at hl 3 rfl) ?_
          refine lv_aload_n hx hb dX6_does_127 rfl (lv_at hl 2 rfl) ?_
          refine lv_iload hx hb dX6_does_128 (lv_at hl 0 rfl) ?_
          refine rm_cV (ls := ls) (As := [.int (oI (rl (st 0) (SS (st 0) (fun c => st (1 + c))) j (decide (1 < st (1 + j))) (st 11) (rS st)))]) (rest := [.int (nI j), .int (nI (SS (st 0) (fun c => st (1 + c)))), .ref (a 0)]) ⟨hx, hb, hml, hown, hts⟩ (metX6_doneBy l D cA a st im kp nx li isl mv so la cm ld us bl (rl (st 0) (SS (st 0) (fun c => st (1 + c))) j (decide (1 < st (1 + j))) (st 11) (rS st)) (fun r h => Nat.lt_of_lt_of_le (rl_lt h) hm)) (cwX6_doneBy_X6 hts ⟨Nat.le_of_ble_eq_true rfl, Nat.le_of_ble_eq_true rfl⟩) hP hK hN (va_recv hK hP xc5 (q0 := 0) rfl) rfl hl.1 rfl (Nat.le_of_ble_eq_true rfl) dX6_does_130 ⟨Nat.zero_le _, Nat.zero_le _⟩ ?_
          refine rm_cV (ls := ls) (As := [.int (nI (SS (st 0) (fun c => st (1 + c)))), .int (nI j), .int (nI (dn (rS st) (rl (st 0) (SS (st 0) (fun c => st (1 + c))) j (decide (1 < st (1 + j))) (st 11) (rS st))))]) (rest := []) ⟨hx, hb, hml, hown, hts⟩ (metX6_behind l D cA a st im kp nx li isl mv so la cm ld us bl (SS (st 0) (fun c => st (1 + c))) j (dn (rS st) (rl (st 0) (SS (st 0) (fun c => st (1 + c))) j (decide (1 < st (1 + j))) (st 11) (rS st))) (by first | assumption | omega) (by first | assumption | omega) (by first | assumption | omega) (by first | assumption | omega) (by first | assumption | omega) (dn_lt hst _)) (cwX6_behind_X6 hts ⟨Nat.le_of_ble_eq_true rfl, Nat.le_of_ble_eq_true rfl⟩) hP hK hN (va_recv hK hP xc5 (q0 := 0) rfl) rfl hl.1 rfl (Nat.le_of_ble_eq_true rfl) dX6_does_133 ⟨Nat.zero_le _, Nat.zero_le _⟩ ?_
          exact hret _ 136 ls (by unfold doR; rw [if_pos hSt, nI_clamp (by omega)]; exact sw_ret hsw45 (by decide) rfl) dX6_does_136
      · skip
        refine lv_tableOut (tgt := 137) hx hb dX6_does_45 (sw_out (by decide) (by decide) hsw45) (by decide) ?_
        refine lv_bipush (v := (-2)) hx hb dX6_does_137 (by decide) ?_
        exact hret _ 139 ls (by unfold doR; rw [if_pos hSt, if_neg hsw45]) dX6_does_139
    refine lv_aload_n hx hb dX6_does_22 rfl (lv_at hl 1 rfl) ?_
    refine va_get (D := D) (ci := 5) (v := .ref (a 1)) (C := RX6) (T := TX6) (N := 14) hx hb hts in_X6 hown hK hP 0 rfl xc5 0 (by decide) (hts _ q640) (fun _ h9 => h9) rfl dX6_does_23 ?_
    refine lv_iconst (v := (nI 1)) hx hb dX6_does_26 (by decide) ?_
    refine lv_iload_n hx hb dX6_does_27 rfl (lv_at hl 2 rfl) ?_
    refine rm_iadd hx hb dX6_does_28 ?_
    refine rm_nld hx hb hK hP 1 rfl (by omega) (by decide) dX6_does_29 ?_
    refine lv_iconst (v := (nI 1)) hx hb dX6_does_30 (by decide) ?_
    refine rm_cle (tgt := 38) hx hb dX6_does_31 (by decide) (by first | omega | exact hst _) (by decide) (fun q31 => ?_) (fun q31 => ?_)
    · skip
      refine lv_iconst (v := (nI 0)) hx hb dX6_does_38 (by decide) ?_
      refine rm_top (y := (bI (decide (1 < st (1 + j))))) (by rw [decide_eq_false (by omega)]; rfl) ?_
      exact join39   ls hl
    · skip
      refine lv_iconst (v := (nI 1)) hx hb dX6_does_34 (by decide) ?_
      refine lv_goto (tgt := 39) hx hb dX6_does_35 (by decide) ?_
      refine rm_top (y := (bI (decide (1 < st (1 + j))))) (by rw [decide_eq_true (by omega)]; rfl) ?_
      exact join39   ls hl
  · skip
    refine lv_iconst (v := (-1)) hx hb dX6_does_8 (by decide) ?_
    exact hret _ 9 ls (by unfold doR; rw [if_neg (by rw [q5]; decide)]) dX6_does_9
theorem cwX6_does_L {R : Room} {s : State} {args : Array Value} (hts : ∀ w ∈ lw_all, w.before args s = true) (hR : (rmX6_does).frames + 1 ≤ R.frames ∧ 8 + (5 + 11) + (rmX6_does).locals ≤ R.locals) : CallW R s args "RingMeetsLaw" RX6 52 yX6_does cX6_does 5 (some .int) (ws_ yX6_does cX6_does 5 (some .int)) rmX6_does 0 0 2 := cwV 2 hts (lw_V q792 q793 q794 q63 q795) rfl rfl rfl (by decide +kernel) hR
abbrev rmX6_movers : Room := { frames := 2, cells := 0, slots := 0, locals := 43 }
set_option maxHeartbeats 4000000 in
theorem metX6_movers (l : Launch) (D : va_G) (cA : Nat → ClassId) (a : Nat → Nat) (st im : Nat → Nat) (kp : Nat → Bool) (nx li : Nat → Nat) (isl : Nat → Bool) (mv : Nat → Nat) (so la : Nat → Option Nat) (cm : Nat → Nat) (ld us : Nat) (bl : Bool) (code : Nat) (hn3 : 3 ≤ st 0) (hn10 : st 0 ≤ 10) (hc : code < 59049) (hv : mv code < 2 ^ 31) : RO l yX6_movers cX6_movers 2 (some .int) rmX6_movers [.ref (a 0), .int (nI code)] (wB D cA (mW a cA st im kp nx li isl mv so la cm ld us bl)) ((nI (stS (st 0) (mv code)))) := by
  refine ro_int rfl (Nat.le_of_ble_eq_true rfl) ?_
  intro p e s m below meth cd Q ls hx hb hml hown hts hB hl hret
  obtain ⟨hP, hK, hN⟩ := hB
  have hown : s.vm.findClass RX6 = some m.cls := hown
  have hl : lv_has ls 2 [(0, .ref (a 0)), (1, .int (nI code))] := hl
  refine lv_aload_n hx hb dX6_movers_0 rfl (lv_at hl 0 rfl) ?_
  refine lv_aload_n hx hb dX6_movers_1 rfl (lv_at hl 0 rfl) ?_
  refine va_get (D := D) (ci := 5) (v := .ref (a 8)) (C := RX6) (T := TX6) (N := 14) hx hb hts in_X6 hown hK hP 0 rfl xc5 8 (by decide) (hts _ q648) (fun _ h9 => h9) rfl dX6_movers_2 ?_
  refine lv_iload_n hx hb dX6_movers_5 rfl (lv_at hl 1 rfl) ?_
  refine rm_nld hx hb hK hP 8 rfl (by omega) (by decide) dX6_movers_6 ?_
  refine rm_cV (ls := ls) (As := [.int (nI (mv code))]) (rest := []) ⟨hx, hb, hml, hown, hts⟩ (metX6_standsOf l D cA a st im kp nx li isl mv so la cm ld us bl (mv code) (by first | assumption | omega) (by first | assumption | omega) hv) (cwX6_standsOf_X6 hts ⟨Nat.le_of_ble_eq_true rfl, Nat.le_of_ble_eq_true rfl⟩) hP hK hN (va_recv hK hP xc5 (q0 := 0) rfl) rfl hl.1 rfl (Nat.le_of_ble_eq_true rfl) dX6_movers_7 ⟨Nat.zero_le _, Nat.zero_le _⟩ ?_
  exact hret _ 10 ls rfl dX6_movers_10
theorem cwX6_movers_X6 {R : Room} {s : State} {args : Array Value} (hts : ∀ w ∈ lw_all, w.before args s = true) (hR : (rmX6_movers).frames + 1 ≤ R.frames ∧ 8 + (2 + 11) + (rmX6_movers).locals ≤ R.locals) : CallW R s args RX6 RX6 139 yX6_movers cX6_movers 2 (some .int) (ws_ yX6_movers cX6_movers 2 (some .int)) rmX6_movers 0 0 1 := cwV 1 hts (lw_V q839 q841 qs47 q63 q842) rfl rfl rfl (by decide +kernel) hR
abbrev rmX6_mayBe : Room := { frames := 0, cells := 0, slots := 0, locals := 0 }
set_option maxHeartbeats 4000000 in
theorem metX6_mayBe (l : Launch) (k z M : Nat) (hk : k < 3) (hz : 1 ≤ z) (hz2 : z < 1024) (hM : M < 1024) : RO l yX6_mayBe cX6_mayBe 3 (some .boolean) rmX6_mayBe [.int (nI k), .int (nI z), .int (nI M)] (fun _ => True) (bI (mb k z M)) := by
  refine ro_bool rfl (Nat.le_of_ble_eq_true rfl) ?_
  intro p e s m below meth cd Q ls hx hb hml hown hts hB hl hret
  have hown : s.vm.findClass RX6 = some m.cls := hown
  have hl : lv_has ls 3 [(0, .int (nI k)), (1, .int (nI z)), (2, .int (nI M))] := hl
  refine lv_iload_n hx hb dX6_mayBe_0 rfl (lv_at hl 0 rfl) ?_
  refine rm_ine (tgt := 20) hx hb dX6_mayBe_1 (by decide) (by omega) (fun q1 => ?_) (fun q1 => ?_)
  · skip
    refine lv_iload_n hx hb dX6_mayBe_20 rfl (lv_at hl 0 rfl) ?_
    refine lv_iconst (v := (nI 2)) hx hb dX6_mayBe_21 (by decide) ?_
    refine rm_ceq (tgt := 30) hx hb dX6_mayBe_22 (by decide) (by omega) (by decide) (fun q22 => ?_) (fun q22 => ?_)
    · skip
      refine lv_iconst (v := (nI 1)) hx hb dX6_mayBe_30 (by decide) ?_
      refine lv_goto (tgt := 35) hx hb dX6_mayBe_31 (by decide) ?_
      exact hret _ 35 ls (by unfold mb; rw [if_neg (by omega), decide_eq_true q22]; rfl) dX6_mayBe_35
    · skip
      refine lv_iload_n hx hb dX6_mayBe_25 rfl (lv_at hl 1 rfl) ?_
      refine lv_iload_n hx hb dX6_mayBe_26 rfl (lv_at hl 2 rfl) ?_
      refine rm_cne (tgt := 34) hx hb dX6_mayBe_27 (by decide) (by omega) (by omega) (fun q27 => ?_) (fun q27 => ?_)
      · skip
        refine lv_iconst (v := (nI 0)) hx hb dX6_mayBe_34 (by decide) ?_
        exact hret _ 35 ls (by unfold mb; rw [if_neg (by omega), decide_eq_false q22, decide_eq_false q27]; rfl) dX6_mayBe_35
      · skip
        refine lv_iconst (v := (nI 1)) hx hb dX6_mayBe_30 (by decide) ?_
        refine lv_goto (tgt := 35) hx hb dX6_mayBe_31 (by decide) ?_
        exact hret _ 35 ls (by unfold mb; rw [if_neg (by omega), decide_eq_true q27, Bool.or_true]; rfl) dX6_mayBe_35
  · skip
    refine lv_iload_n hx hb dX6_mayBe_4 rfl (lv_at hl 1 rfl) ?_
    refine lv_iload_n hx hb dX6_mayBe_5 rfl (lv_at hl 1 rfl) ?_
    refine lv_iconst (v := (nI 1)) hx hb dX6_mayBe_6 (by decide) ?_
    refine rm_isub hx hb dX6_mayBe_7 (by omega) ?_
    refine rm_iand hx hb dX6_mayBe_8 ?_
    refine rm_ine (tgt := 16) hx hb dX6_mayBe_9 (by decide) (Nat.lt_of_le_of_lt Nat.and_le_left (by omega)) (fun q9 => ?_) (fun q9 => ?_)
    · skip
      refine lv_iconst (v := (nI 0)) hx hb dX6_mayBe_16 (by decide) ?_
      refine lv_goto (tgt := 35) hx hb dX6_mayBe_17 (by decide) ?_
      exact hret _ 35 ls (by unfold mb; rw [if_pos q1, decide_eq_false (by omega)]; rfl) dX6_mayBe_35
    · skip
      refine lv_iconst (v := (nI 1)) hx hb dX6_mayBe_12 (by decide) ?_
      refine lv_goto (tgt := 35) hx hb dX6_mayBe_13 (by decide) ?_
      exact hret _ 35 ls (by unfold mb; rw [if_pos q1, decide_eq_true q9]; rfl) dX6_mayBe_35
theorem cwX6_mayBe_X6 {R : Room} {s : State} {args : Array Value} (hts : ∀ w ∈ lw_all, w.before args s = true) (hR : (rmX6_mayBe).frames + 1 ≤ R.frames ∧ 8 + (3 + 11) + (rmX6_mayBe).locals ≤ R.locals) : CallB R s args RX6 142 yX6_mayBe cX6_mayBe 3 (some .boolean) (ws_ yX6_mayBe cX6_mayBe 3 (some .boolean)) rmX6_mayBe 0 0 3 ∧ (Cond.static yX6_mayBe).before args s = true := va_cwS 3 hts (lw_S q843 q844 q63 q845) rfl rfl rfl (by decide +kernel) hR
abbrev rmX6_isMet : Room := { frames := 2, cells := 0, slots := 0, locals := 43 }
set_option maxHeartbeats 4000000 in
theorem metX6_isMet (l : Launch) (D : va_G) (cA : Nat → ClassId) (a : Nat → Nat) (st im : Nat → Nat) (kp : Nat → Bool) (nx li : Nat → Nat) (isl : Nat → Bool) (mv : Nat → Nat) (so la : Nat → Option Nat) (cm : Nat → Nat) (ld us : Nat) (bl : Bool) (code : Nat) (hn3 : 3 ≤ st 0) (hn10 : st 0 ≤ 10) (hc : code < 2 ^ 31) : RO l yX6_isMet cX6_isMet 2 (some .boolean) rmX6_isMet [.ref (a 0), .int (nI code)] (wB D cA (mW a cA st im kp nx li isl mv so la cm ld us bl)) (bI (met (st 0) code)) := by
  refine ro_bool rfl (Nat.le_of_ble_eq_true rfl) ?_
  intro p e s m below meth cd Q ls hx hb hml hown hts hB hl hret
  obtain ⟨hP, hK, hN⟩ := hB
  have hown : s.vm.findClass RX6 = some m.cls := hown
  have hl : lv_has ls 2 [(0, .ref (a 0)), (1, .int (nI code))] := hl
  have hS : stS (st 0) code < 1024 := stS_lt hn10 _
  have hct : ct (stS (st 0) code) 10 ≤ 10 := ct_le _ 10
  refine lv_aload_n hx hb dX6_isMet_0 rfl (lv_at hl 0 rfl) ?_
  refine lv_iload_n hx hb dX6_isMet_1 rfl (lv_at hl 1 rfl) ?_
  refine rm_cV (ls := ls) (As := [.int (nI code)]) (rest := []) ⟨hx, hb, hml, hown, hts⟩ (metX6_standsOf l D cA a st im kp nx li isl mv so la cm ld us bl code (by first | assumption | omega) (by first | assumption | omega) (by first | assumption | omega)) (cwX6_standsOf_X6 hts ⟨Nat.le_of_ble_eq_true rfl, Nat.le_of_ble_eq_true rfl⟩) hP hK hN (va_recv hK hP xc5 (q0 := 0) rfl) rfl hl.1 rfl (Nat.le_of_ble_eq_true rfl) dX6_isMet_2 ⟨Nat.zero_le _, Nat.zero_le _⟩ ?_
  refine rm_cS (ls := ls) (As := [.int (nI (stS (st 0) code))]) (rest := []) ⟨hx, hb, hml, hown, hts⟩ (metX6_size l (stS (st 0) code) (by first | assumption | omega)) (cwX6_size_X6 hts ⟨Nat.le_of_ble_eq_true rfl, Nat.le_of_ble_eq_true rfl⟩) noB rfl hl.1 rfl (Nat.le_of_ble_eq_true rfl) dX6_isMet_5 ⟨Nat.zero_le _, Nat.zero_le _⟩ ?_
  refine lv_iconst (v := (nI 1)) hx hb dX6_isMet_8 (by decide) ?_
  refine rm_cne (tgt := 16) hx hb dX6_isMet_9 (by decide) (by omega) (by decide) (fun q9 => ?_) (fun q9 => ?_)
  · skip
    refine lv_iconst (v := (nI 0)) hx hb dX6_isMet_16 (by decide) ?_
    exact hret _ 17 ls (by unfold met; rw [decide_eq_false q9]; rfl) dX6_isMet_17
  · skip
    refine lv_iconst (v := (nI 1)) hx hb dX6_isMet_12 (by decide) ?_
    refine lv_goto (tgt := 17) hx hb dX6_isMet_13 (by decide) ?_
    exact hret _ 17 ls (by unfold met; rw [decide_eq_true q9]; rfl) dX6_isMet_17
theorem cwX6_isMet_X6 {R : Room} {s : State} {args : Array Value} (hts : ∀ w ∈ lw_all, w.before args s = true) (hR : (rmX6_isMet).frames + 1 ≤ R.frames ∧ 8 + (2 + 11) + (rmX6_isMet).locals ≤ R.locals) : CallW R s args RX6 RX6 152 yX6_isMet cX6_isMet 2 (some .boolean) (ws_ yX6_isMet cX6_isMet 2 (some .boolean)) rmX6_isMet 0 0 1 := cwV 1 hts (lw_V q850 q852 qs49 q63 q853) rfl rfl rfl (by decide +kernel) hR
abbrev rmX6_kindOf : Room := { frames := 3, cells := 0, slots := 0, locals := 64 }
set_option maxHeartbeats 4000000 in
theorem metX6_kindOf (l : Launch) (D : va_G) (cA : Nat → ClassId) (a : Nat → Nat) (st im : Nat → Nat) (kp : Nat → Bool) (nx li : Nat → Nat) (isl : Nat → Bool) (mv : Nat → Nat) (so la : Nat → Option Nat) (cm : Nat → Nat) (ld us : Nat) (bl : Bool) (code : Nat) (hn3 : 3 ≤ st 0) (hn10 : st 0 ≤ 10) (hc : code < 59049) (hla : ∀ v, la code = some v → v < 2 ^ 31) (hso : ∀ v, so code = some v → v < 2 ^ 31) : RO l yX6_kindOf cX6_kindOf 2 (some .int) rmX6_kindOf [.ref (a 0), .int (nI code)] (wB D cA (mW a cA st im kp nx li isl mv so la cm ld us bl)) ((nI (kd (met (st 0) code) (la code) (so code)))) := by
  refine ro_int rfl (Nat.le_of_ble_eq_true rfl) ?_
  intro p e s m below meth cd Q ls hx hb hml hown hts hB hl hret
  obtain ⟨hP, hK, hN⟩ := hB
  have hown : s.vm.findClass RX6 = some m.cls := hown
  have hl : lv_has ls 2 [(0, .ref (a 0)), (1, .int (nI code))] := hl
  refine lv_aload_n hx hb dX6_kindOf_0 rfl (lv_at hl 0 rfl) ?_
  refine lv_iload_n hx hb dX6_kindOf_1 rfl (lv_at hl 1 rfl) ?_
  refine rm_cV (ls := ls) (As := [.int (nI code)]) (rest := []) ⟨hx, hb, hml, hown, hts⟩ (metX6_isMet l D cA a st im kp nx li isl mv so la cm ld us bl code (by first | assumption | omega) (by first | assumption | omega) (by first | assumption | omega)) (cwX6_isMet_X6 hts ⟨Nat.le_of_ble_eq_true rfl, Nat.le_of_ble_eq_true rfl⟩) hP hK hN (va_recv hK hP xc5 (q0 := 0) rfl) rfl hl.1 rfl (Nat.le_of_ble_eq_true rfl) dX6_kindOf_2 ⟨Nat.zero_le _, Nat.zero_le _⟩ ?_
  refine rm_beq (tgt := 12) hx hb dX6_kindOf_5 (by decide) (fun q5 => ?_) (fun q5 => ?_)
  · skip
    refine lv_aload_n hx hb dX6_kindOf_12 rfl (lv_at hl 0 rfl) ?_
    refine va_get (D := D) (ci := 5) (v := .ref (a 10)) (C := RX6) (T := TX6) (N := 14) hx hb hts in_X6 hown hK hP 0 rfl xc5 10 (by decide) (hts _ q650) (fun _ h9 => h9) rfl dX6_kindOf_13 ?_
    refine lv_iload_n hx hb dX6_kindOf_16 rfl (lv_at hl 1 rfl) ?_
    refine rm_old hx hb hK hP 10 rfl (by omega) (by decide) dX6_kindOf_17 ?_
    refine rm_olt (tgt := 25) hx hb dX6_kindOf_18 (by decide) (by assumption) (fun q18 => ?_) (fun q18 => ?_)
    · skip
      refine lv_aload_n hx hb dX6_kindOf_25 rfl (lv_at hl 0 rfl) ?_
      refine va_get (D := D) (ci := 5) (v := .ref (a 9)) (C := RX6) (T := TX6) (N := 14) hx hb hts in_X6 hown hK hP 0 rfl xc5 9 (by decide) (hts _ q649) (fun _ h9 => h9) rfl dX6_kindOf_26 ?_
      refine lv_iload_n hx hb dX6_kindOf_29 rfl (lv_at hl 1 rfl) ?_
      refine rm_old hx hb hK hP 9 rfl (by omega) (by decide) dX6_kindOf_30 ?_
      refine rm_olt (tgt := 38) hx hb dX6_kindOf_31 (by decide) (by assumption) (fun q31 => ?_) (fun q31 => ?_)
      · skip
        refine lv_iconst (v := (nI 3)) hx hb dX6_kindOf_38 (by decide) ?_
        exact hret _ 39 ls (by unfold kd; rw [q5]; simp [q18, q31]) dX6_kindOf_39
      · skip
        refine lv_iconst (v := (nI 2)) hx hb dX6_kindOf_34 (by decide) ?_
        refine lv_goto (tgt := 39) hx hb dX6_kindOf_35 (by decide) ?_
        exact hret _ 39 ls (by obtain ⟨x, hx⟩ := q31; unfold kd; rw [q5]; simp [q18, hx]) dX6_kindOf_39
    · skip
      refine lv_iconst (v := (nI 1)) hx hb dX6_kindOf_21 (by decide) ?_
      refine lv_goto (tgt := 39) hx hb dX6_kindOf_22 (by decide) ?_
      exact hret _ 39 ls (by obtain ⟨x, hx⟩ := q18; unfold kd; rw [q5]; simp [hx]) dX6_kindOf_39
  · skip
    refine lv_iconst (v := (nI 0)) hx hb dX6_kindOf_8 (by decide) ?_
    refine lv_goto (tgt := 39) hx hb dX6_kindOf_9 (by decide) ?_
    exact hret _ 39 ls (by unfold kd; rw [q5]; rfl) dX6_kindOf_39
theorem cwX6_kindOf_X6 {R : Room} {s : State} {args : Array Value} (hts : ∀ w ∈ lw_all, w.before args s = true) (hR : (rmX6_kindOf).frames + 1 ≤ R.frames ∧ 8 + (2 + 11) + (rmX6_kindOf).locals ≤ R.locals) : CallW R s args RX6 RX6 175 yX6_kindOf cX6_kindOf 2 (some .int) (ws_ yX6_kindOf cX6_kindOf 2 (some .int)) rmX6_kindOf 0 0 1 := cwV 1 hts (lw_V q862 q864 qs52 q63 q865) rfl rfl rfl (by decide +kernel) hR
abbrev rmX6_stuck : Room := { frames := 3, cells := 0, slots := 0, locals := 64 }
set_option maxHeartbeats 4000000 in
theorem metX6_stuck (l : Launch) (D : va_G) (cA : Nat → ClassId) (a : Nat → Nat) (st im : Nat → Nat) (kp : Nat → Bool) (nx li : Nat → Nat) (isl : Nat → Bool) (mv : Nat → Nat) (so la : Nat → Option Nat) (cm : Nat → Nat) (ld us : Nat) (bl : Bool)  (hn3 : 3 ≤ st 0) (hn10 : st 0 ≤ 10) (hld : ld ≤ 59049) (hli : ∀ k, k < ld → li k < 59049) (hmv : ∀ k, mv k < 2 ^ 31) : RO l yX6_stuck cX6_stuck 3 (some .int) rmX6_stuck [.ref (a 0)] (wB D cA (mW a cA st im kp nx li isl mv so la cm ld us bl)) ((nI (ctP (fun k => !(met (st 0) (li k)) && decide (stS (st 0) (mv (li k)) = 0)) ld))) := by
  refine ro_int rfl (Nat.le_of_ble_eq_true rfl) ?_
  intro p e s m below meth cd Q ls hx hb hml hown hts hB hl hret
  obtain ⟨hP, hK, hN⟩ := hB
  have hown : s.vm.findClass RX6 = some m.cls := hown
  have hl : lv_has ls 3 [(0, .ref (a 0))] := hl
  refine lv_iconst (v := (nI 0)) hx hb dX6_stuck_0 (by decide) ?_
  refine lv_istore_n (lv' := [(1, .int (nI 0)), (0, .ref (a 0))]) hx hb dX6_stuck_1 rfl hl (by decide) rfl (fun ls hl => ?_)
  refine lv_iconst (v := (nI 0)) hx hb dX6_stuck_2 (by decide) ?_
  refine lv_istore_n (lv' := [(2, .int (nI 0)), (1, .int (nI 0)), (0, .ref (a 0))]) hx hb dX6_stuck_3 rfl hl (by decide) rfl (fun ls hl => ?_)
  have loop4 : ∀ (N : Nat) (k : Nat), ld - k < N → (k ≤ ld) → ∀ (ls : Array Slot), lv_has ls 3 [(2, .int (nI k)), (1, .int (nI (ctP (fun k => !(met (st 0) (li k)) && decide (stS (st 0) (mv (li k)) = 0)) k))), (0, .ref (a 0))] → W p l e rmX6_stuck s m ([.ref (a 0)] : List Value).toArray below meth cd s.heap [] 0 0 Q (F0 m 4 ls []) := by
    intro N
    induction N with
    | zero => intro k hm; exact absurd hm (Nat.not_lt_zero _)
    | succ N ih4 =>
      intro k hm4 i4_0 ls hl
      refine lv_iload_n hx hb dX6_stuck_4 rfl (lv_at hl 0 rfl) ?_
      refine lv_aload_n hx hb dX6_stuck_5 rfl (lv_at hl 2 rfl) ?_
      refine va_get (D := D) (ci := 5) (v := .int (nI ld)) (C := RX6) (T := TX6) (N := 14) hx hb hts in_X6 hown hK hP 0 rfl xc5 6 (by decide) (hts _ q646) (fun _ h9 => h9) rfl dX6_stuck_6 ?_
      refine rm_cge (tgt := 52) hx hb dX6_stuck_9 (by decide) (by omega) (by omega) (fun q9 => ?_) (fun q9 => ?_)
      · skip
        refine lv_iload_n hx hb dX6_stuck_52 rfl (lv_at hl 1 rfl) ?_
        exact hret _ 53 ls (by rw [show k = ld by omega]) dX6_stuck_53
      · skip
        refine lv_iload_n hx hb dX6_stuck_12 rfl (lv_at hl 1 rfl) ?_
        have join44 : ∀ (ls : Array Slot), lv_has ls 3 [(2, .int (nI k)), (1, .int (nI (ctP (fun k => !(met (st 0) (li k)) && decide (stS (st 0) (mv (li k)) = 0)) k))), (0, .ref (a 0))] → W p l e rmX6_stuck s m ([.ref (a 0)] : List Value).toArray below meth cd s.heap [] 0 0 Q (F0 m 44 ls [.int (nI ((!(met (st 0) (li k)) && decide (stS (st 0) (mv (li k)) = 0)).toNat)), .int (nI (ctP (fun k => !(met (st 0) (li k)) && decide (stS (st 0) (mv (li k)) = 0)) k))]) := by
          intro   ls hl
          refine rm_iadd hx hb dX6_stuck_44 ?_
          refine lv_istore_n (lv' := [(1, .int (nI ((ctP (fun k => !(met (st 0) (li k)) && decide (stS (st 0) (mv (li k)) = 0)) k) + ((!(met (st 0) (li k)) && decide (stS (st 0) (mv (li k)) = 0)).toNat)))), (2, .int (nI k)), (0, .ref (a 0))]) hx hb dX6_stuck_45 rfl hl (by decide) rfl (fun ls hl => ?_)
          refine lv_iinc (v := (nI (k + 1))) (lv' := [(2, .int (nI (k + 1))), (1, .int (nI ((ctP (fun k => !(met (st 0) (li k)) && decide (stS (st 0) (mv (li k)) = 0)) k) + ((!(met (st 0) (li k)) && decide (stS (st 0) (mv (li k)) = 0)).toNat)))), (0, .ref (a 0))]) hx hb dX6_stuck_46 hl (k := 1) rfl (rm_inc k 1) (by decide) rfl (fun ls hl => ?_)
          refine lv_goto (tgt := 4) hx hb dX6_stuck_49 (by decide) ?_
          exact ih4 (k + 1) (by omega) (by omega) ls hl
        have hlik := hli k q9
        refine lv_aload_n hx hb dX6_stuck_13 rfl (lv_at hl 2 rfl) ?_
        refine lv_aload_n hx hb dX6_stuck_14 rfl (lv_at hl 2 rfl) ?_
        refine va_get (D := D) (ci := 5) (v := .ref (a 6)) (C := RX6) (T := TX6) (N := 14) hx hb hts in_X6 hown hK hP 0 rfl xc5 5 (by decide) (hts _ q645) (fun _ h9 => h9) rfl dX6_stuck_15 ?_
        refine lv_iload_n hx hb dX6_stuck_18 rfl (lv_at hl 0 rfl) ?_
        refine rm_nld hx hb hK hP 6 rfl (by omega) (by decide) dX6_stuck_19 ?_
        refine rm_cV (ls := ls) (As := [.int (nI (li k))]) (rest := [.int (nI (ctP (fun k => !(met (st 0) (li k)) && decide (stS (st 0) (mv (li k)) = 0)) k))]) ⟨hx, hb, hml, hown, hts⟩ (metX6_isMet l D cA a st im kp nx li isl mv so la cm ld us bl (li k) (by first | assumption | omega) (by first | assumption | omega) (by omega)) (cwX6_isMet_X6 hts ⟨Nat.le_of_ble_eq_true rfl, Nat.le_of_ble_eq_true rfl⟩) hP hK hN (va_recv hK hP xc5 (q0 := 0) rfl) rfl hl.1 rfl (Nat.le_of_ble_eq_true rfl) dX6_stuck_20 ⟨Nat.zero_le _, Nat.zero_le _⟩ ?_
        refine rm_bne (tgt := 43) hx hb dX6_stuck_23 (by decide) (fun q23 => ?_) (fun q23 => ?_)
        · skip
          refine lv_iconst (v := (nI 0)) hx hb dX6_stuck_43 (by decide) ?_
          refine rm_top (y := (nI ((!(met (st 0) (li k)) && decide (stS (st 0) (mv (li k)) = 0)).toNat))) (by rw [q23]; rfl) ?_
          exact join44   ls hl
        · skip
          refine lv_aload_n hx hb dX6_stuck_26 rfl (lv_at hl 2 rfl) ?_
          refine lv_aload_n hx hb dX6_stuck_27 rfl (lv_at hl 2 rfl) ?_
          refine va_get (D := D) (ci := 5) (v := .ref (a 6)) (C := RX6) (T := TX6) (N := 14) hx hb hts in_X6 hown hK hP 0 rfl xc5 5 (by decide) (hts _ q645) (fun _ h9 => h9) rfl dX6_stuck_28 ?_
          refine lv_iload_n hx hb dX6_stuck_31 rfl (lv_at hl 0 rfl) ?_
          refine rm_nld hx hb hK hP 6 rfl (by omega) (by decide) dX6_stuck_32 ?_
          refine rm_cV (ls := ls) (As := [.int (nI (li k))]) (rest := [.int (nI (ctP (fun k => !(met (st 0) (li k)) && decide (stS (st 0) (mv (li k)) = 0)) k))]) ⟨hx, hb, hml, hown, hts⟩ (metX6_movers l D cA a st im kp nx li isl mv so la cm ld us bl (li k) (by first | assumption | omega) (by first | assumption | omega) (by first | assumption | omega) (hmv _)) (cwX6_movers_X6 hts ⟨Nat.le_of_ble_eq_true rfl, Nat.le_of_ble_eq_true rfl⟩) hP hK hN (va_recv hK hP xc5 (q0 := 0) rfl) rfl hl.1 rfl (Nat.le_of_ble_eq_true rfl) dX6_stuck_33 ⟨Nat.zero_le _, Nat.zero_le _⟩ ?_
          refine rm_ine (tgt := 43) hx hb dX6_stuck_36 (by decide) (Nat.lt_trans (stS_lt hn10 _) (by decide)) (fun q36 => ?_) (fun q36 => ?_)
          · skip
            refine lv_iconst (v := (nI 0)) hx hb dX6_stuck_43 (by decide) ?_
            refine rm_top (y := (nI ((!(met (st 0) (li k)) && decide (stS (st 0) (mv (li k)) = 0)).toNat))) (by rw [decide_eq_false (show ¬ stS (st 0) (mv (li k)) = 0 by omega), Bool.and_false]; rfl) ?_
            exact join44   ls hl
          · skip
            refine lv_iconst (v := (nI 1)) hx hb dX6_stuck_39 (by decide) ?_
            refine lv_goto (tgt := 44) hx hb dX6_stuck_40 (by decide) ?_
            refine rm_top (y := (nI ((!(met (st 0) (li k)) && decide (stS (st 0) (mv (li k)) = 0)).toNat))) (by rw [q23, decide_eq_true q36]; rfl) ?_
            exact join44   ls hl
  exact loop4 _ 0 (Nat.lt_succ_self _) (by omega) ls hl
theorem cwX6_stuck_X6 {R : Room} {s : State} {args : Array Value} (hts : ∀ w ∈ lw_all, w.before args s = true) (hR : (rmX6_stuck).frames + 1 ≤ R.frames ∧ 8 + (3 + 11) + (rmX6_stuck).locals ≤ R.locals) : CallW R s args RX6 RX6 178 yX6_stuck cX6_stuck 3 (some .int) (ws_ yX6_stuck cX6_stuck 3 (some .int)) rmX6_stuck 0 0 0 := cwV 0 hts (lw_V q866 q868 qs53 q63 q869) rfl rfl rfl (by decide +kernel) hR
abbrev rmX6_singles : Room := { frames := 1, cells := 0, slots := 0, locals := 21 }
set_option maxHeartbeats 4000000 in
theorem metX6_singles (l : Launch) (D : va_G) (cA : Nat → ClassId) (a : Nat → Nat) (st im : Nat → Nat) (kp : Nat → Bool) (nx li : Nat → Nat) (isl : Nat → Bool) (mv : Nat → Nat) (so la : Nat → Option Nat) (cm : Nat → Nat) (ld us : Nat) (bl : Bool) (S : Nat) (hn3 : 3 ≤ st 0) (hn10 : st 0 ≤ 10) (hS : S < 1024) : RO l yX6_singles cX6_singles 4 (some .int) rmX6_singles [.ref (a 0), .int (nI S)] (wB D cA (mW a cA st im kp nx li isl mv so la cm ld us bl)) ((nI (sgl (st 0) S))) := by
  refine ro_int rfl (Nat.le_of_ble_eq_true rfl) ?_
  intro p e s m below meth cd Q ls hx hb hml hown hts hB hl hret
  obtain ⟨hP, hK, hN⟩ := hB
  have hown : s.vm.findClass RX6 = some m.cls := hown
  have hl : lv_has ls 4 [(0, .ref (a 0)), (1, .int (nI S))] := hl
  refine lv_iconst (v := (nI 0)) hx hb dX6_singles_0 (by decide) ?_
  refine lv_istore_n (lv' := [(2, .int (nI 0)), (0, .ref (a 0)), (1, .int (nI S))]) hx hb dX6_singles_1 rfl hl (by decide) rfl (fun ls hl => ?_)
  refine lv_iconst (v := (nI 0)) hx hb dX6_singles_2 (by decide) ?_
  refine lv_istore_n (lv' := [(3, .int (nI 0)), (2, .int (nI 0)), (0, .ref (a 0)), (1, .int (nI S))]) hx hb dX6_singles_3 rfl hl (by decide) rfl (fun ls hl => ?_)
  have loop4 : ∀ (N : Nat) (c : Nat), st 0 - c < N → (c ≤ st 0) → ∀ (ls : Array Slot), lv_has ls 4 [(3, .int (nI c)), (2, .int (nI (sm (fun c => p3 c * (Nat.testBit S c).toNat) c))), (0, .ref (a 0)), (1, .int (nI S))] → W p l e rmX6_singles s m ([.ref (a 0), .int (nI S)] : List Value).toArray below meth cd s.heap [] 0 0 Q (F0 m 4 ls []) := by
    intro N
    induction N with
    | zero => intro c hm; exact absurd hm (Nat.not_lt_zero _)
    | succ N ih4 =>
      intro c hm4 i4_0 ls hl
      refine lv_iload_n hx hb dX6_singles_4 rfl (lv_at hl 0 rfl) ?_
      refine lv_aload_n hx hb dX6_singles_5 rfl (lv_at hl 2 rfl) ?_
      refine rm_cV (ls := ls) (As := []) (rest := [.int (nI c)]) ⟨hx, hb, hml, hown, hts⟩ (metX6_cells l D cA a st im kp nx li isl mv so la cm ld us bl  ) (cwX6_cells_X6 hts ⟨Nat.le_of_ble_eq_true rfl, Nat.le_of_ble_eq_true rfl⟩) hP hK hN (va_recv hK hP xc5 (q0 := 0) rfl) rfl hl.1 rfl (Nat.le_of_ble_eq_true rfl) dX6_singles_6 ⟨Nat.zero_le _, Nat.zero_le _⟩ ?_
      refine rm_cge (tgt := 39) hx hb dX6_singles_9 (by decide) (by omega) (by omega) (fun q9 => ?_) (fun q9 => ?_)
      · skip
        refine lv_iload_n hx hb dX6_singles_39 rfl (lv_at hl 1 rfl) ?_
        exact hret _ 40 ls (by unfold sgl; rw [show c = st 0 by omega]) dX6_singles_40
      · skip
        refine lv_iload_n hx hb dX6_singles_12 rfl (lv_at hl 1 rfl) ?_
        have join31 : ∀ (ls : Array Slot), lv_has ls 4 [(3, .int (nI c)), (2, .int (nI (sm (fun c => p3 c * (Nat.testBit S c).toNat) c))), (0, .ref (a 0)), (1, .int (nI S))] → W p l e rmX6_singles s m ([.ref (a 0), .int (nI S)] : List Value).toArray below meth cd s.heap [] 0 0 Q (F0 m 31 ls [.int (nI (p3 c * (Nat.testBit S c).toNat)), .int (nI (sm (fun c => p3 c * (Nat.testBit S c).toNat) c))]) := by
          intro   ls hl
          refine rm_iadd hx hb dX6_singles_31 ?_
          refine lv_istore_n (lv' := [(2, .int (nI ((sm (fun c => p3 c * (Nat.testBit S c).toNat) c) + (p3 c * (Nat.testBit S c).toNat)))), (3, .int (nI c)), (0, .ref (a 0)), (1, .int (nI S))]) hx hb dX6_singles_32 rfl hl (by decide) rfl (fun ls hl => ?_)
          refine lv_iinc (v := (nI (c + 1))) (lv' := [(3, .int (nI (c + 1))), (2, .int (nI ((sm (fun c => p3 c * (Nat.testBit S c).toNat) c) + (p3 c * (Nat.testBit S c).toNat)))), (0, .ref (a 0)), (1, .int (nI S))]) hx hb dX6_singles_33 hl (k := 1) rfl (rm_inc c 1) (by decide) rfl (fun ls hl => ?_)
          refine lv_goto (tgt := 4) hx hb dX6_singles_36 (by decide) ?_
          exact ih4 (c + 1) (by omega) (by omega) ls hl
        refine lv_iload_n hx hb dX6_singles_13 rfl (lv_at hl 3 rfl) ?_
        refine lv_iload_n hx hb dX6_singles_14 rfl (lv_at hl 0 rfl) ?_
        refine rm_cS (ls := ls) (As := [.int (nI S), .int (nI c)]) (rest := [.int (nI (sm (fun c => p3 c * (Nat.testBit S c).toNat) c))]) ⟨hx, hb, hml, hown, hts⟩ (metX6_has l S c (by first | assumption | omega) (by first | assumption | omega)) (cwX6_has_X6 hts ⟨Nat.le_of_ble_eq_true rfl, Nat.le_of_ble_eq_true rfl⟩) noB rfl hl.1 rfl (Nat.le_of_ble_eq_true rfl) dX6_singles_15 ⟨Nat.zero_le _, Nat.zero_le _⟩ ?_
        refine rm_beq (tgt := 30) hx hb dX6_singles_18 (by decide) (fun q18 => ?_) (fun q18 => ?_)
        · skip
          refine lv_iconst (v := (nI 0)) hx hb dX6_singles_30 (by decide) ?_
          refine rm_top (y := (nI (p3 c * (Nat.testBit S c).toNat))) (by rw [q18]; rfl) ?_
          exact join31   ls hl
        · skip
          refine lv_aload_n hx hb dX6_singles_21 rfl (lv_at hl 2 rfl) ?_
          refine va_get (D := D) (ci := 5) (v := .ref (a 4)) (C := RX6) (T := TX6) (N := 14) hx hb hts in_X6 hown hK hP 0 rfl xc5 3 (by decide) (hts _ q643) (fun _ h9 => h9) rfl dX6_singles_22 ?_
          refine lv_iload_n hx hb dX6_singles_25 rfl (lv_at hl 0 rfl) ?_
          refine rm_nld hx hb hK hP 4 rfl (by omega) (by decide) dX6_singles_26 ?_
          refine lv_goto (tgt := 31) hx hb dX6_singles_27 (by decide) ?_
          refine rm_top (y := (nI (p3 c * (Nat.testBit S c).toNat))) (by rw [q18]; simp) ?_
          exact join31   ls hl
  exact loop4 _ 0 (Nat.lt_succ_self _) (by omega) ls hl
theorem cwX6_singles_X6 {R : Room} {s : State} {args : Array Value} (hts : ∀ w ∈ lw_all, w.before args s = true) (hR : (rmX6_singles).frames + 1 ≤ R.frames ∧ 8 + (4 + 11) + (rmX6_singles).locals ≤ R.locals) : CallW R s args RX6 RX6 181 yX6_singles cX6_singles 4 (some .int) (ws_ yX6_singles cX6_singles 4 (some .int)) rmX6_singles 0 0 1 := cwV 1 hts (lw_V q886 q888 qs54 q63 q889) rfl rfl rfl (by decide +kernel) hR
abbrev rmX6_towers : Room := { frames := 1, cells := 0, slots := 0, locals := 20 }
set_option maxHeartbeats 4000000 in
theorem metX6_towers (l : Launch) (D : va_G) (cA : Nat → ClassId) (a : Nat → Nat) (st im : Nat → Nat) (kp : Nat → Bool) (nx li : Nat → Nat) (isl : Nat → Bool) (mv : Nat → Nat) (so la : Nat → Option Nat) (cm : Nat → Nat) (ld us : Nat) (bl : Bool)  (hn3 : 3 ≤ st 0) (hn10 : st 0 ≤ 10) (hst : ∀ j, st j < 2 ^ 31) : RO l yX6_towers cX6_towers 3 (some .int) rmX6_towers [.ref (a 0)] (wB D cA (mW a cA st im kp nx li isl mv so la cm ld us bl)) ((nI (TT (st 0) (fun c => st (1 + c))))) := by
  refine ro_int rfl (Nat.le_of_ble_eq_true rfl) ?_
  intro p e s m below meth cd Q ls hx hb hml hown hts hB hl hret
  obtain ⟨hP, hK, hN⟩ := hB
  have hown : s.vm.findClass RX6 = some m.cls := hown
  have hl : lv_has ls 3 [(0, .ref (a 0))] := hl
  refine lv_iconst (v := (nI 0)) hx hb dX6_towers_0 (by decide) ?_
  refine lv_istore_n (lv' := [(1, .int (nI 0)), (0, .ref (a 0))]) hx hb dX6_towers_1 rfl hl (by decide) rfl (fun ls hl => ?_)
  refine lv_iconst (v := (nI 0)) hx hb dX6_towers_2 (by decide) ?_
  refine lv_istore_n (lv' := [(2, .int (nI 0)), (1, .int (nI 0)), (0, .ref (a 0))]) hx hb dX6_towers_3 rfl hl (by decide) rfl (fun ls hl => ?_)
  have loop4 : ∀ (N : Nat) (c : Nat), st 0 - c < N → (c ≤ st 0) → ∀ (ls : Array Slot), lv_has ls 3 [(2, .int (nI c)), (1, .int (nI (bs (fun c => decide (1 < st (1 + c))) c))), (0, .ref (a 0))] → W p l e rmX6_towers s m ([.ref (a 0)] : List Value).toArray below meth cd s.heap [] 0 0 Q (F0 m 4 ls []) := by
    intro N
    induction N with
    | zero => intro c hm; exact absurd hm (Nat.not_lt_zero _)
    | succ N ih4 =>
      intro c hm4 i4_0 ls hl
      refine lv_iload_n hx hb dX6_towers_4 rfl (lv_at hl 0 rfl) ?_
      refine lv_aload_n hx hb dX6_towers_5 rfl (lv_at hl 2 rfl) ?_
      refine rm_cV (ls := ls) (As := []) (rest := [.int (nI c)]) ⟨hx, hb, hml, hown, hts⟩ (metX6_cells l D cA a st im kp nx li isl mv so la cm ld us bl  ) (cwX6_cells_X6 hts ⟨Nat.le_of_ble_eq_true rfl, Nat.le_of_ble_eq_true rfl⟩) hP hK hN (va_recv hK hP xc5 (q0 := 0) rfl) rfl hl.1 rfl (Nat.le_of_ble_eq_true rfl) dX6_towers_6 ⟨Nat.zero_le _, Nat.zero_le _⟩ ?_
      refine rm_cge (tgt := 40) hx hb dX6_towers_9 (by decide) (by first | omega | exact hst _) (by first | omega | exact hst _) (fun q9 => ?_) (fun q9 => ?_)
      · skip
        refine lv_iload_n hx hb dX6_towers_40 rfl (lv_at hl 1 rfl) ?_
        exact hret _ 41 ls (by unfold TT; rw [show c = st 0 by omega]) dX6_towers_41
      · skip
        refine lv_iload_n hx hb dX6_towers_12 rfl (lv_at hl 1 rfl) ?_
        have join32 : ∀ (ls : Array Slot), lv_has ls 3 [(2, .int (nI c)), (1, .int (nI (bs (fun c => decide (1 < st (1 + c))) c))), (0, .ref (a 0))] → W p l e rmX6_towers s m ([.ref (a 0)] : List Value).toArray below meth cd s.heap [] 0 0 Q (F0 m 32 ls [.int (nI (if decide (1 < st (1 + c)) then 2 ^ c else 0)), .int (nI (bs (fun c => decide (1 < st (1 + c))) c))]) := by
          intro   ls hl
          refine rm_ior hx hb dX6_towers_32 ?_
          refine lv_istore_n (lv' := [(1, .int (nI ((bs (fun c => decide (1 < st (1 + c))) c) ||| (if decide (1 < st (1 + c)) then 2 ^ c else 0)))), (2, .int (nI c)), (0, .ref (a 0))]) hx hb dX6_towers_33 rfl hl (by decide) rfl (fun ls hl => ?_)
          refine lv_iinc (v := (nI (c + 1))) (lv' := [(2, .int (nI (c + 1))), (1, .int (nI ((bs (fun c => decide (1 < st (1 + c))) c) ||| (if decide (1 < st (1 + c)) then 2 ^ c else 0)))), (0, .ref (a 0))]) hx hb dX6_towers_34 hl (k := 1) rfl (rm_inc c 1) (by decide) rfl (fun ls hl => ?_)
          refine lv_goto (tgt := 4) hx hb dX6_towers_37 (by decide) ?_
          exact ih4 (c + 1) (by omega) (by omega) ls hl
        refine lv_aload_n hx hb dX6_towers_13 rfl (lv_at hl 2 rfl) ?_
        refine va_get (D := D) (ci := 5) (v := .ref (a 1)) (C := RX6) (T := TX6) (N := 14) hx hb hts in_X6 hown hK hP 0 rfl xc5 0 (by decide) (hts _ q640) (fun _ h9 => h9) rfl dX6_towers_14 ?_
        refine lv_iconst (v := (nI 1)) hx hb dX6_towers_17 (by decide) ?_
        refine lv_iload_n hx hb dX6_towers_18 rfl (lv_at hl 0 rfl) ?_
        refine rm_iadd hx hb dX6_towers_19 ?_
        refine rm_nld hx hb hK hP 1 rfl (by omega) (by decide) dX6_towers_20 ?_
        refine lv_iconst (v := (nI 1)) hx hb dX6_towers_21 (by decide) ?_
        refine rm_cle (tgt := 31) hx hb dX6_towers_22 (by decide) (by first | omega | exact hst _) (by decide) (fun q22 => ?_) (fun q22 => ?_)
        · skip
          refine lv_iconst (v := (nI 0)) hx hb dX6_towers_31 (by decide) ?_
          refine rm_top (y := (nI (if decide (1 < st (1 + c)) then 2 ^ c else 0))) (by rw [decide_eq_false (by omega)]; rfl) ?_
          exact join32   ls hl
        · skip
          refine lv_iconst (v := (nI 1)) hx hb dX6_towers_25 (by decide) ?_
          refine lv_iload_n hx hb dX6_towers_26 rfl (lv_at hl 0 rfl) ?_
          refine rm_ishl1 hx hb dX6_towers_27 (by omega) ?_
          refine lv_goto (tgt := 32) hx hb dX6_towers_28 (by decide) ?_
          refine rm_top (y := (nI (if decide (1 < st (1 + c)) then 2 ^ c else 0))) (by rw [decide_eq_true (by omega)]; rfl) ?_
          exact join32   ls hl
  exact loop4 _ 0 (Nat.lt_succ_self _) (by omega) ls hl
theorem cwX6_towers_X6 {R : Room} {s : State} {args : Array Value} (hts : ∀ w ∈ lw_all, w.before args s = true) (hR : (rmX6_towers).frames + 1 ≤ R.frames ∧ 8 + (3 + 11) + (rmX6_towers).locals ≤ R.locals) : CallW R s args RX6 RX6 184 yX6_towers cX6_towers 3 (some .int) (ws_ yX6_towers cX6_towers 3 (some .int)) rmX6_towers 0 0 0 := cwV 0 hts (lw_V q902 q904 qs55 q63 q905) rfl rfl rfl (by decide +kernel) hR
abbrev rmX6_count : Room := { frames := 2, cells := 0, slots := 0, locals := 43 }
set_option maxHeartbeats 4000000 in
theorem metX6_count (l : Launch) (D : va_G) (cA : Nat → ClassId) (a : Nat → Nat) (st im : Nat → Nat) (kp : Nat → Bool) (nx li : Nat → Nat) (isl : Nat → Bool) (mv : Nat → Nat) (so la : Nat → Option Nat) (cm : Nat → Nat) (ld us : Nat) (bl : Bool) (what : Int32) (hn3 : 3 ≤ st 0) (hn10 : st 0 ≤ 10) (hst : ∀ j, st j < 2 ^ 31) : RO l yX6_count cX6_count 2 (some .int) rmX6_count [.ref (a 0), .int what] (wB D cA (mW a cA st im kp nx li isl mv so la cm ld us bl)) ((coR (st 0) (fun c => st (1 + c)) (st 11) kp what)) := by
  refine ro_int rfl (Nat.le_of_ble_eq_true rfl) ?_
  intro p e s m below meth cd Q ls hx hb hml hown hts hB hl hret
  obtain ⟨hP, hK, hN⟩ := hB
  have hown : s.vm.findClass RX6 = some m.cls := hown
  have hl : lv_has ls 2 [(0, .ref (a 0)), (1, .int what)] := hl
  refine lv_iload_n hx hb dX6_count_0 rfl (lv_at hl 1 rfl) ?_
  refine lv_bipush (v := (nI 10)) hx hb dX6_count_1 (by decide) ?_
  refine lv_bipush (v := (nI 19)) hx hb dX6_count_3 (by decide) ?_
  refine rm_cS (ls := ls) (As := [.int what, .int (nI 10), .int (nI 19)]) (rest := []) ⟨hx, hb, hml, hown, hts⟩ (metX6_in l what (nI 10) (nI 19) ) (cwX6_in_X6 hts ⟨Nat.le_of_ble_eq_true rfl, Nat.le_of_ble_eq_true rfl⟩) noB rfl hl.1 rfl (Nat.le_of_ble_eq_true rfl) dX6_count_5 ⟨Nat.zero_le _, Nat.zero_le _⟩ ?_
  refine rm_beq (tgt := 23) hx hb dX6_count_8 (by decide) (fun q8 => ?_) (fun q8 => ?_)
  · skip
    refine lv_iload_n hx hb dX6_count_23 rfl (lv_at hl 1 rfl) ?_
    by_cases hsw24 : inI 0 5 what = true
    · obtain ⟨ksw, hk0, hkh, esw⟩ := (inI_iff (by decide) (by decide)).mp hsw24
      have hk : ksw = 0 ∨ ksw = 1 ∨ ksw = 2 ∨ ksw = 3 ∨ ksw = 4 ∨ ksw = 5 := by omega
      rcases hk with rfl | rfl | rfl | rfl | rfl | rfl
      · skip
        subst esw
        refine lv_tableIn (off := 40) (tgt := 64) hx hb dX6_count_24 (by decide) (by decide) (by decide) (by decide) ?_
        refine lv_aload_n hx hb dX6_count_64 rfl (lv_at hl 0 rfl) ?_
        refine rm_cV (ls := ls) (As := []) (rest := []) ⟨hx, hb, hml, hown, hts⟩ (metX6_cells l D cA a st im kp nx li isl mv so la cm ld us bl  ) (cwX6_cells_X6 hts ⟨Nat.le_of_ble_eq_true rfl, Nat.le_of_ble_eq_true rfl⟩) hP hK hN (va_recv hK hP xc5 (q0 := 0) rfl) rfl hl.1 rfl (Nat.le_of_ble_eq_true rfl) dX6_count_65 ⟨Nat.zero_le _, Nat.zero_le _⟩ ?_
        exact hret _ 68 ls (by unfold coR; rw [if_neg (by rw [show inI 10 19 (nI 0) = false from q8]; decide)]; exact sw_ret hsw24 (by decide) rfl) dX6_count_68
      · skip
        subst esw
        refine lv_tableIn (off := 45) (tgt := 69) hx hb dX6_count_24 (by decide) (by decide) (by decide) (by decide) ?_
        refine lv_aload_n hx hb dX6_count_69 rfl (lv_at hl 0 rfl) ?_
        refine rm_cV (ls := ls) (As := []) (rest := []) ⟨hx, hb, hml, hown, hts⟩ (metX6_walkers l D cA a st im kp nx li isl mv so la cm ld us bl  (by first | assumption | omega)) (cwX6_walkers_X6 hts ⟨Nat.le_of_ble_eq_true rfl, Nat.le_of_ble_eq_true rfl⟩) hP hK hN (va_recv hK hP xc5 (q0 := 0) rfl) rfl hl.1 rfl (Nat.le_of_ble_eq_true rfl) dX6_count_70 ⟨Nat.zero_le _, Nat.zero_le _⟩ ?_
        exact hret _ 73 ls (by unfold coR; rw [if_neg (by rw [show inI 10 19 (nI 1) = false from q8]; decide)]; exact sw_ret hsw24 (by decide) rfl) dX6_count_73
      · skip
        subst esw
        refine lv_tableIn (off := 50) (tgt := 74) hx hb dX6_count_24 (by decide) (by decide) (by decide) (by decide) ?_
        refine lv_aload_n hx hb dX6_count_74 rfl (lv_at hl 0 rfl) ?_
        refine lv_aload_n hx hb dX6_count_75 rfl (lv_at hl 0 rfl) ?_
        refine rm_cV (ls := ls) (As := []) (rest := [.ref (a 0)]) ⟨hx, hb, hml, hown, hts⟩ (metX6_now l D cA a st im kp nx li isl mv so la cm ld us bl  (by first | assumption | omega) (by first | assumption | omega) (by first | assumption | omega)) (cwX6_now_X6 hts ⟨Nat.le_of_ble_eq_true rfl, Nat.le_of_ble_eq_true rfl⟩) hP hK hN (va_recv hK hP xc5 (q0 := 0) rfl) rfl hl.1 rfl (Nat.le_of_ble_eq_true rfl) dX6_count_76 ⟨Nat.zero_le _, Nat.zero_le _⟩ ?_
        refine rm_cV (ls := ls) (As := [.int (nI (cdw (fun c => st (1 + c)) (st 0)))]) (rest := []) ⟨hx, hb, hml, hown, hts⟩ (metX6_standsOf l D cA a st im kp nx li isl mv so la cm ld us bl (cdw (fun c => st (1 + c)) (st 0)) (by first | assumption | omega) (by first | assumption | omega) (SS_lt31 hn10 _)) (cwX6_standsOf_X6 hts ⟨Nat.le_of_ble_eq_true rfl, Nat.le_of_ble_eq_true rfl⟩) hP hK hN (va_recv hK hP xc5 (q0 := 0) rfl) rfl hl.1 rfl (Nat.le_of_ble_eq_true rfl) dX6_count_79 ⟨Nat.zero_le _, Nat.zero_le _⟩ ?_
        refine rm_top (y := (nI (SS (st 0) (fun c => st (1 + c))))) (by rw [stS_cdw]) ?_
        exact hret _ 82 ls (by unfold coR; rw [if_neg (by rw [show inI 10 19 (nI 2) = false from q8]; decide)]; exact sw_ret hsw24 (by decide) rfl) dX6_count_82
      · skip
        subst esw
        refine lv_tableIn (off := 59) (tgt := 83) hx hb dX6_count_24 (by decide) (by decide) (by decide) (by decide) ?_
        refine lv_aload_n hx hb dX6_count_83 rfl (lv_at hl 0 rfl) ?_
        refine rm_cV (ls := ls) (As := []) (rest := []) ⟨hx, hb, hml, hown, hts⟩ (metX6_towers l D cA a st im kp nx li isl mv so la cm ld us bl  (by first | assumption | omega) (by first | assumption | omega) (by first | assumption | omega)) (cwX6_towers_X6 hts ⟨Nat.le_of_ble_eq_true rfl, Nat.le_of_ble_eq_true rfl⟩) hP hK hN (va_recv hK hP xc5 (q0 := 0) rfl) rfl hl.1 rfl (Nat.le_of_ble_eq_true rfl) dX6_count_84 ⟨Nat.zero_le _, Nat.zero_le _⟩ ?_
        exact hret _ 87 ls (by unfold coR; rw [if_neg (by rw [show inI 10 19 (nI 3) = false from q8]; decide)]; exact sw_ret hsw24 (by decide) rfl) dX6_count_87
      · skip
        subst esw
        refine lv_tableIn (off := 64) (tgt := 88) hx hb dX6_count_24 (by decide) (by decide) (by decide) (by decide) ?_
        refine lv_aload_n hx hb dX6_count_88 rfl (lv_at hl 0 rfl) ?_
        refine va_get (D := D) (ci := 5) (v := .ref (a 1)) (C := RX6) (T := TX6) (N := 14) hx hb hts in_X6 hown hK hP 0 rfl xc5 0 (by decide) (hts _ q640) (fun _ h9 => h9) rfl dX6_count_89 ?_
        refine lv_bipush (v := (nI 11)) hx hb dX6_count_92 (by decide) ?_
        refine rm_nld hx hb hK hP 1 rfl (by omega) (by decide) dX6_count_94 ?_
        exact hret _ 95 ls (by unfold coR; rw [if_neg (by rw [show inI 10 19 (nI 4) = false from q8]; decide)]; exact sw_ret hsw24 (by decide) rfl) dX6_count_95
      · skip
        subst esw
        refine lv_tableIn (off := 72) (tgt := 96) hx hb dX6_count_24 (by decide) (by decide) (by decide) (by decide) ?_
        have join110 : ∀ (ls : Array Slot), lv_has ls 2 [(0, .ref (a 0)), (1, .int (nI 5))] → W p l e rmX6_count s m ([.ref (a 0), .int (nI 5)] : List Value).toArray below meth cd s.heap [] 0 0 Q (F0 m 110 ls [.int (nI ((kp 0).toNat))]) := by
          intro   ls hl
          have join124 : ∀ (ls : Array Slot), lv_has ls 2 [(0, .ref (a 0)), (1, .int (nI 5))] → W p l e rmX6_count s m ([.ref (a 0), .int (nI 5)] : List Value).toArray below meth cd s.heap [] 0 0 Q (F0 m 124 ls [.int (nI (2 * (kp 1).toNat)), .int (nI ((kp 0).toNat))]) := by
            intro   ls hl
            refine rm_iadd hx hb dX6_count_124 ?_
            exact hret _ 125 ls (by unfold coR; rw [if_neg (by rw [show inI 10 19 (nI 5) = false from q8]; decide)]; exact sw_ret hsw24 (by decide) rfl) dX6_count_125
          refine lv_aload_n hx hb dX6_count_110 rfl (lv_at hl 0 rfl) ?_
          refine va_get (D := D) (ci := 5) (v := .ref (a 3)) (C := RX6) (T := TX6) (N := 14) hx hb hts in_X6 hown hK hP 0 rfl xc5 2 (by decide) (hts _ q642) (fun _ h9 => h9) rfl dX6_count_111 ?_
          refine lv_iconst (v := (nI 1)) hx hb dX6_count_114 (by decide) ?_
          refine rm_zld hx hb hK hP 3 rfl (by omega) (by decide) dX6_count_115 ?_
          refine rm_beq (tgt := 123) hx hb dX6_count_116 (by decide) (fun q116 => ?_) (fun q116 => ?_)
          · skip
            refine lv_iconst (v := (nI 0)) hx hb dX6_count_123 (by decide) ?_
            refine rm_top (y := (nI (2 * (kp 1).toNat))) (by rw [q116]; rfl) ?_
            exact join124   ls hl
          · skip
            refine lv_iconst (v := (nI 2)) hx hb dX6_count_119 (by decide) ?_
            refine lv_goto (tgt := 124) hx hb dX6_count_120 (by decide) ?_
            refine rm_top (y := (nI (2 * (kp 1).toNat))) (by rw [q116]; rfl) ?_
            exact join124   ls hl
        refine lv_aload_n hx hb dX6_count_96 rfl (lv_at hl 0 rfl) ?_
        refine va_get (D := D) (ci := 5) (v := .ref (a 3)) (C := RX6) (T := TX6) (N := 14) hx hb hts in_X6 hown hK hP 0 rfl xc5 2 (by decide) (hts _ q642) (fun _ h9 => h9) rfl dX6_count_97 ?_
        refine lv_iconst (v := (nI 0)) hx hb dX6_count_100 (by decide) ?_
        refine rm_zld hx hb hK hP 3 rfl (by omega) (by decide) dX6_count_101 ?_
        refine rm_beq (tgt := 109) hx hb dX6_count_102 (by decide) (fun q102 => ?_) (fun q102 => ?_)
        · skip
          refine lv_iconst (v := (nI 0)) hx hb dX6_count_109 (by decide) ?_
          refine rm_top (y := (nI ((kp 0).toNat))) (by rw [q102]; rfl) ?_
          exact join110   ls hl
        · skip
          refine lv_iconst (v := (nI 1)) hx hb dX6_count_105 (by decide) ?_
          refine lv_goto (tgt := 110) hx hb dX6_count_106 (by decide) ?_
          refine rm_top (y := (nI ((kp 0).toNat))) (by rw [q102]; rfl) ?_
          exact join110   ls hl
    · skip
      refine lv_tableOut (tgt := 126) hx hb dX6_count_24 (sw_out (by decide) (by decide) hsw24) (by decide) ?_
      refine lv_bipush (v := (-2)) hx hb dX6_count_126 (by decide) ?_
      exact hret _ 128 ls (by unfold coR; rw [if_neg (by rw [show inI 10 19 what = false from q8]; decide), if_neg hsw24]) dX6_count_128
  · skip
    have hWh : inI 10 19 what = true := q8
    obtain ⟨j, hj1, hj2, rfl⟩ := (inI_iff (lo := 10) (hi := 19) (by decide) (by decide)).mp q8
    refine lv_aload_n hx hb dX6_count_11 rfl (lv_at hl 0 rfl) ?_
    refine va_get (D := D) (ci := 5) (v := .ref (a 1)) (C := RX6) (T := TX6) (N := 14) hx hb hts in_X6 hown hK hP 0 rfl xc5 0 (by decide) (hts _ q640) (fun _ h9 => h9) rfl dX6_count_12 ?_
    refine lv_iconst (v := (nI 1)) hx hb dX6_count_15 (by decide) ?_
    refine lv_iload_n hx hb dX6_count_16 rfl (lv_at hl 1 rfl) ?_
    refine rm_iadd hx hb dX6_count_17 ?_
    refine lv_bipush (v := (nI 10)) hx hb dX6_count_18 (by decide) ?_
    refine rm_isub hx hb dX6_count_20 (by omega) ?_
    refine rm_nld hx hb hK hP 1 rfl (by omega) (by decide) dX6_count_21 ?_
    exact hret _ 22 ls (by unfold coR; rw [if_pos hWh, nI_clamp (by omega), show 1 + j - 10 = 1 + (j - 10) by omega]) dX6_count_22
theorem cwX6_count_L {R : Room} {s : State} {args : Array Value} (hts : ∀ w ∈ lw_all, w.before args s = true) (hR : (rmX6_count).frames + 1 ≤ R.frames ∧ 8 + (2 + 11) + (rmX6_count).locals ≤ R.locals) : CallW R s args "RingMeetsLaw" RX6 88 yX6_count cX6_count 2 (some .int) (ws_ yX6_count cX6_count 2 (some .int)) rmX6_count 0 0 1 := cwV 1 hts (lw_V q898 q899 q900 q63 q901) rfl rfl rfl (by decide +kernel) hR
