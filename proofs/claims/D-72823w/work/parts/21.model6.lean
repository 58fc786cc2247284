set_option maxRecDepth 100000

abbrev rmX6_look : Room := { frames := 3, cells := 0, slots := 0, locals := 68 }
set_option maxHeartbeats 4000000 in
theorem metX6_look (l : Launch) (D : va_G) (cA : Nat → ClassId) (a : Nat → Nat) (st im : Nat → Nat) (kp : Nat → Bool) (nx li : Nat → Nat) (isl : Nat → Bool) (mv : Nat → Nat) (so la : Nat → Option Nat) (cm : Nat → Nat) (ld us : Nat) (bl : Bool) (code k r : Nat) (hn3 : 3 ≤ st 0) (hn10 : st 0 ≤ 10) (hc : code < 59049) (hk : k < 3) (hr : 1 ≤ r) (hr2 : r < 2 ^ 31) (hmv : mv code < 2 ^ 31) (hso : ∀ c v, so c = some v → v < 2 ^ 31) (hla : ∀ c v, la c = some v → v < 2 ^ 31) : MUi l yX6_look cX6_look 9 (some .boolean) rmX6_look [.ref (a 0), .int (nI code), .int (nI k), .int (nI r)] D cA (mW a cA st im kp nx li isl mv so la cm ld us bl) (fun (res_ : Int32) (uu_ : (Nat → Option Nat) × (Nat → Option Nat) × (Nat → Nat)) => res_ = (bI (((so code).isNone && lkS (scM (st 0) (mv code) k code) so (r - 1)) || ((la code).isNone && (decide (0 < stS (st 0) (mv code)) && lkL (scM (st 0) (mv code) k code) la (r - 1))))) ∧ (uu_.1 = va_up so code (if ((so code).isNone && lkS (scM (st 0) (mv code) k code) so (r - 1)) then some r else so code)) ∧ (uu_.2.1 = va_up la code (if ((la code).isNone && (decide (0 < stS (st 0) (mv code)) && lkL (scM (st 0) (mv code) k code) la (r - 1))) then some r else la code))) (fun (uu_ : (Nat → Option Nat) × (Nat → Option Nat) × (Nat → Nat)) => mW a cA st im kp nx li isl mv uu_.1 uu_.2.1 uu_.2.2 ld us bl) 0 0 := by
  refine mu_bool rfl (Nat.le_of_ble_eq_true rfl) ?_
  intro p e s m below meth cd Q ls A hx hb hml hown hts hP hK hN hD hA hl hret
  have hown : s.vm.findClass RX6 = some m.cls := hown
  have hS : va_S A s.heap s.heap [] := va_S.rf
  have hl : lv_has ls 9 [(0, .ref (a 0)), (1, .int (nI code)), (2, .int (nI k)), (3, .int (nI r))] := hl
  obtain ⟨M, eM⟩ : ∃ y, y = stS (st 0) (mv code) := ⟨_, rfl⟩
  have hM : M < 1024 := by rw [eM]; exact stS_lt hn10 _
  refine lv_aload_n hx hb dX6_look_0 rfl (lv_at hl 0 rfl) ?_
  refine lv_iload_n hx hb dX6_look_1 rfl (lv_at hl 1 rfl) ?_
  refine rm_cV (ls := ls) (As := [.int (nI code)]) (rest := []) ⟨hx, hb, hml, hown, hts⟩ (metX6_movers l D cA a st im kp nx li isl mv so la cm ld us bl code (by first | assumption | omega) (by first | assumption | omega) (by first | assumption | omega) (by first | assumption | omega)) (cwX6_movers_X6 hts ⟨Nat.le_of_ble_eq_true rfl, Nat.le_of_ble_eq_true rfl⟩) hP hK hN (va_recv hK hP xc5 (q0 := 0) rfl) rfl hl.1 rfl (Nat.le_of_ble_eq_true rfl) dX6_look_2 ⟨Nat.zero_le _, Nat.zero_le _⟩ ?_
  refine rm_top (y := (nI M)) (by rw [eM]) ?_
  refine lv_istore (lv' := [(4, .int (nI M)), (0, .ref (a 0)), (1, .int (nI code)), (2, .int (nI k)), (3, .int (nI r))]) hx hb dX6_look_5 hl (by decide) rfl (fun ls hl => ?_)
  refine lv_iconst (v := (bI false)) hx hb dX6_look_7 (by decide) ?_
  refine lv_istore (lv' := [(5, .int (bI false)), (4, .int (nI M)), (0, .ref (a 0)), (1, .int (nI code)), (2, .int (nI k)), (3, .int (nI r))]) hx hb dX6_look_8 hl (by decide) rfl (fun ls hl => ?_)
  have join20 : ∀ (H : Heap) (locs : List Loc), va_P D xCl (mW a cA st im kp nx li isl mv so la cm ld us bl) H → va_D A (mW a cA st im kp nx li isl mv so la cm ld us bl) → va_S A s.heap H locs → ∀ (ls : Array Slot), lv_has ls 9 [(5, .int (bI false)), (4, .int (nI M)), (0, .ref (a 0)), (1, .int (nI code)), (2, .int (nI k)), (3, .int (nI r))] → W p l e rmX6_look s m ([.ref (a 0), .int (nI code), .int (nI k), .int (nI r)] : List Value).toArray below meth cd H locs 0 0 Q (F0 m 20 ls [.int (bI (decide (0 < M)))]) := by
    intro   H locs hP hD hS ls hl
    refine lv_istore (lv' := [(6, .int (bI (decide (0 < M)))), (5, .int (bI false)), (4, .int (nI M)), (0, .ref (a 0)), (1, .int (nI code)), (2, .int (nI k)), (3, .int (nI r))]) hx hb dX6_look_20 hl (by decide) rfl (fun ls hl => ?_)
    refine lv_iload hx hb dX6_look_22 (lv_at hl 2 rfl) ?_
    refine lv_ineg hx hb dX6_look_24 ?_
    refine lv_iload hx hb dX6_look_25 (lv_at hl 2 rfl) ?_
    refine lv_iand hx hb dX6_look_27 ?_
    refine rm_top (y := (nI (nxs M 0))) (nxs_neg hM) ?_
    refine lv_istore (lv' := [(7, .int (nI (nxs M 0))), (6, .int (bI (decide (0 < M)))), (5, .int (bI false)), (4, .int (nI M)), (0, .ref (a 0)), (1, .int (nI code)), (2, .int (nI k)), (3, .int (nI r))]) hx hb dX6_look_28 hl (by decide) rfl (fun ls hl => ?_)
    have loop30 : ∀ (N : Nat) (f : Nat) (z : Nat) (sx : Bool) (ex : Bool) (cm2 : Nat → Nat), f < N → (z < 1024) → (sbk M f z = true) → ((sx || lkS (rmS (st 0) code (mv code) k M f z) so (r - 1)) = lkS (scM (st 0) (mv code) k code) so (r - 1)) → ((ex && lkL (rmS (st 0) code (mv code) k M f z) la (r - 1)) = (decide (0 < stS (st 0) (mv code)) && lkL (scM (st 0) (mv code) k code) la (r - 1))) → ∀ (H : Heap) (locs : List Loc), va_P D xCl (mW a cA st im kp nx li isl mv so la cm2 ld us bl) H → va_D A (mW a cA st im kp nx li isl mv so la cm2 ld us bl) → va_S A s.heap H locs → ∀ (ls : Array Slot), lv_has ls 9 [(7, .int (nI z)), (5, .int (bI sx)), (6, .int (bI ex)), (4, .int (nI M)), (0, .ref (a 0)), (1, .int (nI code)), (2, .int (nI k)), (3, .int (nI r))] → W p l e rmX6_look s m ([.ref (a 0), .int (nI code), .int (nI k), .int (nI r)] : List Value).toArray below meth cd H locs 0 0 Q (F0 m 30 ls []) := by
      intro N
      induction N with
      | zero => intro f z sx ex cm2 hm; exact absurd hm (Nat.not_lt_zero _)
      | succ N ih30 =>
        intro f z sx ex cm2 hm30 i30_0 i30_1 i30_2 i30_3 H locs hP hD hS ls hl
        refine lv_iload hx hb dX6_look_30 (lv_at hl 0 rfl) ?_
        refine rm_ieq (tgt := 122) hx hb dX6_look_32 (by decide) (by omega) (fun q32 => ?_) (fun q32 => ?_)
        · skip
          have ex1 : sx = lkS (scM (st 0) (mv code) k code) so (r - 1) := by rw [← i30_2, q32, rmS_0]; exact (Bool.or_false _).symm
          have ex2 : ex = (decide (0 < stS (st 0) (mv code)) && lkL (scM (st 0) (mv code) k code) la (r - 1)) := by rw [← i30_3, q32, rmS_0]; exact (Bool.and_true _).symm
          have join141 : ∀ (H : Heap) (locs : List Loc), va_P D xCl (mW a cA st im kp nx li isl mv so la cm2 ld us bl) H → va_D A (mW a cA st im kp nx li isl mv so la cm2 ld us bl) → va_S A s.heap H locs → ∀ (ls : Array Slot), lv_has ls 9 [(6, .int (bI ex)), (4, .int (nI M)), (0, .ref (a 0)), (1, .int (nI code)), (2, .int (nI k)), (3, .int (nI r))] → W p l e rmX6_look s m ([.ref (a 0), .int (nI code), .int (nI k), .int (nI r)] : List Value).toArray below meth cd H locs 0 0 Q (F0 m 141 ls [.int (bI ((so code).isNone && lkS (scM (st 0) (mv code) k code) so (r - 1)))]) := by
            intro   H locs hP hD hS ls hl
            refine lv_istore (lv' := [(7, .int (bI ((so code).isNone && lkS (scM (st 0) (mv code) k code) so (r - 1)))), (6, .int (bI ex)), (4, .int (nI M)), (0, .ref (a 0)), (1, .int (nI code)), (2, .int (nI k)), (3, .int (nI r))]) hx hb dX6_look_141 hl (by decide) rfl (fun ls hl => ?_)
            have join162 : ∀ (H : Heap) (locs : List Loc), va_P D xCl (mW a cA st im kp nx li isl mv so la cm2 ld us bl) H → va_D A (mW a cA st im kp nx li isl mv so la cm2 ld us bl) → va_S A s.heap H locs → ∀ (ls : Array Slot), lv_has ls 9 [(7, .int (bI ((so code).isNone && lkS (scM (st 0) (mv code) k code) so (r - 1)))), (0, .ref (a 0)), (1, .int (nI code)), (2, .int (nI k)), (3, .int (nI r))] → W p l e rmX6_look s m ([.ref (a 0), .int (nI code), .int (nI k), .int (nI r)] : List Value).toArray below meth cd H locs 0 0 Q (F0 m 162 ls [.int (bI ((la code).isNone && (decide (0 < stS (st 0) (mv code)) && lkL (scM (st 0) (mv code) k code) la (r - 1))))]) := by
              intro   H locs hP hD hS ls hl
              refine lv_istore (lv' := [(8, .int (bI ((la code).isNone && (decide (0 < stS (st 0) (mv code)) && lkL (scM (st 0) (mv code) k code) la (r - 1))))), (7, .int (bI ((so code).isNone && lkS (scM (st 0) (mv code) k code) so (r - 1)))), (0, .ref (a 0)), (1, .int (nI code)), (2, .int (nI k)), (3, .int (nI r))]) hx hb dX6_look_162 hl (by decide) rfl (fun ls hl => ?_)
              refine lv_aload_n hx hb dX6_look_164 rfl (lv_at hl 2 rfl) ?_
              refine va_get (D := D) (ci := 5) (v := .ref (a 9)) (C := RX6) (T := TX6) (N := 14) hx hb hts in_X6 hown hK hP 0 rfl xc5 9 (by decide) (hts _ q649) (fun _ h9 => h9) rfl dX6_look_165 ?_
              refine lv_iload_n hx hb dX6_look_168 rfl (lv_at hl 3 rfl) ?_
              have join184 : ∀ (H : Heap) (locs : List Loc), va_P D xCl (mW a cA st im kp nx li isl mv so la cm2 ld us bl) H → va_D A (mW a cA st im kp nx li isl mv so la cm2 ld us bl) → va_S A s.heap H locs → ∀ (ls : Array Slot), lv_has ls 9 [(8, .int (bI ((la code).isNone && (decide (0 < stS (st 0) (mv code)) && lkL (scM (st 0) (mv code) k code) la (r - 1))))), (7, .int (bI ((so code).isNone && lkS (scM (st 0) (mv code) k code) so (r - 1)))), (0, .ref (a 0)), (1, .int (nI code)), (2, .int (nI k)), (3, .int (nI r))] → W p l e rmX6_look s m ([.ref (a 0), .int (nI code), .int (nI k), .int (nI r)] : List Value).toArray below meth cd H locs 0 0 Q (F0 m 184 ls [.int (oI (if ((so code).isNone && lkS (scM (st 0) (mv code) k code) so (r - 1)) then some r else so code)), .int (nI code), .ref (a 9)]) := by
                intro   H locs hP hD hS ls hl
                refine rm_ost hx hb hK hP hD hS 9 rfl (by omega) (by decide) (ws' := mW a cA st im kp nx li isl mv (va_up so code (if ((so code).isNone && lkS (scM (st 0) (mv code) k code) so (r - 1)) then some r else so code)) la cm2 ld us bl) rfl dX6_look_184 (fun H locs hP hD hS => ?_)
                refine lv_aload_n hx hb dX6_look_185 rfl (lv_at hl 2 rfl) ?_
                refine va_get (D := D) (ci := 5) (v := .ref (a 10)) (C := RX6) (T := TX6) (N := 14) hx hb hts in_X6 hown hK hP 0 rfl xc5 10 (by decide) (hts _ q650) (fun _ h9 => h9) rfl dX6_look_186 ?_
                refine lv_iload_n hx hb dX6_look_189 rfl (lv_at hl 3 rfl) ?_
                have join205 : ∀ (H : Heap) (locs : List Loc), va_P D xCl (mW a cA st im kp nx li isl mv (va_up so code (if ((so code).isNone && lkS (scM (st 0) (mv code) k code) so (r - 1)) then some r else so code)) la cm2 ld us bl) H → va_D A (mW a cA st im kp nx li isl mv (va_up so code (if ((so code).isNone && lkS (scM (st 0) (mv code) k code) so (r - 1)) then some r else so code)) la cm2 ld us bl) → va_S A s.heap H locs → ∀ (ls : Array Slot), lv_has ls 9 [(8, .int (bI ((la code).isNone && (decide (0 < stS (st 0) (mv code)) && lkL (scM (st 0) (mv code) k code) la (r - 1))))), (7, .int (bI ((so code).isNone && lkS (scM (st 0) (mv code) k code) so (r - 1)))), (0, .ref (a 0)), (1, .int (nI code)), (2, .int (nI k)), (3, .int (nI r))] → W p l e rmX6_look s m ([.ref (a 0), .int (nI code), .int (nI k), .int (nI r)] : List Value).toArray below meth cd H locs 0 0 Q (F0 m 205 ls [.int (oI (if ((la code).isNone && (decide (0 < stS (st 0) (mv code)) && lkL (scM (st 0) (mv code) k code) la (r - 1))) then some r else la code)), .int (nI code), .ref (a 10)]) := by
                  intro   H locs hP hD hS ls hl
                  refine rm_ost hx hb hK hP hD hS 10 rfl (by omega) (by decide) (ws' := mW a cA st im kp nx li isl mv (va_up so code (if ((so code).isNone && lkS (scM (st 0) (mv code) k code) so (r - 1)) then some r else so code)) (va_up la code (if ((la code).isNone && (decide (0 < stS (st 0) (mv code)) && lkL (scM (st 0) (mv code) k code) la (r - 1))) then some r else la code)) cm2 ld us bl) rfl dX6_look_205 (fun H locs hP hD hS => ?_)
                  refine lv_iload hx hb dX6_look_206 (lv_at hl 1 rfl) ?_
                  refine rm_bne (tgt := 216) hx hb dX6_look_208 (by decide) (fun q208 => ?_) (fun q208 => ?_)
                  · skip
                    refine lv_iconst (v := (nI 1)) hx hb dX6_look_216 (by decide) ?_
                    refine lv_goto (tgt := 221) hx hb dX6_look_217 (by decide) ?_
                    exact hret true (va_up so code (if ((so code).isNone && lkS (scM (st 0) (mv code) k code) so (r - 1)) then some r else so code), va_up la code (if ((la code).isNone && (decide (0 < stS (st 0) (mv code)) && lkL (scM (st 0) (mv code) k code) la (r - 1))) then some r else la code), cm2) _ _ 221 ls ⟨by rw [q208]; rfl, rfl, rfl⟩ hP hD hS dX6_look_221
                  · skip
                    refine lv_iload hx hb dX6_look_211 (lv_at hl 0 rfl) ?_
                    refine rm_beq (tgt := 220) hx hb dX6_look_213 (by decide) (fun q213 => ?_) (fun q213 => ?_)
                    · skip
                      refine lv_iconst (v := (nI 0)) hx hb dX6_look_220 (by decide) ?_
                      exact hret false (va_up so code (if ((so code).isNone && lkS (scM (st 0) (mv code) k code) so (r - 1)) then some r else so code), va_up la code (if ((la code).isNone && (decide (0 < stS (st 0) (mv code)) && lkL (scM (st 0) (mv code) k code) la (r - 1))) then some r else la code), cm2) _ _ 221 ls ⟨by rw [q208, q213]; rfl, rfl, rfl⟩ hP hD hS dX6_look_221
                    · skip
                      refine lv_iconst (v := (nI 1)) hx hb dX6_look_216 (by decide) ?_
                      refine lv_goto (tgt := 221) hx hb dX6_look_217 (by decide) ?_
                      exact hret true (va_up so code (if ((so code).isNone && lkS (scM (st 0) (mv code) k code) so (r - 1)) then some r else so code), va_up la code (if ((la code).isNone && (decide (0 < stS (st 0) (mv code)) && lkL (scM (st 0) (mv code) k code) la (r - 1))) then some r else la code), cm2) _ _ 221 ls ⟨by rw [q213, Bool.or_true], rfl, rfl⟩ hP hD hS dX6_look_221
                refine lv_iload hx hb dX6_look_190 (lv_at hl 0 rfl) ?_
                refine rm_beq (tgt := 199) hx hb dX6_look_192 (by decide) (fun q192 => ?_) (fun q192 => ?_)
                · skip
                  refine lv_aload_n hx hb dX6_look_199 rfl (lv_at hl 2 rfl) ?_
                  refine va_get (D := D) (ci := 5) (v := .ref (a 10)) (C := RX6) (T := TX6) (N := 14) hx hb hts in_X6 hown hK hP 0 rfl xc5 10 (by decide) (hts _ q650) (fun _ h9 => h9) rfl dX6_look_200 ?_
                  refine lv_iload_n hx hb dX6_look_203 rfl (lv_at hl 3 rfl) ?_
                  refine rm_old hx hb hK hP 10 rfl (by omega) (by decide) dX6_look_204 ?_
                  refine rm_top (y := (oI (if ((la code).isNone && (decide (0 < stS (st 0) (mv code)) && lkL (scM (st 0) (mv code) k code) la (r - 1))) then some r else la code))) (by rw [if_neg (by rw [q192]; decide)]) ?_
                  exact join205   _ _ hP hD hS ls hl
                · skip
                  refine lv_iload_n hx hb dX6_look_195 rfl (lv_at hl 5 rfl) ?_
                  refine lv_goto (tgt := 205) hx hb dX6_look_196 (by decide) ?_
                  refine rm_top (y := (oI (if ((la code).isNone && (decide (0 < stS (st 0) (mv code)) && lkL (scM (st 0) (mv code) k code) la (r - 1))) then some r else la code))) (by rw [if_pos q192]; rfl) ?_
                  exact join205   _ _ hP hD hS ls hl
              refine lv_iload hx hb dX6_look_169 (lv_at hl 1 rfl) ?_
              refine rm_beq (tgt := 178) hx hb dX6_look_171 (by decide) (fun q171 => ?_) (fun q171 => ?_)
              · skip
                refine lv_aload_n hx hb dX6_look_178 rfl (lv_at hl 2 rfl) ?_
                refine va_get (D := D) (ci := 5) (v := .ref (a 9)) (C := RX6) (T := TX6) (N := 14) hx hb hts in_X6 hown hK hP 0 rfl xc5 9 (by decide) (hts _ q649) (fun _ h9 => h9) rfl dX6_look_179 ?_
                refine lv_iload_n hx hb dX6_look_182 rfl (lv_at hl 3 rfl) ?_
                refine rm_old hx hb hK hP 9 rfl (by omega) (by decide) dX6_look_183 ?_
                refine rm_top (y := (oI (if ((so code).isNone && lkS (scM (st 0) (mv code) k code) so (r - 1)) then some r else so code))) (by rw [if_neg (by rw [q171]; decide)]) ?_
                exact join184   _ _ hP hD hS ls hl
              · skip
                refine lv_iload_n hx hb dX6_look_174 rfl (lv_at hl 5 rfl) ?_
                refine lv_goto (tgt := 184) hx hb dX6_look_175 (by decide) ?_
                refine rm_top (y := (oI (if ((so code).isNone && lkS (scM (st 0) (mv code) k code) so (r - 1)) then some r else so code))) (by rw [if_pos q171]; rfl) ?_
                exact join184   _ _ hP hD hS ls hl
            refine lv_aload_n hx hb dX6_look_143 rfl (lv_at hl 3 rfl) ?_
            refine va_get (D := D) (ci := 5) (v := .ref (a 10)) (C := RX6) (T := TX6) (N := 14) hx hb hts in_X6 hown hK hP 0 rfl xc5 10 (by decide) (hts _ q650) (fun _ h9 => h9) rfl dX6_look_144 ?_
            refine lv_iload_n hx hb dX6_look_147 rfl (lv_at hl 4 rfl) ?_
            refine rm_old hx hb hK hP 10 rfl (by omega) (by decide) dX6_look_148 ?_
            refine rm_oge (tgt := 161) hx hb dX6_look_149 (by decide) (hla _) (fun q149 => ?_) (fun q149 => ?_)
            · skip
              refine lv_iconst (v := (nI 0)) hx hb dX6_look_161 (by decide) ?_
              refine rm_top (y := (bI ((la code).isNone && (decide (0 < stS (st 0) (mv code)) && lkL (scM (st 0) (mv code) k code) la (r - 1))))) (by obtain ⟨v, hv⟩ := q149; rw [hv]; rfl) ?_
              exact join162   _ _ hP hD hS ls (lv_sub hl [0, 3, 4, 5, 6] rfl)
            · skip
              refine lv_iload hx hb dX6_look_152 (lv_at hl 1 rfl) ?_
              refine rm_beq (tgt := 161) hx hb dX6_look_154 (by decide) (fun q154 => ?_) (fun q154 => ?_)
              · skip
                refine lv_iconst (v := (nI 0)) hx hb dX6_look_161 (by decide) ?_
                refine rm_top (y := (bI ((la code).isNone && (decide (0 < stS (st 0) (mv code)) && lkL (scM (st 0) (mv code) k code) la (r - 1))))) (by rw [← ex2, q154, Bool.and_false]; rfl) ?_
                exact join162   _ _ hP hD hS ls (lv_sub hl [0, 3, 4, 5, 6] rfl)
              · skip
                refine lv_iconst (v := (nI 1)) hx hb dX6_look_157 (by decide) ?_
                refine lv_goto (tgt := 162) hx hb dX6_look_158 (by decide) ?_
                refine rm_top (y := (bI ((la code).isNone && (decide (0 < stS (st 0) (mv code)) && lkL (scM (st 0) (mv code) k code) la (r - 1))))) (by rw [← ex2, q154, q149]; rfl) ?_
                exact join162   _ _ hP hD hS ls (lv_sub hl [0, 3, 4, 5, 6] rfl)
          refine lv_aload_n hx hb dX6_look_122 rfl (lv_at hl 4 rfl) ?_
          refine va_get (D := D) (ci := 5) (v := .ref (a 9)) (C := RX6) (T := TX6) (N := 14) hx hb hts in_X6 hown hK hP 0 rfl xc5 9 (by decide) (hts _ q649) (fun _ h9 => h9) rfl dX6_look_123 ?_
          refine lv_iload_n hx hb dX6_look_126 rfl (lv_at hl 5 rfl) ?_
          refine rm_old hx hb hK hP 9 rfl (by omega) (by decide) dX6_look_127 ?_
          refine rm_oge (tgt := 140) hx hb dX6_look_128 (by decide) (hso _) (fun q128 => ?_) (fun q128 => ?_)
          · skip
            refine lv_iconst (v := (nI 0)) hx hb dX6_look_140 (by decide) ?_
            refine rm_top (y := (bI ((so code).isNone && lkS (scM (st 0) (mv code) k code) so (r - 1)))) (by obtain ⟨v, hv⟩ := q128; rw [hv]; rfl) ?_
            exact join141   _ _ hP hD hS ls (lv_sub hl [2, 3, 4, 5, 6, 7] rfl)
          · skip
            refine lv_iload hx hb dX6_look_131 (lv_at hl 1 rfl) ?_
            refine rm_beq (tgt := 140) hx hb dX6_look_133 (by decide) (fun q133 => ?_) (fun q133 => ?_)
            · skip
              refine lv_iconst (v := (nI 0)) hx hb dX6_look_140 (by decide) ?_
              refine rm_top (y := (bI ((so code).isNone && lkS (scM (st 0) (mv code) k code) so (r - 1)))) (by rw [← ex1, q133, Bool.and_false]; rfl) ?_
              exact join141   _ _ hP hD hS ls (lv_sub hl [2, 3, 4, 5, 6, 7] rfl)
            · skip
              refine lv_iconst (v := (nI 1)) hx hb dX6_look_136 (by decide) ?_
              refine lv_goto (tgt := 141) hx hb dX6_look_137 (by decide) ?_
              refine rm_top (y := (bI ((so code).isNone && lkS (scM (st 0) (mv code) k code) so (r - 1)))) (by rw [← ex1, q133, q128]; rfl) ?_
              exact join141   _ _ hP hD hS ls (lv_sub hl [2, 3, 4, 5, 6, 7] rfl)
        · skip
          obtain ⟨g, hg1, hg2, hg3⟩ := sbk_next i30_1 q32
          have join109 : ∀ (sy : Bool) (ey : Bool) (cm3 : Nat → Nat), ((sy || lkS (rmS (st 0) code (mv code) k M g (nxs M z)) so (r - 1)) = lkS (scM (st 0) (mv code) k code) so (r - 1)) → ((ey && lkL (rmS (st 0) code (mv code) k M g (nxs M z)) la (r - 1)) = (decide (0 < stS (st 0) (mv code)) && lkL (scM (st 0) (mv code) k code) la (r - 1))) → ∀ (H : Heap) (locs : List Loc), va_P D xCl (mW a cA st im kp nx li isl mv so la cm3 ld us bl) H → va_D A (mW a cA st im kp nx li isl mv so la cm3 ld us bl) → va_S A s.heap H locs → ∀ (ls : Array Slot), lv_has ls 9 [(5, .int (bI sy)), (6, .int (bI ey)), (7, .int (nI z)), (4, .int (nI M)), (0, .ref (a 0)), (1, .int (nI code)), (2, .int (nI k)), (3, .int (nI r))] → W p l e rmX6_look s m ([.ref (a 0), .int (nI code), .int (nI k), .int (nI r)] : List Value).toArray below meth cd H locs 0 0 Q (F0 m 109 ls []) := by
            intro sy ey cm3 i109_0 i109_1 H locs hP hD hS ls hl
            refine lv_iload hx hb dX6_look_109 (lv_at hl 2 rfl) ?_
            refine lv_iload hx hb dX6_look_111 (lv_at hl 3 rfl) ?_
            refine lv_isub hx hb dX6_look_113 ?_
            refine lv_iload hx hb dX6_look_114 (lv_at hl 3 rfl) ?_
            refine lv_iand hx hb dX6_look_116 ?_
            refine rm_top (y := (nI (nxs M z))) (nxs_I hM) ?_
            refine lv_istore (lv' := [(7, .int (nI (nxs M z))), (5, .int (bI sy)), (6, .int (bI ey)), (4, .int (nI M)), (0, .ref (a 0)), (1, .int (nI code)), (2, .int (nI k)), (3, .int (nI r))]) hx hb dX6_look_117 hl (by decide) rfl (fun ls hl => ?_)
            refine lv_goto (tgt := 30) hx hb dX6_look_119 (by decide) ?_
            exact ih30 g _ _ _ _ (by omega) (Nat.lt_of_le_of_lt (nxs_le M z) hM) hg2 i109_0 i109_1 _ _ hP hD hS ls hl
          refine lv_iload_n hx hb dX6_look_35 rfl (lv_at hl 6 rfl) ?_
          refine lv_iload hx hb dX6_look_36 (lv_at hl 0 rfl) ?_
          refine lv_iload hx hb dX6_look_38 (lv_at hl 3 rfl) ?_
          refine rm_cS (ls := ls) (As := [.int (nI k), .int (nI z), .int (nI M)]) (rest := []) ⟨hx, hb, hml, hown, hts⟩ (metX6_mayBe l k z M (by first | assumption | omega) (by first | assumption | omega) (by first | assumption | omega) (by first | assumption | omega)) (cwX6_mayBe_X6 hts ⟨Nat.le_of_ble_eq_true rfl, Nat.le_of_ble_eq_true rfl⟩) noB rfl hl.1 rfl (Nat.le_of_ble_eq_true rfl) dX6_look_40 ⟨Nat.zero_le _, Nat.zero_le _⟩ ?_
          refine rm_beq (tgt := 109) hx hb dX6_look_43 (by decide) (fun q43 => ?_) (fun q43 => ?_)
          · skip
            exact join109 _ _ _ (by rw [← i30_2, rmS_f hg3 q43]) (by rw [← i30_3, rmS_f hg3 q43]) _ _ hP hD hS ls (lv_sub hl [1, 2, 0, 3, 4, 5, 6, 7] rfl)
          · skip
            refine lv_aload_n hx hb dX6_look_46 rfl (lv_at hl 4 rfl) ?_
            refine lv_iload_n hx hb dX6_look_47 rfl (lv_at hl 5 rfl) ?_
            refine lv_iload hx hb dX6_look_48 (lv_at hl 0 rfl) ?_
            refine mu_aVi (ls := ls) (As := [.int (nI code), .int (nI z)]) (rest := []) ⟨hx, hb, hml, hown, hts⟩ (metX6_behindStep l D cA a st im kp nx li isl mv so la cm2 ld us bl code z (by first | assumption | omega) (by first | assumption | omega) (by first | assumption | omega) (by first | assumption | omega) (by first | assumption | omega)) (cwX6_behindStep_X6 hts ⟨Nat.le_of_ble_eq_true rfl, Nat.le_of_ble_eq_true rfl⟩) hP hD hS hA hK hN (va_recv hK hP xc5 (q0 := 0) rfl) rfl hl.1 rfl (Nat.le_of_ble_eq_true rfl) dX6_look_50 ⟨Nat.zero_le _, Nat.zero_le _⟩ (fun r50_1 u1 H locs w1 hP hD hS => ?_)
            obtain ⟨cm_1, e1⟩ : ∃ z, z = u1 := ⟨_, rfl⟩
            subst e1
            have hP : va_P D xCl (mW a cA st im kp nx li isl mv so la cm_1 ld us bl) H := hP
            have hD : va_D A (mW a cA st im kp nx li isl mv so la cm_1 ld us bl) := hD
            have er1 := w1
            subst er1
            obtain ⟨to, eto⟩ : ∃ y, y = bstep (st 0) code (mv code) z := ⟨_, rfl⟩
            have hto : to < 59049 := by rw [eto]; exact Nat.lt_of_lt_of_le (bstep_lt _ _ _ _) (p3_le hn10)
            refine rm_top (y := (nI to)) (by rw [eto]) ?_
            refine lv_istore (lv' := [(8, .int (nI to)), (7, .int (nI z)), (5, .int (bI sx)), (6, .int (bI ex)), (4, .int (nI M)), (0, .ref (a 0)), (1, .int (nI code)), (2, .int (nI k)), (3, .int (nI r))]) hx hb dX6_look_53 hl (by decide) rfl (fun ls hl => ?_)
            have join78 : ∀ (H : Heap) (locs : List Loc), va_P D xCl (mW a cA st im kp nx li isl mv so la cm_1 ld us bl) H → va_D A (mW a cA st im kp nx li isl mv so la cm_1 ld us bl) → va_S A s.heap H locs → ∀ (ls : Array Slot), lv_has ls 9 [(8, .int (nI to)), (7, .int (nI z)), (6, .int (bI ex)), (4, .int (nI M)), (0, .ref (a 0)), (1, .int (nI code)), (2, .int (nI k)), (3, .int (nI r))] → W p l e rmX6_look s m ([.ref (a 0), .int (nI code), .int (nI k), .int (nI r)] : List Value).toArray below meth cd H locs 0 0 Q (F0 m 78 ls [.int (bI (sx || decide (so to = some (r - 1))))]) := by
              intro   H locs hP hD hS ls hl
              refine lv_istore (lv' := [(5, .int (bI (sx || decide (so to = some (r - 1))))), (8, .int (nI to)), (7, .int (nI z)), (6, .int (bI ex)), (4, .int (nI M)), (0, .ref (a 0)), (1, .int (nI code)), (2, .int (nI k)), (3, .int (nI r))]) hx hb dX6_look_78 hl (by decide) rfl (fun ls hl => ?_)
              have join107 : ∀ (H : Heap) (locs : List Loc), va_P D xCl (mW a cA st im kp nx li isl mv so la cm_1 ld us bl) H → va_D A (mW a cA st im kp nx li isl mv so la cm_1 ld us bl) → va_S A s.heap H locs → ∀ (ls : Array Slot), lv_has ls 9 [(5, .int (bI (sx || decide (so to = some (r - 1))))), (7, .int (nI z)), (4, .int (nI M)), (0, .ref (a 0)), (1, .int (nI code)), (2, .int (nI k)), (3, .int (nI r))] → W p l e rmX6_look s m ([.ref (a 0), .int (nI code), .int (nI k), .int (nI r)] : List Value).toArray below meth cd H locs 0 0 Q (F0 m 107 ls [.int (bI (ex && (la to).any (fun v => decide (v ≤ r - 1))))]) := by
                intro   H locs hP hD hS ls hl
                refine lv_istore (lv' := [(6, .int (bI (ex && (la to).any (fun v => decide (v ≤ r - 1))))), (5, .int (bI (sx || decide (so to = some (r - 1))))), (7, .int (nI z)), (4, .int (nI M)), (0, .ref (a 0)), (1, .int (nI code)), (2, .int (nI k)), (3, .int (nI r))]) hx hb dX6_look_107 hl (by decide) rfl (fun ls hl => ?_)
                exact join109 _ _ _ (by rw [← i30_2, rmS_t hg3 q43, ← eto]; show _ = (sx || (_ || _)); rw [Bool.or_assoc]; rfl) (by rw [← i30_3, rmS_t hg3 q43, ← eto]; show _ = (ex && (_ && _)); rw [Bool.and_assoc]; rfl) _ _ hP hD hS ls (lv_sub hl [1, 0, 2, 3, 4, 5, 6, 7] rfl)
              refine lv_iload hx hb dX6_look_80 (lv_at hl 3 rfl) ?_
              refine rm_beq (tgt := 106) hx hb dX6_look_82 (by decide) (fun q82 => ?_) (fun q82 => ?_)
              · skip
                refine lv_iconst (v := (nI 0)) hx hb dX6_look_106 (by decide) ?_
                refine rm_top (y := (bI (ex && (la to).any (fun v => decide (v ≤ r - 1))))) (by rw [q82]; rfl) ?_
                exact join107   _ _ hP hD hS ls (lv_sub hl [0, 2, 4, 5, 6, 7, 8] rfl)
              · skip
                refine lv_aload_n hx hb dX6_look_85 rfl (lv_at hl 5 rfl) ?_
                refine va_get (D := D) (ci := 5) (v := .ref (a 10)) (C := RX6) (T := TX6) (N := 14) hx hb hts in_X6 hown hK hP 0 rfl xc5 10 (by decide) (hts _ q650) (fun _ h9 => h9) rfl dX6_look_86 ?_
                refine lv_iload hx hb dX6_look_89 (lv_at hl 1 rfl) ?_
                refine rm_old hx hb hK hP 10 rfl (by omega) (by decide) dX6_look_91 ?_
                refine lv_iconst (v := (nI 0)) hx hb dX6_look_92 (by decide) ?_
                refine lv_iload_n hx hb dX6_look_93 rfl (lv_at hl 8 rfl) ?_
                refine lv_iconst (v := (nI 1)) hx hb dX6_look_94 (by decide) ?_
                refine rm_isub hx hb dX6_look_95 (by omega) ?_
                refine rm_cS (ls := ls) (As := [.int (oI (la to)), .int (nI 0), .int (nI (r - 1))]) (rest := []) ⟨hx, hb, hml, hown, hts⟩ (metX6_in l (oI (la to)) (nI 0) (nI (r - 1)) ) (cwX6_in_X6 hts ⟨Nat.le_of_ble_eq_true rfl, Nat.le_of_ble_eq_true rfl⟩) noB rfl hl.1 rfl (Nat.le_of_ble_eq_true rfl) dX6_look_96 ⟨Nat.zero_le _, Nat.zero_le _⟩ ?_
                refine rm_beq (tgt := 106) hx hb dX6_look_99 (by decide) (fun q99 => ?_) (fun q99 => ?_)
                · skip
                  refine lv_iconst (v := (nI 0)) hx hb dX6_look_106 (by decide) ?_
                  refine rm_top (y := (bI (ex && (la to).any (fun v => decide (v ≤ r - 1))))) (by rw [← inI_oI (hla _) (by omega), show inI 0 (r - 1) (oI (la to)) = false from q99, Bool.and_false]; rfl) ?_
                  exact join107   _ _ hP hD hS ls (lv_sub hl [0, 2, 4, 5, 6, 7, 8] rfl)
                · skip
                  refine lv_iconst (v := (nI 1)) hx hb dX6_look_102 (by decide) ?_
                  refine lv_goto (tgt := 107) hx hb dX6_look_103 (by decide) ?_
                  refine rm_top (y := (bI (ex && (la to).any (fun v => decide (v ≤ r - 1))))) (by rw [← inI_oI (hla _) (by omega), show inI 0 (r - 1) (oI (la to)) = true from q99, q82]; rfl) ?_
                  exact join107   _ _ hP hD hS ls (lv_sub hl [0, 2, 4, 5, 6, 7, 8] rfl)
            refine lv_iload hx hb dX6_look_55 (lv_at hl 2 rfl) ?_
            refine rm_bne (tgt := 73) hx hb dX6_look_57 (by decide) (fun q57 => ?_) (fun q57 => ?_)
            · skip
              refine lv_iconst (v := (nI 1)) hx hb dX6_look_73 (by decide) ?_
              refine lv_goto (tgt := 78) hx hb dX6_look_74 (by decide) ?_
              refine rm_top (y := (bI (sx || decide (so to = some (r - 1))))) (by rw [q57]; rfl) ?_
              exact join78   _ _ hP hD hS ls (lv_sub hl [0, 1, 3, 4, 5, 6, 7, 8] rfl)
            · skip
              refine lv_aload_n hx hb dX6_look_60 rfl (lv_at hl 5 rfl) ?_
              refine va_get (D := D) (ci := 5) (v := .ref (a 9)) (C := RX6) (T := TX6) (N := 14) hx hb hts in_X6 hown hK hP 0 rfl xc5 9 (by decide) (hts _ q649) (fun _ h9 => h9) rfl dX6_look_61 ?_
              refine lv_iload hx hb dX6_look_64 (lv_at hl 0 rfl) ?_
              refine rm_old hx hb hK hP 9 rfl (by omega) (by decide) dX6_look_66 ?_
              refine lv_iload_n hx hb dX6_look_67 rfl (lv_at hl 8 rfl) ?_
              refine lv_iconst (v := (nI 1)) hx hb dX6_look_68 (by decide) ?_
              refine rm_isub hx hb dX6_look_69 (by omega) ?_
              refine lv_icmp_ne (tgt := 77) hx hb dX6_look_70 (by decide) (fun q70 => ?_) (fun q70 => ?_)
              · skip
                refine lv_iconst (v := (nI 0)) hx hb dX6_look_77 (by decide) ?_
                refine rm_top (y := (bI (sx || decide (so to = some (r - 1))))) (by rw [q57, decide_eq_false (fun h => q70 ((oI_eqn (hso _) (by omega)).mpr h))]; rfl) ?_
                exact join78   _ _ hP hD hS ls (lv_sub hl [0, 1, 3, 4, 5, 6, 7, 8] rfl)
              · skip
                refine lv_iconst (v := (nI 1)) hx hb dX6_look_73 (by decide) ?_
                refine lv_goto (tgt := 78) hx hb dX6_look_74 (by decide) ?_
                refine rm_top (y := (bI (sx || decide (so to = some (r - 1))))) (by rw [decide_eq_true ((oI_eqn (hso _) (by omega)).mp q70), Bool.or_true]; rfl) ?_
                exact join78   _ _ hP hD hS ls (lv_sub hl [0, 1, 3, 4, 5, 6, 7, 8] rfl)
    exact loop30 _ 1024 _ _ _ _ (Nat.lt_succ_self _) (Nat.lt_of_le_of_lt (nxs_le M 0) hM) (sbk_all M hM) (by rw [eM]; rfl) (by rw [eM]; rfl) _ _ hP hD hS ls (lv_sub hl [0, 2, 1, 3, 4, 5, 6, 7] rfl)
  refine lv_iload hx hb dX6_look_10 (lv_at hl 1 rfl) ?_
  refine rm_ieq (tgt := 19) hx hb dX6_look_12 (by decide) (by omega) (fun q12 => ?_) (fun q12 => ?_)
  · skip
    refine lv_iconst (v := (nI 0)) hx hb dX6_look_19 (by decide) ?_
    refine rm_top (y := (bI (decide (0 < M)))) (by rw [decide_eq_false (by omega)]; rfl) ?_
    exact join20   _ _ hP hD hS ls hl
  · skip
    refine lv_iconst (v := (nI 1)) hx hb dX6_look_15 (by decide) ?_
    refine lv_goto (tgt := 20) hx hb dX6_look_16 (by decide) ?_
    refine rm_top (y := (bI (decide (0 < M)))) (by rw [decide_eq_true q12]; rfl) ?_
    exact join20   _ _ hP hD hS ls hl
theorem cwX6_look_X6 {R : Room} {s : State} {args : Array Value} (hts : ∀ w ∈ lw_all, w.before args s = true) (hR : (rmX6_look).frames + 1 ≤ R.frames ∧ 8 + (9 + 11) + (rmX6_look).locals ≤ R.locals) : CallW R s args RX6 RX6 158 yX6_look cX6_look 9 (some .boolean) (ws_ yX6_look cX6_look 9 (some .boolean)) rmX6_look 0 0 3 := cwV 3 hts (lw_V q858 q860 qs51 q63 q861) rfl rfl rfl (by decide +kernel) hR
abbrev rmX6_layRound : Room := { frames := 4, cells := 0, slots := 0, locals := 96 }
set_option maxHeartbeats 4000000 in
theorem metX6_layRound (l : Launch) (D : va_G) (cA : Nat → ClassId) (a : Nat → Nat) (st im : Nat → Nat) (kp : Nat → Bool) (nx li : Nat → Nat) (isl : Nat → Bool) (mv : Nat → Nat) (so la : Nat → Option Nat) (cm : Nat → Nat) (ld us : Nat) (bl : Bool) (k q : Nat) (r : Nat) (L : List Nat) (hn3 : 3 ≤ st 0) (hn10 : st 0 ≤ 10) (hq : q = r + 1) (hk : k < 3) (hr2 : r < 2 ^ 30) (hMR : MR (st 0) (st 11) (rS st) bl L li isl mv ld us) (hnd : L.Nodup) (hcl : ∀ c ∈ L, ∀ d ∈ sucs (st 0) (st 11) (rS st) bl k c, d ∈ L) (hok : ∀ c ∈ L, c < 59049) (hlen : L.length ≤ 4000) (hmv : ∀ c, mv c < 2 ^ 31) (hsv : ∀ c ∈ L, so c = sv (sucs (st 0) (st 11) (rS st) bl k) (met (st 0)) r c) (hlv : ∀ c ∈ L, la c = lv (sucs (st 0) (st 11) (rS st) bl k) (met (st 0)) r c) (hso : ∀ c v, so c = some v → v < 2 ^ 31) (hla : ∀ c v, la c = some v → v < 2 ^ 31) : MUi l yX6_layRound cX6_layRound 6 (some .boolean) rmX6_layRound [.ref (a 0), .int (nI k), .int (nI q)] D cA (mW a cA st im kp nx li isl mv so la cm ld us bl) (fun (res_ : Int32) (uu_ : (Nat → Option Nat) × (Nat → Option Nat) × (Nat → Nat)) => res_ = (bI (anyP (fun j => chS (sucs (st 0) (st 11) (rS st) bl k) (met (st 0)) r (L.getD j 0) || chL (sucs (st 0) (st 11) (rS st) bl k) (met (st 0)) r (L.getD j 0)) L.length)) ∧ (∀ c ∈ L, uu_.1 c = sv (sucs (st 0) (st 11) (rS st) bl k) (met (st 0)) (r + 1) c) ∧ (∀ c ∈ L, uu_.2.1 c = lv (sucs (st 0) (st 11) (rS st) bl k) (met (st 0)) (r + 1) c) ∧ (∀ c v, uu_.1 c = some v → v < 2 ^ 31) ∧ (∀ c v, uu_.2.1 c = some v → v < 2 ^ 31)) (fun (uu_ : (Nat → Option Nat) × (Nat → Option Nat) × (Nat → Nat)) => mW a cA st im kp nx li isl mv uu_.1 uu_.2.1 uu_.2.2 ld us bl) 0 0 := by
  refine mu_bool rfl (Nat.le_of_ble_eq_true rfl) ?_
  intro p e s m below meth cd Q ls A hx hb hml hown hts hP hK hN hD hA hl hret
  have hown : s.vm.findClass RX6 = some m.cls := hown
  have hS : va_S A s.heap s.heap [] := va_S.rf
  have hl : lv_has ls 6 [(0, .ref (a 0)), (1, .int (nI k)), (2, .int (nI q))] := hl
  have hld := hMR.1
  subst hq
  refine lv_iconst (v := (bI false)) hx hb dX6_layRound_0 (by decide) ?_
  refine lv_istore_n (lv' := [(3, .int (bI false)), (0, .ref (a 0)), (1, .int (nI k)), (2, .int (nI (r + 1)))]) hx hb dX6_layRound_1 rfl hl (by decide) rfl (fun ls hl => ?_)
  refine lv_iconst (v := (nI 0)) hx hb dX6_layRound_2 (by decide) ?_
  refine lv_istore (lv' := [(4, .int (nI 0)), (3, .int (bI false)), (0, .ref (a 0)), (1, .int (nI k)), (2, .int (nI (r + 1)))]) hx hb dX6_layRound_3 hl (by decide) rfl (fun ls hl => ?_)
  have loop5 : ∀ (N : Nat) (i : Nat) (sx : Nat → Option Nat) (lx : Nat → Option Nat) (cx : Nat → Nat), L.length - i < N → (i ≤ L.length) → (∀ j, j < L.length → sx (L.getD j 0) = if j < i then sv (sucs (st 0) (st 11) (rS st) bl k) (met (st 0)) (r + 1) (L.getD j 0) else sv (sucs (st 0) (st 11) (rS st) bl k) (met (st 0)) r (L.getD j 0)) → (∀ j, j < L.length → lx (L.getD j 0) = if j < i then lv (sucs (st 0) (st 11) (rS st) bl k) (met (st 0)) (r + 1) (L.getD j 0) else lv (sucs (st 0) (st 11) (rS st) bl k) (met (st 0)) r (L.getD j 0)) → (∀ c v, sx c = some v → v < 2 ^ 31) → (∀ c v, lx c = some v → v < 2 ^ 31) → ∀ (H : Heap) (locs : List Loc), va_P D xCl (mW a cA st im kp nx li isl mv sx lx cx ld us bl) H → va_D A (mW a cA st im kp nx li isl mv sx lx cx ld us bl) → va_S A s.heap H locs → ∀ (ls : Array Slot), lv_has ls 6 [(4, .int (nI i)), (3, .int (bI (anyP (fun j => chS (sucs (st 0) (st 11) (rS st) bl k) (met (st 0)) r (L.getD j 0) || chL (sucs (st 0) (st 11) (rS st) bl k) (met (st 0)) r (L.getD j 0)) i))), (0, .ref (a 0)), (1, .int (nI k)), (2, .int (nI (r + 1)))] → W p l e rmX6_layRound s m ([.ref (a 0), .int (nI k), .int (nI (r + 1))] : List Value).toArray below meth cd H locs 0 0 Q (F0 m 5 ls []) := by
    intro N
    induction N with
    | zero => intro i sx lx cx hm; exact absurd hm (Nat.not_lt_zero _)
    | succ N ih5 =>
      intro i sx lx cx hm5 i5_0 i5_1 i5_2 i5_3 i5_4 H locs hP hD hS ls hl
      refine lv_iload hx hb dX6_layRound_5 (lv_at hl 0 rfl) ?_
      refine lv_aload_n hx hb dX6_layRound_7 rfl (lv_at hl 2 rfl) ?_
      refine va_get (D := D) (ci := 5) (v := .int (nI ld)) (C := RX6) (T := TX6) (N := 14) hx hb hts in_X6 hown hK hP 0 rfl xc5 6 (by decide) (hts _ q646) (fun _ h9 => h9) rfl dX6_layRound_8 ?_
      refine rm_cge (tgt := 70) hx hb dX6_layRound_11 (by decide) (by omega) (by omega) (fun q11 => ?_) (fun q11 => ?_)
      · skip
        refine lv_iload_n hx hb dX6_layRound_70 rfl (lv_at hl 1 rfl) ?_
        exact hret (anyP (fun j => chS (sucs (st 0) (st 11) (rS st) bl k) (met (st 0)) r (L.getD j 0) || chL (sucs (st 0) (st 11) (rS st) bl k) (met (st 0)) r (L.getD j 0)) i) (sx, lx, cx) _ _ 71 ls ⟨by rw [show i = L.length by omega], fun c hc => by obtain ⟨j, hj, rfl⟩ := mem_getD hc; show sx _ = _; rw [i5_1 j hj, if_pos (by omega)], fun c hc => by obtain ⟨j, hj, rfl⟩ := mem_getD hc; show lx _ = _; rw [i5_2 j hj, if_pos (by omega)], i5_3, i5_4⟩ hP hD hS dX6_layRound_71
      · skip
        refine lv_aload_n hx hb dX6_layRound_14 rfl (lv_at hl 2 rfl) ?_
        refine va_get (D := D) (ci := 5) (v := .ref (a 6)) (C := RX6) (T := TX6) (N := 14) hx hb hts in_X6 hown hK hP 0 rfl xc5 5 (by decide) (hts _ q645) (fun _ h9 => h9) rfl dX6_layRound_15 ?_
        refine lv_iload hx hb dX6_layRound_18 (lv_at hl 0 rfl) ?_
        refine rm_nld hx hb hK hP 6 rfl (by omega) (by decide) dX6_layRound_20 ?_
        have hi : i < L.length := by omega
        have eci : li i = L.getD i 0 := hMR.2.1 i hi
        have hci := getD_mem hi
        have hc5 := hok _ hci
        have esi : sx (L.getD i 0) = sv (sucs (st 0) (st 11) (rS st) bl k) (met (st 0)) r (L.getD i 0) := by rw [i5_1 i hi, if_neg (Nat.lt_irrefl i)]
        have eli : lx (L.getD i 0) = lv (sucs (st 0) (st 11) (rS st) bl k) (met (st 0)) r (L.getD i 0) := by rw [i5_2 i hi, if_neg (Nat.lt_irrefl i)]
        have hdS : ∀ d ∈ sucs (st 0) (st 11) (rS st) bl k (L.getD i 0), sx d = sv (sucs (st 0) (st 11) (rS st) bl k) (met (st 0)) r d ∨ sx d = sv (sucs (st 0) (st 11) (rS st) bl k) (met (st 0)) (r + 1) d := fun d hd => by obtain ⟨j, hj, rfl⟩ := mem_getD (hcl _ hci d hd); rw [i5_1 j hj]; split; exact Or.inr rfl; exact Or.inl rfl
        have hdL : ∀ d ∈ sucs (st 0) (st 11) (rS st) bl k (L.getD i 0), lx d = lv (sucs (st 0) (st 11) (rS st) bl k) (met (st 0)) r d ∨ lx d = lv (sucs (st 0) (st 11) (rS st) bl k) (met (st 0)) (r + 1) d := fun d hd => by obtain ⟨j, hj, rfl⟩ := mem_getD (hcl _ hci d hd); rw [i5_2 j hj]; split; exact Or.inr rfl; exact Or.inl rfl
        have escm : scM (st 0) (mv (L.getD i 0)) k (L.getD i 0) = sucs (st 0) (st 11) (rS st) bl k (L.getD i 0) := scM_sucs (hMR.2.2.2.1 _ hci)
        have ehS : ((sx (L.getD i 0)).isNone && lkS (scM (st 0) (mv (L.getD i 0)) k (L.getD i 0)) sx ((r + 1) - 1)) = chS (sucs (st 0) (st 11) (rS st) bl k) (met (st 0)) r (L.getD i 0) := by rw [escm, Nat.add_sub_cancel]; exact lk_S esi hdS
        have ehL : ((lx (L.getD i 0)).isNone && (decide (0 < stS (st 0) (mv (L.getD i 0))) && lkL (scM (st 0) (mv (L.getD i 0)) k (L.getD i 0)) lx ((r + 1) - 1))) = chL (sucs (st 0) (st 11) (rS st) bl k) (met (st 0)) r (L.getD i 0) := by rw [scM_empty (code := L.getD i 0) hk hn10, escm, Nat.add_sub_cancel]; exact lk_L rfl eli hdL
        refine rm_top (y := (nI (L.getD i 0))) (by rw [eci]) ?_
        refine lv_istore (lv' := [(5, .int (nI (L.getD i 0))), (4, .int (nI i)), (3, .int (bI (anyP (fun j => chS (sucs (st 0) (st 11) (rS st) bl k) (met (st 0)) r (L.getD j 0) || chL (sucs (st 0) (st 11) (rS st) bl k) (met (st 0)) r (L.getD j 0)) i))), (0, .ref (a 0)), (1, .int (nI k)), (2, .int (nI (r + 1)))]) hx hb dX6_layRound_21 hl (by decide) rfl (fun ls hl => ?_)
        have join64 : ∀ (sy : Nat → Option Nat) (ly : Nat → Option Nat) (cy : Nat → Nat), (∀ j, j < L.length → sy (L.getD j 0) = if j < (i + 1) then sv (sucs (st 0) (st 11) (rS st) bl k) (met (st 0)) (r + 1) (L.getD j 0) else sv (sucs (st 0) (st 11) (rS st) bl k) (met (st 0)) r (L.getD j 0)) → (∀ j, j < L.length → ly (L.getD j 0) = if j < (i + 1) then lv (sucs (st 0) (st 11) (rS st) bl k) (met (st 0)) (r + 1) (L.getD j 0) else lv (sucs (st 0) (st 11) (rS st) bl k) (met (st 0)) r (L.getD j 0)) → (∀ c v, sy c = some v → v < 2 ^ 31) → (∀ c v, ly c = some v → v < 2 ^ 31) → ∀ (H : Heap) (locs : List Loc), va_P D xCl (mW a cA st im kp nx li isl mv sy ly cy ld us bl) H → va_D A (mW a cA st im kp nx li isl mv sy ly cy ld us bl) → va_S A s.heap H locs → ∀ (ls : Array Slot), lv_has ls 6 [(3, .int (bI (anyP (fun j => chS (sucs (st 0) (st 11) (rS st) bl k) (met (st 0)) r (L.getD j 0) || chL (sucs (st 0) (st 11) (rS st) bl k) (met (st 0)) r (L.getD j 0)) (i + 1)))), (4, .int (nI i)), (0, .ref (a 0)), (1, .int (nI k)), (2, .int (nI (r + 1)))] → W p l e rmX6_layRound s m ([.ref (a 0), .int (nI k), .int (nI (r + 1))] : List Value).toArray below meth cd H locs 0 0 Q (F0 m 64 ls []) := by
          intro sy ly cy i64_0 i64_1 i64_2 i64_3 H locs hP hD hS ls hl
          refine lv_iinc (v := (nI (i + 1))) (lv' := [(4, .int (nI (i + 1))), (3, .int (bI (anyP (fun j => chS (sucs (st 0) (st 11) (rS st) bl k) (met (st 0)) r (L.getD j 0) || chL (sucs (st 0) (st 11) (rS st) bl k) (met (st 0)) r (L.getD j 0)) (i + 1)))), (0, .ref (a 0)), (1, .int (nI k)), (2, .int (nI (r + 1)))]) hx hb dX6_layRound_64 hl (k := 1) rfl (rm_inc i 1) (by decide) rfl (fun ls hl => ?_)
          refine lv_goto (tgt := 5) hx hb dX6_layRound_67 (by decide) ?_
          exact ih5 (i + 1) _ _ _ (by omega) (by omega) i64_0 i64_1 i64_2 i64_3 _ _ hP hD hS ls hl
        have join43 : ∀ (H : Heap) (locs : List Loc), va_P D xCl (mW a cA st im kp nx li isl mv sx lx cx ld us bl) H → va_D A (mW a cA st im kp nx li isl mv sx lx cx ld us bl) → va_S A s.heap H locs → ∀ (ls : Array Slot), lv_has ls 6 [(5, .int (nI (L.getD i 0))), (4, .int (nI i)), (3, .int (bI (anyP (fun j => chS (sucs (st 0) (st 11) (rS st) bl k) (met (st 0)) r (L.getD j 0) || chL (sucs (st 0) (st 11) (rS st) bl k) (met (st 0)) r (L.getD j 0)) i))), (0, .ref (a 0)), (1, .int (nI k)), (2, .int (nI (r + 1)))] → W p l e rmX6_layRound s m ([.ref (a 0), .int (nI k), .int (nI (r + 1))] : List Value).toArray below meth cd H locs 0 0 Q (F0 m 43 ls []) := by
          intro   H locs hP hD hS ls hl
          refine lv_aload_n hx hb dX6_layRound_43 rfl (lv_at hl 3 rfl) ?_
          refine lv_iload hx hb dX6_layRound_44 (lv_at hl 0 rfl) ?_
          refine lv_iload_n hx hb dX6_layRound_46 rfl (lv_at hl 4 rfl) ?_
          refine lv_iload_n hx hb dX6_layRound_47 rfl (lv_at hl 5 rfl) ?_
          refine mu_aVi (ls := ls) (As := [.int (nI (L.getD i 0)), .int (nI k), .int (nI (r + 1))]) (rest := []) ⟨hx, hb, hml, hown, hts⟩ (metX6_look l D cA a st im kp nx li isl mv sx lx cx ld us bl (L.getD i 0) k (r + 1) (by first | assumption | omega) (by first | assumption | omega) hc5 hk (by omega) (by omega) (hmv _) i5_3 i5_4) (cwX6_look_X6 hts ⟨Nat.le_of_ble_eq_true rfl, Nat.le_of_ble_eq_true rfl⟩) hP hD hS hA hK hN (va_recv hK hP xc5 (q0 := 0) rfl) rfl hl.1 rfl (Nat.le_of_ble_eq_true rfl) dX6_layRound_48 ⟨Nat.zero_le _, Nat.zero_le _⟩ (fun r48_1 u1 H locs w1 hP hD hS => ?_)
          obtain ⟨so_1, la_1, cm_1⟩ := u1
          try dsimp only at w1
          have hP : va_P D xCl (mW a cA st im kp nx li isl mv so_1 la_1 cm_1 ld us bl) H := hP
          have hD : va_D A (mW a cA st im kp nx li isl mv so_1 la_1 cm_1 ld us bl) := hD
          obtain ⟨er1, w1⟩ := w1
          subst er1
          obtain ⟨e1, f1⟩ := w1
          rw [ehS] at e1
          rw [ehL] at f1
          have hs5 : ∀ j, j < L.length → so_1 (L.getD j 0) = if j < (i + 1) then sv (sucs (st 0) (st 11) (rS st) bl k) (met (st 0)) (r + 1) (L.getD j 0) else sv (sucs (st 0) (st 11) (rS st) bl k) (met (st 0)) r (L.getD j 0) := fun j h => by rw [e1]; unfold va_up; by_cases q : L.getD j 0 = L.getD i 0; (have e9 : j = i := nodup_getD hnd h hi q; subst e9; rw [if_pos q, if_pos (show j < j + 1 by omega), sv_succ, i5_1 j hi, if_neg (Nat.lt_irrefl j)]); (have e9 : j ≠ i := fun e => q (by rw [e]); rw [if_neg q, i5_1 j h]; by_cases e2 : j < i; (rw [if_pos e2, if_pos (by omega)]); (rw [if_neg e2, if_neg (by omega)]))
          have hl5 : ∀ j, j < L.length → la_1 (L.getD j 0) = if j < (i + 1) then lv (sucs (st 0) (st 11) (rS st) bl k) (met (st 0)) (r + 1) (L.getD j 0) else lv (sucs (st 0) (st 11) (rS st) bl k) (met (st 0)) r (L.getD j 0) := fun j h => by rw [f1]; unfold va_up; by_cases q : L.getD j 0 = L.getD i 0; (have e9 : j = i := nodup_getD hnd h hi q; subst e9; rw [if_pos q, if_pos (show j < j + 1 by omega), lv_succ, i5_2 j hi, if_neg (Nat.lt_irrefl j)]); (have e9 : j ≠ i := fun e => q (by rw [e]); rw [if_neg q, i5_2 j h]; by_cases e2 : j < i; (rw [if_pos e2, if_pos (by omega)]); (rw [if_neg e2, if_neg (by omega)]))
          have hs6 : ∀ c v, so_1 c = some v → v < 2 ^ 31 := by rw [e1]; exact va_up_bd i5_3 (fun v h => by split at h; (cases h; omega); exact i5_3 _ v h)
          have hl6 : ∀ c v, la_1 c = some v → v < 2 ^ 31 := by rw [f1]; exact va_up_bd i5_4 (fun v h => by split at h; (cases h; omega); exact i5_4 _ v h)
          have join63 : ∀ (H : Heap) (locs : List Loc), va_P D xCl (mW a cA st im kp nx li isl mv so_1 la_1 cm_1 ld us bl) H → va_D A (mW a cA st im kp nx li isl mv so_1 la_1 cm_1 ld us bl) → va_S A s.heap H locs → ∀ (ls : Array Slot), lv_has ls 6 [(4, .int (nI i)), (0, .ref (a 0)), (1, .int (nI k)), (2, .int (nI (r + 1)))] → W p l e rmX6_layRound s m ([.ref (a 0), .int (nI k), .int (nI (r + 1))] : List Value).toArray below meth cd H locs 0 0 Q (F0 m 63 ls [.int (bI (anyP (fun j => chS (sucs (st 0) (st 11) (rS st) bl k) (met (st 0)) r (L.getD j 0) || chL (sucs (st 0) (st 11) (rS st) bl k) (met (st 0)) r (L.getD j 0)) (i + 1)))]) := by
            intro   H locs hP hD hS ls hl
            refine lv_istore_n (lv' := [(3, .int (bI (anyP (fun j => chS (sucs (st 0) (st 11) (rS st) bl k) (met (st 0)) r (L.getD j 0) || chL (sucs (st 0) (st 11) (rS st) bl k) (met (st 0)) r (L.getD j 0)) (i + 1)))), (4, .int (nI i)), (0, .ref (a 0)), (1, .int (nI k)), (2, .int (nI (r + 1)))]) hx hb dX6_layRound_63 rfl hl (by decide) rfl (fun ls hl => ?_)
            exact join64 _ _ _ hs5 hl5 hs6 hl6 _ _ hP hD hS ls hl
          refine rm_top (y := (bI (chS (sucs (st 0) (st 11) (rS st) bl k) (met (st 0)) r (L.getD i 0) || chL (sucs (st 0) (st 11) (rS st) bl k) (met (st 0)) r (L.getD i 0)))) (by rw [ehS, ehL]) ?_
          refine rm_bne (tgt := 58) hx hb dX6_layRound_51 (by decide) (fun q51 => ?_) (fun q51 => ?_)
          · skip
            refine lv_iconst (v := (nI 1)) hx hb dX6_layRound_58 (by decide) ?_
            refine lv_goto (tgt := 63) hx hb dX6_layRound_59 (by decide) ?_
            refine rm_top (y := (bI (anyP (fun j => chS (sucs (st 0) (st 11) (rS st) bl k) (met (st 0)) r (L.getD j 0) || chL (sucs (st 0) (st 11) (rS st) bl k) (met (st 0)) r (L.getD j 0)) (i + 1)))) (by show _ = bI ((chS (sucs (st 0) (st 11) (rS st) bl k) (met (st 0)) r (L.getD i 0) || chL (sucs (st 0) (st 11) (rS st) bl k) (met (st 0)) r (L.getD i 0)) || _); rw [q51]; rfl) ?_
            exact join63   _ _ hP hD hS ls (lv_sub hl [1, 3, 4, 5] rfl)
          · skip
            refine lv_iload_n hx hb dX6_layRound_54 rfl (lv_at hl 2 rfl) ?_
            refine rm_beq (tgt := 62) hx hb dX6_layRound_55 (by decide) (fun q55 => ?_) (fun q55 => ?_)
            · skip
              refine lv_iconst (v := (nI 0)) hx hb dX6_layRound_62 (by decide) ?_
              refine rm_top (y := (bI (anyP (fun j => chS (sucs (st 0) (st 11) (rS st) bl k) (met (st 0)) r (L.getD j 0) || chL (sucs (st 0) (st 11) (rS st) bl k) (met (st 0)) r (L.getD j 0)) (i + 1)))) (by show _ = bI ((chS (sucs (st 0) (st 11) (rS st) bl k) (met (st 0)) r (L.getD i 0) || chL (sucs (st 0) (st 11) (rS st) bl k) (met (st 0)) r (L.getD i 0)) || _); rw [q51, q55]; rfl) ?_
              exact join63   _ _ hP hD hS ls (lv_sub hl [1, 3, 4, 5] rfl)
            · skip
              refine lv_iconst (v := (nI 1)) hx hb dX6_layRound_58 (by decide) ?_
              refine lv_goto (tgt := 63) hx hb dX6_layRound_59 (by decide) ?_
              refine rm_top (y := (bI (anyP (fun j => chS (sucs (st 0) (st 11) (rS st) bl k) (met (st 0)) r (L.getD j 0) || chL (sucs (st 0) (st 11) (rS st) bl k) (met (st 0)) r (L.getD j 0)) (i + 1)))) (by show _ = bI ((chS (sucs (st 0) (st 11) (rS st) bl k) (met (st 0)) r (L.getD i 0) || chL (sucs (st 0) (st 11) (rS st) bl k) (met (st 0)) r (L.getD i 0)) || _); rw [q55, Bool.or_true]; rfl) ?_
              exact join63   _ _ hP hD hS ls (lv_sub hl [1, 3, 4, 5] rfl)
        refine lv_aload_n hx hb dX6_layRound_23 rfl (lv_at hl 3 rfl) ?_
        refine va_get (D := D) (ci := 5) (v := .ref (a 9)) (C := RX6) (T := TX6) (N := 14) hx hb hts in_X6 hown hK hP 0 rfl xc5 9 (by decide) (hts _ q649) (fun _ h9 => h9) rfl dX6_layRound_24 ?_
        refine lv_iload hx hb dX6_layRound_27 (lv_at hl 0 rfl) ?_
        refine rm_old hx hb hK hP 9 rfl (by omega) (by decide) dX6_layRound_29 ?_
        refine rm_olt (tgt := 43) hx hb dX6_layRound_30 (by decide) (i5_3 _) (fun q30 => ?_) (fun q30 => ?_)
        · skip
          exact join43   _ _ hP hD hS ls hl
        · skip
          refine lv_aload_n hx hb dX6_layRound_33 rfl (lv_at hl 3 rfl) ?_
          refine va_get (D := D) (ci := 5) (v := .ref (a 10)) (C := RX6) (T := TX6) (N := 14) hx hb hts in_X6 hown hK hP 0 rfl xc5 10 (by decide) (hts _ q650) (fun _ h9 => h9) rfl dX6_layRound_34 ?_
          refine lv_iload hx hb dX6_layRound_37 (lv_at hl 0 rfl) ?_
          refine rm_old hx hb hK hP 10 rfl (by omega) (by decide) dX6_layRound_39 ?_
          refine rm_oge (tgt := 64) hx hb dX6_layRound_40 (by decide) (i5_4 _) (fun q40 => ?_) (fun q40 => ?_)
          · skip
            have hS0 : chS (sucs (st 0) (st 11) (rS st) bl k) (met (st 0)) r (L.getD i 0) = false := by unfold chS; rw [← esi, q30.choose_spec]; rfl
            have hL0 : chL (sucs (st 0) (st 11) (rS st) bl k) (met (st 0)) r (L.getD i 0) = false := by unfold chL; rw [← eli, q40.choose_spec]; rfl
            have ean : anyP (fun j => chS (sucs (st 0) (st 11) (rS st) bl k) (met (st 0)) r (L.getD j 0) || chL (sucs (st 0) (st 11) (rS st) bl k) (met (st 0)) r (L.getD j 0)) i = anyP (fun j => chS (sucs (st 0) (st 11) (rS st) bl k) (met (st 0)) r (L.getD j 0) || chL (sucs (st 0) (st 11) (rS st) bl k) (met (st 0)) r (L.getD j 0)) (i + 1) := by show _ = ((chS (sucs (st 0) (st 11) (rS st) bl k) (met (st 0)) r (L.getD i 0) || chL (sucs (st 0) (st 11) (rS st) bl k) (met (st 0)) r (L.getD i 0)) || _); rw [hS0, hL0]; rfl
            rw [ean] at hl
            exact join64 _ _ _ (fun j h => by rw [i5_1 j h]; by_cases e : j = i; (rw [e, if_neg (by omega), if_pos (by omega), sv_succ, if_neg (by rw [hS0]; decide)]); (by_cases e2 : j < i; (rw [if_pos e2, if_pos (by omega)]); (rw [if_neg e2, if_neg (by omega)]))) (fun j h => by rw [i5_2 j h]; by_cases e : j = i; (rw [e, if_neg (by omega), if_pos (by omega), lv_succ, if_neg (by rw [hL0]; decide)]); (by_cases e2 : j < i; (rw [if_pos e2, if_pos (by omega)]); (rw [if_neg e2, if_neg (by omega)]))) i5_3 i5_4 _ _ hP hD hS ls (lv_sub hl [2, 1, 3, 4, 5] rfl)
          · skip
            exact join43   _ _ hP hD hS ls hl
  exact loop5 _ 0 _ _ _ (Nat.lt_succ_self _) (Nat.zero_le _) (fun j h => by rw [if_neg (by omega)]; exact hsv _ (getD_mem h)) (fun j h => by rw [if_neg (by omega)]; exact hlv _ (getD_mem h)) hso hla _ _ hP hD hS ls hl
theorem cwX6_layRound_X6 {R : Room} {s : State} {args : Array Value} (hts : ∀ w ∈ lw_all, w.before args s = true) (hR : (rmX6_layRound).frames + 1 ≤ R.frames ∧ 8 + (6 + 11) + (rmX6_layRound).locals ≤ R.locals) : CallW R s args RX6 RX6 155 yX6_layRound cX6_layRound 6 (some .boolean) (ws_ yX6_layRound cX6_layRound 6 (some .boolean)) rmX6_layRound 0 0 2 := cwV 2 hts (lw_V q854 q856 qs50 q63 q857) rfl rfl rfl (by decide +kernel) hR
