set_option maxRecDepth 100000

abbrev rmX6_listAll : Room := { frames := 9, cells := 0, slots := 0, locals := 220 }
set_option maxHeartbeats 4000000 in
theorem metX6_listAll (l : Launch) (D : va_G) (cA : Nat → ClassId) (a : Nat → Nat) (st im : Nat → Nat) (kp : Nat → Bool) (nx li : Nat → Nat) (isl : Nat → Bool) (mv : Nat → Nat) (so la : Nat → Option Nat) (cm : Nat → Nat) (ld us : Nat) (bl : Bool) (k : Nat) (L0 : List Nat) (hn3 : 3 ≤ st 0) (hn10 : st 0 ≤ 10) (hst : ∀ j, st j < 2 ^ 31) (hm : st 11 ≤ 10) (hru : ∀ r, r < st 11 → rS st r 5 ≤ 2) (hk : k < 3) (hMR : MR (st 0) (st 11) (rS st) bl L0 li isl mv ld us) (hnd0 : L0.Nodup) (hok0 : ∀ c ∈ L0, okc (st 0) c) (hmvB : ∀ c, mv c < 59049) (hso : ∀ c v, so c = some v → v < 2 ^ 31) (hla : ∀ c v, la c = some v → v < 2 ^ 31) : MUv l yX6_listAll cX6_listAll 6 none rmX6_listAll [.ref (a 0), .int (nI k)] D cA (mW a cA st im kp nx li isl mv so la cm ld us bl) (fun (uu_ : (Nat → Nat) × (Nat → Bool) × (Nat → Nat) × (Nat → Option Nat) × (Nat → Option Nat) × (Nat → Nat) × (Nat) × (Nat)) => (∃ L, exF (sucs (st 0) (st 11) (rS st) bl k) L0 L ∧ MR (st 0) (st 11) (rS st) bl L uu_.1 uu_.2.1 uu_.2.2.1 uu_.2.2.2.2.2.2.1 uu_.2.2.2.2.2.2.2 ∧ SPs (sucs (st 0) (st 11) (rS st) bl k) (met (st 0)) L uu_.2.2.2.1 ∧ LPs (sucs (st 0) (st 11) (rS st) bl k) (met (st 0)) L uu_.2.2.2.2.1 ∧ (∀ c, uu_.2.2.1 c < 59049) ∧ (∀ c v, uu_.2.2.2.1 c = some v → v < 2 ^ 31) ∧ (∀ c v, uu_.2.2.2.2.1 c = some v → v < 2 ^ 31))) (fun (uu_ : (Nat → Nat) × (Nat → Bool) × (Nat → Nat) × (Nat → Option Nat) × (Nat → Option Nat) × (Nat → Nat) × (Nat) × (Nat)) => mW a cA st im kp nx uu_.1 uu_.2.1 uu_.2.2.1 uu_.2.2.2.1 uu_.2.2.2.2.1 uu_.2.2.2.2.2.1 uu_.2.2.2.2.2.2.1 uu_.2.2.2.2.2.2.2 bl) 0 0 := by
  refine mu_void rfl (Nat.le_of_ble_eq_true rfl) ?_
  intro p e s m below meth cd Q ls A hx hb hml hown hname hts hP hK hN hD hA hl hret
  have hown : s.vm.findClass RX6 = some m.cls := hown
  have hS : va_S A s.heap s.heap [] := va_S.rf
  have hl : lv_has ls 6 [(0, .ref (a 0)), (1, .int (nI k))] := hl
  refine lv_iconst (v := (nI 0)) hx hb dX6_listAll_0 (by decide) ?_
  refine lv_istore_n (lv' := [(2, .int (nI 0)), (0, .ref (a 0)), (1, .int (nI k))]) hx hb dX6_listAll_1 rfl hl (by decide) rfl (fun ls hl => ?_)
  have loop2 : ∀ (N : Nat) (i : Nat) (li2 : Nat → Nat) (isl2 : Nat → Bool) (mv2 : Nat → Nat) (so2 : Nat → Option Nat) (la2 : Nat → Option Nat) (cm2 : Nat → Nat) (ld2 : Nat) (us2 : Nat), 4001 - i < N → (exG (sucs (st 0) (st 11) (rS st) bl k) L0 i) → (MR (st 0) (st 11) (rS st) bl (exL (sucs (st 0) (st 11) (rS st) bl k) L0 i) li2 isl2 mv2 ld2 us2) → (∀ j, j < i → so2 ((exL (sucs (st 0) (st 11) (rS st) bl k) L0 i).getD j 0) = lvl0 (met (st 0)) ((exL (sucs (st 0) (st 11) (rS st) bl k) L0 i).getD j 0)) → (∀ j, j < i → la2 ((exL (sucs (st 0) (st 11) (rS st) bl k) L0 i).getD j 0) = lvl0 (met (st 0)) ((exL (sucs (st 0) (st 11) (rS st) bl k) L0 i).getD j 0)) → (∀ c, mv2 c < 59049) → (∀ c v, so2 c = some v → v < 2 ^ 31) → (∀ c v, la2 c = some v → v < 2 ^ 31) → (i ≤ (exL (sucs (st 0) (st 11) (rS st) bl k) L0 i).length) → ∀ (H : Heap) (locs : List Loc), va_P D xCl (mW a cA st im kp nx li2 isl2 mv2 so2 la2 cm2 ld2 us2 bl) H → va_D A (mW a cA st im kp nx li2 isl2 mv2 so2 la2 cm2 ld2 us2 bl) → va_S A s.heap H locs → ∀ (ls : Array Slot), lv_has ls 6 [(2, .int (nI i)), (0, .ref (a 0)), (1, .int (nI k))] → W p l e rmX6_listAll s m ([.ref (a 0), .int (nI k)] : List Value).toArray below meth cd H locs 0 0 Q (F0 m 2 ls []) := by
    intro N
    induction N with
    | zero => intro i li2 isl2 mv2 so2 la2 cm2 ld2 us2 hm; exact absurd hm (Nat.not_lt_zero _)
    | succ N ih2 =>
      intro i li2 isl2 mv2 so2 la2 cm2 ld2 us2 hm2 i2_0 i2_1 i2_2 i2_3 i2_4 i2_5 i2_6 i2_7 H locs hP hD hS ls hl
      have hE := exL_ok (P := okc (st 0)) hnd0 hok0 (sucs_okc (many := st 11) (ru := rS st) (bl := bl) (k := k) (by omega)) i2_0
      have hlenE := okc_len hn10 hE.1 hE.2
      have hldE := i2_1.1
      refine lv_iload_n hx hb dX6_listAll_2 rfl (lv_at hl 0 rfl) ?_
      refine lv_aload_n hx hb dX6_listAll_3 rfl (lv_at hl 1 rfl) ?_
      refine va_get (D := D) (ci := 5) (v := .int (nI ld2)) (C := RX6) (T := TX6) (N := 14) hx hb hts in_X6 hown hK hP 0 rfl xc5 6 (by decide) (hts _ q646) (fun _ h9 => h9) rfl dX6_listAll_4 ?_
      refine rm_cge (tgt := 110) hx hb dX6_listAll_7 (by decide) (by omega) (by omega) (fun q7 => ?_) (fun q7 => ?_)
      · skip
        obtain ⟨L, eLL⟩ : ∃ y, y = exL (sucs (st 0) (st 11) (rS st) bl k) L0 i := ⟨_, rfl⟩
        have hlen5 : L.length = i := by rw [eLL]; omega
        have hF : exF (sucs (st 0) (st 11) (rS st) bl k) L0 L := ⟨i, eLL, by omega, i2_0⟩
        rw [← eLL] at i2_1 i2_2 i2_3 hE hlenE
        have hcl : ∀ c ∈ L, ∀ d ∈ sucs (st 0) (st 11) (rS st) bl k c, d ∈ L := fun c hc d hd => exF_closed hF hc hd
        have hs0 : ∀ c ∈ L, so2 c = sv (sucs (st 0) (st 11) (rS st) bl k) (met (st 0)) 0 c := fun c hc => by obtain ⟨j, hj, rfl⟩ := mem_getD hc; exact i2_2 j (by omega)
        have hl0 : ∀ c ∈ L, la2 c = lv (sucs (st 0) (st 11) (rS st) bl k) (met (st 0)) 0 c := fun c hc => by obtain ⟨j, hj, rfl⟩ := mem_getD hc; exact i2_3 j (by omega)
        refine lv_iconst (v := (bI true)) hx hb dX6_listAll_110 (by decide) ?_
        refine lv_istore_n (lv' := [(2, .int (bI true)), (0, .ref (a 0)), (1, .int (nI k))]) hx hb dX6_listAll_111 rfl hl (by decide) rfl (fun ls hl => ?_)
        refine lv_iconst (v := (nI 1)) hx hb dX6_listAll_112 (by decide) ?_
        refine lv_istore_n (lv' := [(3, .int (nI 1)), (2, .int (bI true)), (0, .ref (a 0)), (1, .int (nI k))]) hx hb dX6_listAll_113 rfl hl (by decide) rfl (fun ls hl => ?_)
        have loop114 : ∀ (N : Nat) (r : Nat) (more : Bool) (s3 : Nat → Option Nat) (l3 : Nat → Option Nat) (c3 : Nat → Nat), (if more = true then nN L (sv (sucs (st 0) (st 11) (rS st) bl k) (met (st 0)) r) + nN L (lv (sucs (st 0) (st 11) (rS st) bl k) (met (st 0)) r) + 1 else 0) < N → (∀ c ∈ L, s3 c = sv (sucs (st 0) (st 11) (rS st) bl k) (met (st 0)) r c) → (∀ c ∈ L, l3 c = lv (sucs (st 0) (st 11) (rS st) bl k) (met (st 0)) r c) → (∀ c v, s3 c = some v → v < 2 ^ 31) → (∀ c v, l3 c = some v → v < 2 ^ 31) → (r + (if more = true then nN L (sv (sucs (st 0) (st 11) (rS st) bl k) (met (st 0)) r) + nN L (lv (sucs (st 0) (st 11) (rS st) bl k) (met (st 0)) r) + 1 else 0) ≤ 8002) → (more = false → SPs (sucs (st 0) (st 11) (rS st) bl k) (met (st 0)) L s3 ∧ LPs (sucs (st 0) (st 11) (rS st) bl k) (met (st 0)) L l3) → ∀ (H : Heap) (locs : List Loc), va_P D xCl (mW a cA st im kp nx li2 isl2 mv2 s3 l3 c3 ld2 us2 bl) H → va_D A (mW a cA st im kp nx li2 isl2 mv2 s3 l3 c3 ld2 us2 bl) → va_S A s.heap H locs → ∀ (ls : Array Slot), lv_has ls 6 [(2, .int (bI more)), (3, .int (nI (r + 1))), (0, .ref (a 0)), (1, .int (nI k))] → W p l e rmX6_listAll s m ([.ref (a 0), .int (nI k)] : List Value).toArray below meth cd H locs 0 0 Q (F0 m 114 ls []) := by
          intro N
          induction N with
          | zero => intro r more s3 l3 c3 hm; exact absurd hm (Nat.not_lt_zero _)
          | succ N ih114 =>
            intro r more s3 l3 c3 hm114 i114_0 i114_1 i114_2 i114_3 i114_4 i114_5 H locs hP hD hS ls hl
            refine lv_iload_n hx hb dX6_listAll_114 rfl (lv_at hl 0 rfl) ?_
            refine rm_beq (tgt := 131) hx hb dX6_listAll_115 (by decide) (fun q115 => ?_) (fun q115 => ?_)
            · skip
              exact hret (li2, isl2, mv2, s3, l3, c3, ld2, us2) _ _ 131 ls ⟨L, hF, i2_1, (i114_5 q115).1, (i114_5 q115).2, i2_4, i114_2, i114_3⟩ hP hD hS dX6_listAll_131
            · skip
              rw [q115, if_pos rfl] at i114_4 hm114
              refine lv_aload_n hx hb dX6_listAll_118 rfl (lv_at hl 2 rfl) ?_
              refine lv_iload_n hx hb dX6_listAll_119 rfl (lv_at hl 3 rfl) ?_
              refine lv_iload_n hx hb dX6_listAll_120 rfl (lv_at hl 1 rfl) ?_
              refine mu_aVi (ls := ls) (As := [.int (nI k), .int (nI (r + 1))]) (rest := []) ⟨hx, hb, hml, hown, hts⟩ (metX6_layRound l D cA a st im kp nx li2 isl2 mv2 s3 l3 c3 ld2 us2 bl k (r + 1) r L (by first | assumption | omega) (by first | assumption | omega) rfl (by first | assumption | omega) (by omega) i2_1 hE.1 hcl (fun c hc => okc_lt hn10 (hE.2 c hc)) hlenE (fun c => Nat.lt_trans (i2_4 c) (by decide)) i114_0 i114_1 i114_2 i114_3) (cwX6_layRound_X6 hts ⟨Nat.le_of_ble_eq_true rfl, Nat.le_of_ble_eq_true rfl⟩) hP hD hS hA hK hN (va_recv hK hP xc5 (q0 := 0) rfl) rfl hl.1 rfl (Nat.le_of_ble_eq_true rfl) dX6_listAll_121 ⟨Nat.zero_le _, Nat.zero_le _⟩ (fun r121_1 u1 H locs w1 hP hD hS => ?_)
              obtain ⟨so_1, la_1, cm_1⟩ := u1
              try dsimp only at w1
              have hP : va_P D xCl (mW a cA st im kp nx li2 isl2 mv2 so_1 la_1 cm_1 ld2 us2 bl) H := hP
              have hD : va_D A (mW a cA st im kp nx li2 isl2 mv2 so_1 la_1 cm_1 ld2 us2 bl) := hD
              obtain ⟨er1, w1⟩ := w1
              subst er1
              have w5 := w1
              have hmeas : (if anyP (fun j => chS (sucs (st 0) (st 11) (rS st) bl k) (met (st 0)) r (L.getD j 0) || chL (sucs (st 0) (st 11) (rS st) bl k) (met (st 0)) r (L.getD j 0)) L.length = true then nN L (sv (sucs (st 0) (st 11) (rS st) bl k) (met (st 0)) (r + 1)) + nN L (lv (sucs (st 0) (st 11) (rS st) bl k) (met (st 0)) (r + 1)) + 1 else 0) < N := by split; (rename_i h9; have h8 := rd_lt (rd_any (P := (fun c => chS (sucs (st 0) (st 11) (rS st) bl k) (met (st 0)) r c || chL (sucs (st 0) (st 11) (rS st) bl k) (met (st 0)) r c)) h9); omega); omega
              have hb5 : (r + 1) + (if anyP (fun j => chS (sucs (st 0) (st 11) (rS st) bl k) (met (st 0)) r (L.getD j 0) || chL (sucs (st 0) (st 11) (rS st) bl k) (met (st 0)) r (L.getD j 0)) L.length = true then nN L (sv (sucs (st 0) (st 11) (rS st) bl k) (met (st 0)) (r + 1)) + nN L (lv (sucs (st 0) (st 11) (rS st) bl k) (met (st 0)) (r + 1)) + 1 else 0) ≤ 8002 := by split; (rename_i h9; have h8 := rd_lt (rd_any (P := (fun c => chS (sucs (st 0) (st 11) (rS st) bl k) (met (st 0)) r c || chL (sucs (st 0) (st 11) (rS st) bl k) (met (st 0)) r c)) h9); omega); omega
              refine lv_istore_n (lv' := [(2, .int (bI (anyP (fun j => chS (sucs (st 0) (st 11) (rS st) bl k) (met (st 0)) r (L.getD j 0) || chL (sucs (st 0) (st 11) (rS st) bl k) (met (st 0)) r (L.getD j 0)) L.length))), (3, .int (nI (r + 1))), (0, .ref (a 0)), (1, .int (nI k))]) hx hb dX6_listAll_124 rfl hl (by decide) rfl (fun ls hl => ?_)
              refine lv_iinc (v := (nI ((r + 1) + 1))) (lv' := [(3, .int (nI ((r + 1) + 1))), (2, .int (bI (anyP (fun j => chS (sucs (st 0) (st 11) (rS st) bl k) (met (st 0)) r (L.getD j 0) || chL (sucs (st 0) (st 11) (rS st) bl k) (met (st 0)) r (L.getD j 0)) L.length))), (0, .ref (a 0)), (1, .int (nI k))]) hx hb dX6_listAll_125 hl (k := 1) rfl (rm_inc (r + 1) 1) (by decide) rfl (fun ls hl => ?_)
              refine lv_goto (tgt := 114) hx hb dX6_listAll_128 (by decide) ?_
              exact ih114 (r + 1) _ _ _ _ hmeas w5.1 w5.2.1 w5.2.2.1 w5.2.2.2 hb5 (fun h => rd_end hcl (rd_none (P := (fun c => chS (sucs (st 0) (st 11) (rS st) bl k) (met (st 0)) r c || chL (sucs (st 0) (st 11) (rS st) bl k) (met (st 0)) r c)) h) w5.1 w5.2.1) _ _ hP hD hS ls (lv_sub hl [1, 0, 2, 3] rfl)
        exact loop114 _ 0 true _ _ _ (Nat.lt_succ_self _) hs0 hl0 i2_5 i2_6 (by have h1 := nN_len L (sv (sucs (st 0) (st 11) (rS st) bl k) (met (st 0)) 0); have h2 := nN_len L (lv (sucs (st 0) (st 11) (rS st) bl k) (met (st 0)) 0); rw [if_pos rfl]; omega) (fun h => by cases h) _ _ hP hD hS ls (lv_sub hl [1, 0, 2, 3] rfl)
      · skip
        have hi : i < (exL (sucs (st 0) (st 11) (rS st) bl k) L0 i).length := by omega
        refine lv_aload_n hx hb dX6_listAll_10 rfl (lv_at hl 1 rfl) ?_
        refine va_get (D := D) (ci := 5) (v := .ref (a 6)) (C := RX6) (T := TX6) (N := 14) hx hb hts in_X6 hown hK hP 0 rfl xc5 5 (by decide) (hts _ q645) (fun _ h9 => h9) rfl dX6_listAll_11 ?_
        refine lv_iload_n hx hb dX6_listAll_14 rfl (lv_at hl 0 rfl) ?_
        refine rm_nld hx hb hK hP 6 rfl (by omega) (by decide) dX6_listAll_15 ?_
        obtain ⟨code, ecode⟩ : ∃ y, y = (exL (sucs (st 0) (st 11) (rS st) bl k) L0 i).getD i 0 := ⟨_, rfl⟩
        have eli : li2 i = code := by rw [ecode]; exact i2_1.2.1 i hi
        have hci : code ∈ exL (sucs (st 0) (st 11) (rS st) bl k) L0 i := by rw [ecode]; exact getD_mem hi
        have hco := hE.2 code hci
        have hc5 := okc_lt hn10 hco
        have hmc : mv2 code = mvC (st 0) (st 11) (rS st) bl code := i2_1.2.2.2.1 code hci
        obtain ⟨M, eM⟩ : ∃ y, y = stS (st 0) (mvC (st 0) (st 11) (rS st) bl code) := ⟨_, rfl⟩
        have hM : M < 1024 := by rw [eM]; exact stS_lt hn10 _
        refine rm_top (y := (nI code)) (by rw [eli]) ?_
        refine lv_istore_n (lv' := [(3, .int (nI code)), (2, .int (nI i)), (0, .ref (a 0)), (1, .int (nI k))]) hx hb dX6_listAll_16 rfl hl (by decide) rfl (fun ls hl => ?_)
        refine lv_aload_n hx hb dX6_listAll_17 rfl (lv_at hl 2 rfl) ?_
        refine lv_iload_n hx hb dX6_listAll_18 rfl (lv_at hl 0 rfl) ?_
        refine rm_cV (ls := ls) (As := [.int (nI code)]) (rest := []) ⟨hx, hb, hml, hown, hts⟩ (metX6_movers l D cA a st im kp nx li2 isl2 mv2 so2 la2 cm2 ld2 us2 bl code (by first | assumption | omega) (by first | assumption | omega) hc5 (Nat.lt_trans (i2_4 _) (by decide))) (cwX6_movers_X6 hts ⟨Nat.le_of_ble_eq_true rfl, Nat.le_of_ble_eq_true rfl⟩) hP hK hN (va_recv hK hP xc5 (q0 := 0) rfl) rfl hl.1 rfl (Nat.le_of_ble_eq_true rfl) dX6_listAll_19 ⟨Nat.zero_le _, Nat.zero_le _⟩ ?_
        refine rm_top (y := (nI M)) (by rw [eM, hmc]) ?_
        refine lv_istore (lv' := [(4, .int (nI M)), (3, .int (nI code)), (2, .int (nI i)), (0, .ref (a 0)), (1, .int (nI k))]) hx hb dX6_listAll_22 hl (by decide) rfl (fun ls hl => ?_)
        refine lv_iload hx hb dX6_listAll_24 (lv_at hl 0 rfl) ?_
        refine lv_ineg hx hb dX6_listAll_26 ?_
        refine lv_iload hx hb dX6_listAll_27 (lv_at hl 0 rfl) ?_
        refine lv_iand hx hb dX6_listAll_29 ?_
        refine rm_top (y := (nI (nxs M 0))) (nxs_neg hM) ?_
        refine lv_istore (lv' := [(5, .int (nI (nxs M 0))), (4, .int (nI M)), (3, .int (nI code)), (2, .int (nI i)), (0, .ref (a 0)), (1, .int (nI k))]) hx hb dX6_listAll_30 hl (by decide) rfl (fun ls hl => ?_)
        have loop32 : ∀ (N : Nat) (f : Nat) (z : Nat) (Lc : List Nat) (li3 : Nat → Nat) (isl3 : Nat → Bool) (mv3 : Nat → Nat) (cm3 : Nat → Nat) (ld3 : Nat) (us3 : Nat), f < N → (z < 1024) → (sbk M f z = true) → (MR (st 0) (st 11) (rS st) bl Lc li3 isl3 mv3 ld3 us3) → (Lc.Nodup) → (∀ c ∈ Lc, okc (st 0) c) → (exL (sucs (st 0) (st 11) (rS st) bl k) L0 i <+: Lc) → ((rmS (st 0) code (mvC (st 0) (st 11) (rS st) bl code) k M f z).foldl noteL Lc = exL (sucs (st 0) (st 11) (rS st) bl k) L0 (i + 1)) → (∀ c, mv3 c < 59049) → ∀ (H : Heap) (locs : List Loc), va_P D xCl (mW a cA st im kp nx li3 isl3 mv3 so2 la2 cm3 ld3 us3 bl) H → va_D A (mW a cA st im kp nx li3 isl3 mv3 so2 la2 cm3 ld3 us3 bl) → va_S A s.heap H locs → ∀ (ls : Array Slot), lv_has ls 6 [(5, .int (nI z)), (4, .int (nI M)), (3, .int (nI code)), (2, .int (nI i)), (0, .ref (a 0)), (1, .int (nI k))] → W p l e rmX6_listAll s m ([.ref (a 0), .int (nI k)] : List Value).toArray below meth cd H locs 0 0 Q (F0 m 32 ls []) := by
          intro N
          induction N with
          | zero => intro f z Lc li3 isl3 mv3 cm3 ld3 us3 hm; exact absurd hm (Nat.not_lt_zero _)
          | succ N ih32 =>
            intro f z Lc li3 isl3 mv3 cm3 ld3 us3 hm32 i32_0 i32_1 i32_2 i32_3 i32_4 i32_5 i32_6 i32_7 H locs hP hD hS ls hl
            refine lv_iload hx hb dX6_listAll_32 (lv_at hl 0 rfl) ?_
            refine rm_ieq (tgt := 72) hx hb dX6_listAll_34 (by decide) (by omega) (fun q34 => ?_) (fun q34 => ?_)
            · skip
              have eL : Lc = exL (sucs (st 0) (st 11) (rS st) bl k) L0 (i + 1) := by have q := i32_6; rw [q34, rmS_0] at q; exact q
              refine lv_aload_n hx hb dX6_listAll_72 rfl (lv_at hl 4 rfl) ?_
              refine va_get (D := D) (ci := 5) (v := .ref (a 9)) (C := RX6) (T := TX6) (N := 14) hx hb hts in_X6 hown hK hP 0 rfl xc5 9 (by decide) (hts _ q649) (fun _ h9 => h9) rfl dX6_listAll_73 ?_
              refine lv_iload_n hx hb dX6_listAll_76 rfl (lv_at hl 2 rfl) ?_
              have join91 : ∀ (H : Heap) (locs : List Loc), va_P D xCl (mW a cA st im kp nx li3 isl3 mv3 so2 la2 cm3 ld3 us3 bl) H → va_D A (mW a cA st im kp nx li3 isl3 mv3 so2 la2 cm3 ld3 us3 bl) → va_S A s.heap H locs → ∀ (ls : Array Slot), lv_has ls 6 [(5, .int (nI z)), (4, .int (nI M)), (3, .int (nI code)), (2, .int (nI i)), (0, .ref (a 0)), (1, .int (nI k))] → W p l e rmX6_listAll s m ([.ref (a 0), .int (nI k)] : List Value).toArray below meth cd H locs 0 0 Q (F0 m 91 ls [.int (oI (lvl0 (met (st 0)) code)), .int (nI code), .ref (a 9)]) := by
                intro   H locs hP hD hS ls hl
                refine rm_ost hx hb hK hP hD hS 9 rfl (by omega) (by decide) (ws' := mW a cA st im kp nx li3 isl3 mv3 (va_up so2 code (lvl0 (met (st 0)) code)) la2 cm3 ld3 us3 bl) rfl dX6_listAll_91 (fun H locs hP hD hS => ?_)
                refine lv_aload_n hx hb dX6_listAll_92 rfl (lv_at hl 4 rfl) ?_
                refine va_get (D := D) (ci := 5) (v := .ref (a 10)) (C := RX6) (T := TX6) (N := 14) hx hb hts in_X6 hown hK hP 0 rfl xc5 10 (by decide) (hts _ q650) (fun _ h9 => h9) rfl dX6_listAll_93 ?_
                refine lv_iload_n hx hb dX6_listAll_96 rfl (lv_at hl 2 rfl) ?_
                refine lv_aload_n hx hb dX6_listAll_97 rfl (lv_at hl 4 rfl) ?_
                refine va_get (D := D) (ci := 5) (v := .ref (a 9)) (C := RX6) (T := TX6) (N := 14) hx hb hts in_X6 hown hK hP 0 rfl xc5 9 (by decide) (hts _ q649) (fun _ h9 => h9) rfl dX6_listAll_98 ?_
                refine lv_iload_n hx hb dX6_listAll_101 rfl (lv_at hl 2 rfl) ?_
                refine rm_old hx hb hK hP 9 rfl (by omega) (by decide) dX6_listAll_102 ?_
                refine rm_top (y := (oI (lvl0 (met (st 0)) code))) (by rw [va_up_self]) ?_
                refine rm_ost hx hb hK hP hD hS 10 rfl (by omega) (by decide) (ws' := mW a cA st im kp nx li3 isl3 mv3 (va_up so2 code (lvl0 (met (st 0)) code)) (va_up la2 code (lvl0 (met (st 0)) code)) cm3 ld3 us3 bl) rfl dX6_listAll_103 (fun H locs hP hD hS => ?_)
                refine lv_iinc (v := (nI (i + 1))) (lv' := [(2, .int (nI (i + 1))), (5, .int (nI z)), (4, .int (nI M)), (3, .int (nI code)), (0, .ref (a 0)), (1, .int (nI k))]) hx hb dX6_listAll_104 hl (k := 3) rfl (rm_inc i 1) (by decide) rfl (fun ls hl => ?_)
                refine lv_goto (tgt := 2) hx hb dX6_listAll_107 (by decide) ?_
                exact ih2 (i + 1) _ _ _ _ _ _ _ _ (by omega) (exG_succ i2_0 hi) (by rw [← eL]; exact i32_2) (exL_so hi ecode i2_2) (exL_so hi ecode i2_3) i32_7 (va_up_bd i2_5 (fun v h => by rw [(lvl0_some h).2]; decide)) (va_up_bd i2_6 (fun v h => by rw [(lvl0_some h).2]; decide)) (Nat.le_trans hi (exL_len (Nat.le_succ i))) _ _ hP hD hS ls (lv_sub hl [0, 4, 5] rfl)
              refine lv_aload_n hx hb dX6_listAll_77 rfl (lv_at hl 4 rfl) ?_
              refine lv_iload_n hx hb dX6_listAll_78 rfl (lv_at hl 2 rfl) ?_
              refine rm_cV (ls := ls) (As := [.int (nI code)]) (rest := [.int (nI code), .ref (a 9)]) ⟨hx, hb, hml, hown, hts⟩ (metX6_isMet l D cA a st im kp nx li3 isl3 mv3 so2 la2 cm3 ld3 us3 bl code (by first | assumption | omega) (by first | assumption | omega) (by omega)) (cwX6_isMet_X6 hts ⟨Nat.le_of_ble_eq_true rfl, Nat.le_of_ble_eq_true rfl⟩) hP hK hN (va_recv hK hP xc5 (q0 := 0) rfl) rfl hl.1 rfl (Nat.le_of_ble_eq_true rfl) dX6_listAll_79 ⟨Nat.zero_le _, Nat.zero_le _⟩ ?_
              refine rm_beq (tgt := 89) hx hb dX6_listAll_82 (by decide) (fun q82 => ?_) (fun q82 => ?_)
              · skip
                refine lv_bipush (v := (-6)) hx hb dX6_listAll_89 (by decide) ?_
                refine rm_top (y := (oI (lvl0 (met (st 0)) code))) (by rw [lvl0_not q82]; rfl) ?_
                exact join91   _ _ hP hD hS ls hl
              · skip
                refine lv_iconst (v := (nI 0)) hx hb dX6_listAll_85 (by decide) ?_
                refine lv_goto (tgt := 91) hx hb dX6_listAll_86 (by decide) ?_
                refine rm_top (y := (oI (lvl0 (met (st 0)) code))) (by rw [lvl0_met q82]; rfl) ?_
                exact join91   _ _ hP hD hS ls hl
            · skip
              obtain ⟨g, hg1, hg2, hg3⟩ := sbk_next i32_1 q34
              have join59 : ∀ (Lc4 : List Nat) (li4 : Nat → Nat) (isl4 : Nat → Bool) (mv4 : Nat → Nat) (cm4 : Nat → Nat) (ld4 : Nat) (us4 : Nat), (MR (st 0) (st 11) (rS st) bl Lc4 li4 isl4 mv4 ld4 us4) → (Lc4.Nodup) → (∀ c ∈ Lc4, okc (st 0) c) → (exL (sucs (st 0) (st 11) (rS st) bl k) L0 i <+: Lc4) → ((rmS (st 0) code (mvC (st 0) (st 11) (rS st) bl code) k M g (nxs M z)).foldl noteL Lc4 = exL (sucs (st 0) (st 11) (rS st) bl k) L0 (i + 1)) → (∀ c, mv4 c < 59049) → ∀ (H : Heap) (locs : List Loc), va_P D xCl (mW a cA st im kp nx li4 isl4 mv4 so2 la2 cm4 ld4 us4 bl) H → va_D A (mW a cA st im kp nx li4 isl4 mv4 so2 la2 cm4 ld4 us4 bl) → va_S A s.heap H locs → ∀ (ls : Array Slot), lv_has ls 6 [(5, .int (nI z)), (4, .int (nI M)), (3, .int (nI code)), (2, .int (nI i)), (0, .ref (a 0)), (1, .int (nI k))] → W p l e rmX6_listAll s m ([.ref (a 0), .int (nI k)] : List Value).toArray below meth cd H locs 0 0 Q (F0 m 59 ls []) := by
                intro Lc4 li4 isl4 mv4 cm4 ld4 us4 i59_0 i59_1 i59_2 i59_3 i59_4 i59_5 H locs hP hD hS ls hl
                refine lv_iload hx hb dX6_listAll_59 (lv_at hl 0 rfl) ?_
                refine lv_iload hx hb dX6_listAll_61 (lv_at hl 1 rfl) ?_
                refine lv_isub hx hb dX6_listAll_63 ?_
                refine lv_iload hx hb dX6_listAll_64 (lv_at hl 1 rfl) ?_
                refine lv_iand hx hb dX6_listAll_66 ?_
                refine rm_top (y := (nI (nxs M z))) (nxs_I hM) ?_
                refine lv_istore (lv' := [(5, .int (nI (nxs M z))), (4, .int (nI M)), (3, .int (nI code)), (2, .int (nI i)), (0, .ref (a 0)), (1, .int (nI k))]) hx hb dX6_listAll_67 hl (by decide) rfl (fun ls hl => ?_)
                refine lv_goto (tgt := 32) hx hb dX6_listAll_69 (by decide) ?_
                exact ih32 g _ Lc4 _ _ _ _ _ _ (by omega) (Nat.lt_of_le_of_lt (nxs_le M z) hM) hg2 i59_0 i59_1 i59_2 i59_3 i59_4 i59_5 _ _ hP hD hS ls hl
              refine lv_iload_n hx hb dX6_listAll_37 rfl (lv_at hl 5 rfl) ?_
              refine lv_iload hx hb dX6_listAll_38 (lv_at hl 0 rfl) ?_
              refine lv_iload hx hb dX6_listAll_40 (lv_at hl 1 rfl) ?_
              refine rm_cS (ls := ls) (As := [.int (nI k), .int (nI z), .int (nI M)]) (rest := []) ⟨hx, hb, hml, hown, hts⟩ (metX6_mayBe l k z M (by first | assumption | omega) (by first | assumption | omega) (by first | assumption | omega) (by first | assumption | omega)) (cwX6_mayBe_X6 hts ⟨Nat.le_of_ble_eq_true rfl, Nat.le_of_ble_eq_true rfl⟩) noB rfl hl.1 rfl (Nat.le_of_ble_eq_true rfl) dX6_listAll_42 ⟨Nat.zero_le _, Nat.zero_le _⟩ ?_
              refine rm_beq (tgt := 59) hx hb dX6_listAll_45 (by decide) (fun q45 => ?_) (fun q45 => ?_)
              · skip
                exact join59 Lc _ _ _ _ _ _ i32_2 i32_3 i32_4 i32_5 (by rw [← i32_6, rmS_f hg3 q45]) i32_7 _ _ hP hD hS ls hl
              · skip
                refine lv_aload_n hx hb dX6_listAll_48 rfl (lv_at hl 4 rfl) ?_
                refine lv_aload_n hx hb dX6_listAll_49 rfl (lv_at hl 4 rfl) ?_
                refine lv_iload_n hx hb dX6_listAll_50 rfl (lv_at hl 2 rfl) ?_
                refine lv_iload hx hb dX6_listAll_51 (lv_at hl 0 rfl) ?_
                refine mu_aVi (ls := ls) (As := [.int (nI code), .int (nI z)]) (rest := [.ref (a 0)]) ⟨hx, hb, hml, hown, hts⟩ (metX6_behindStep l D cA a st im kp nx li3 isl3 mv3 so2 la2 cm3 ld3 us3 bl code z (by first | assumption | omega) (by first | assumption | omega) hc5 (by first | assumption | omega) (Nat.lt_trans (i32_7 _) (by decide))) (cwX6_behindStep_X6 hts ⟨Nat.le_of_ble_eq_true rfl, Nat.le_of_ble_eq_true rfl⟩) hP hD hS hA hK hN (va_recv hK hP xc5 (q0 := 0) rfl) rfl hl.1 rfl (Nat.le_of_ble_eq_true rfl) dX6_listAll_53 ⟨Nat.zero_le _, Nat.zero_le _⟩ (fun r53_2 u2 H locs w2 hP hD hS => ?_)
                obtain ⟨cm_2, e2⟩ : ∃ z, z = u2 := ⟨_, rfl⟩
                subst e2
                have hP : va_P D xCl (mW a cA st im kp nx li3 isl3 mv3 so2 la2 cm_2 ld3 us3 bl) H := hP
                have hD : va_D A (mW a cA st im kp nx li3 isl3 mv3 so2 la2 cm_2 ld3 us3 bl) := hD
                have er2 := w2
                subst er2
                obtain ⟨to, eto⟩ : ∃ y, y = bstep (st 0) code (mvC (st 0) (st 11) (rS st) bl code) z := ⟨_, rfl⟩
                have hto2 : okc (st 0) to := by rw [eto]; exact bstep_okc (by omega) hco
                have hto := okc_lt hn10 hto2
                have hlenc := okc_len hn10 i32_3 i32_4
                have hldc := i32_2.1
                have hmc3 : mv3 code = mvC (st 0) (st 11) (rS st) bl code := i32_2.2.2.2.1 code (i32_5.subset hci)
                refine rm_top (y := (nI to)) (by rw [eto, hmc3]) ?_
                refine mu_aVv (ls := ls) (As := [.int (nI to)]) (rest := []) ⟨hx, hb, hml, hown, hts⟩ (metX6_note l D cA a st im kp nx li3 isl3 mv3 so2 la2 cm_2 ld3 us3 bl to (by first | assumption | omega) (by first | assumption | omega) (by first | assumption | omega) (by first | assumption | omega) (by first | assumption | omega) hto (by omega)) (cwX6_note_X6 hts ⟨Nat.le_of_ble_eq_true rfl, Nat.le_of_ble_eq_true rfl⟩) hP hD hS hA hK hN (va_recv hK hP xc5 (q0 := 0) rfl) rfl hl.1 rfl (Nat.le_of_ble_eq_true rfl) dX6_listAll_56 ⟨Nat.zero_le _, Nat.zero_le _⟩ (fun u3 H locs w3 hP hD hS => ?_)
                obtain ⟨isl_3, li_3, mv_3, ld_3, us_3⟩ := u3
                try dsimp only at w3
                have hP : va_P D xCl (mW a cA st im kp nx li_3 isl_3 mv_3 so2 la2 cm_2 ld_3 us_3 bl) H := hP
                have hD : va_D A (mW a cA st im kp nx li_3 isl_3 mv_3 so2 la2 cm_2 ld_3 us_3 bl) := hD
                have hMR5 := MR_note i32_2 hto w3.1 w3.2
                have hmv5 := note_mv hn10 i32_7 w3.1 w3.2
                exact join59 (noteL Lc to) _ _ _ _ _ _ hMR5 (noteL_nodup i32_3) (noteL_okc i32_4 hto2) (i32_5.trans (noteL_pre _ _)) (by rw [← i32_6, rmS_t hg3 q45, ← eto]; rfl) hmv5 _ _ hP hD hS ls hl
        exact loop32 _ 1024 _ (exL (sucs (st 0) (st 11) (rS st) bl k) L0 i) _ _ _ _ _ _ (Nat.lt_succ_self _) (Nat.lt_of_le_of_lt (nxs_le M 0) hM) (sbk_all M hM) i2_1 hE.1 hE.2 (List.prefix_refl _) (by rw [eM]; show _ = (sucs (st 0) (st 11) (rS st) bl k ((exL (sucs (st 0) (st 11) (rS st) bl k) L0 i).getD i 0)).foldl noteL (exL (sucs (st 0) (st 11) (rS st) bl k) L0 i); rw [← ecode]; rfl) i2_4 _ _ hP hD hS ls hl
  exact loop2 _ 0 _ _ _ _ _ _ _ _ (Nat.lt_succ_self _) (fun j hj => absurd hj (Nat.not_lt_zero j)) hMR (fun j hj => absurd hj (Nat.not_lt_zero j)) (fun j hj => absurd hj (Nat.not_lt_zero j)) hmvB hso hla (Nat.zero_le _) _ _ hP hD hS ls hl
theorem cwX6_listAll_X6 {R : Room} {s : State} {args : Array Value} (hts : ∀ w ∈ lw_all, w.before args s = true) (hR : (rmX6_listAll).frames + 1 ≤ R.frames ∧ 8 + (6 + 11) + (rmX6_listAll).locals ≤ R.locals) : CallW R s args RX6 RX6 165 yX6_listAll cX6_listAll 6 none (ws_ yX6_listAll cX6_listAll 6 none) rmX6_listAll 0 0 1 := cwV 1 hts (lw_V q835 q837 qs46 q63 q838) rfl rfl rfl (by decide +kernel) hR
