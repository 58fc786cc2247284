/-! the component's cells; rows for them -/
set_option maxRecDepth 100000
def rV (f : Nat → Nat) : List Value := [.int (nI (f 0)), .int (nI (f 1)), .int (nI (f 2)), .int (nI (f 3)), .int (nI (f 4)), .int (nI (f 5))]
def rC (ra : Nat → Nat) (cR : Nat → Nat → Nat) (i : Nat) : Nat × va_E := (ra i, .inr (2, rV (cR i)))
def dkC (a1 a2 a3 n m : Nat) : Nat × va_E := (a1, .inr (1, [.int (nI n), .ref a2, .ref a3, .int (nI m)]))
def rfA (f : Nat → Option Nat) : (Nat → Int32) ⊕ (Nat → Int64) ⊕ (Nat → UInt32) ⊕ (Nat → UInt64) ⊕ (Nat → Option Nat) := .inr (.inr (.inr (.inr f)))
/-- the component's cells: the object, three desks with their arrays, the net's arrays; then the thirty rules -/
def cF (b ra : Nat → Nat) (cA : Nat → ClassId) (cN : Nat → Nat) (cV : Nat → Nat → Nat) (cM : Nat → Nat) (kp : Nat → Bool) (nu : Nat → Option Nat) (sO tO fS sP : Nat → Nat) (sN lA : Nat → Option Nat) (tG : Nat → Nat) : va_W :=
  [(b 0, .inr (0, [.ref (b 1), .ref (b 4), .ref (b 5), .ref (b 6), .ref (b 7), .ref (b 8), .ref (b 9), .ref (b 10), .ref (b 11), .ref (b 12), .ref (b 13), .ref (b 14), .ref (b 15)])),
   dkC (b 1) (b 2) (b 3) (cN 0) (cM 0), (b 2, .inl (cA 0, 10, .inl (nA (cV 0)))), (b 3, .inl (cA 2, 10, rfA (fun r => some (ra r)))),
   (b 4, .inl (cA 3, 2, rfA (fun k => some (if k = 0 then b 16 else b 19)))), (b 5, .inl (cA 1, 2, .inl (bA kp))),
   (b 6, .inr (3, [.ref (b 0), .ref (b 0)])), (b 7, .inr (4, [.ref (b 0), .ref (b 0)])),
   (b 8, .inl (cA 0, 59049, .inl (oA nu))), (b 9, .inl (cA 0, 4000, .inl (nA sO))), (b 10, .inl (cA 0, 4000, .inl (nA tO))), (b 11, .inl (cA 0, 4001, .inl (nA fS))), (b 12, .inl (cA 0, 60000, .inl (nA sP))), (b 13, .inl (cA 0, 4000, .inl (oA sN))), (b 14, .inl (cA 0, 4000, .inl (oA lA))), (b 15, .inl (cA 0, 10, .inl (nA tG))),
   dkC (b 16) (b 17) (b 18) (cN 1) (cM 1), (b 17, .inl (cA 0, 10, .inl (nA (cV 1)))), (b 18, .inl (cA 2, 10, rfA (fun r => some (ra (10 + r))))),
   dkC (b 19) (b 20) (b 21) (cN 2) (cM 2), (b 20, .inl (cA 0, 10, .inl (nA (cV 2)))), (b 21, .inl (cA 2, 10, rfA (fun r => some (ra (20 + r)))))]
def cW (b ra : Nat → Nat) (cA : Nat → ClassId) (cN : Nat → Nat) (cV : Nat → Nat → Nat) (cM : Nat → Nat) (cR : Nat → Nat → Nat) (kp : Nat → Bool) (nu : Nat → Option Nat) (sO tO fS sP : Nat → Nat) (sN lA : Nat → Option Nat) (tG : Nat → Nat) : va_W := cF b ra cA cN cV cM kp nu sO tO fS sP sN lA tG ++ (List.range 30).map (rC ra cR)
theorem rg_get {α : Type} (F : List α) (g : Nat → α) {n i k : Nat} (hF : F.length = k) (hi : i < n) : (F ++ (List.range n).map g)[k + i]? = some (g i) := by
  rw [List.getElem?_append_right (by omega), hF, Nat.add_sub_cancel_left, List.getElem?_map, List.getElem?_range hi]
  rfl
theorem rg_set {α : Type} (F : List α) (g : Nat → α) {n i k : Nat} (x : α) (hF : F.length = k) : (F ++ (List.range n).map g).set (k + i) x = F ++ (List.range n).map (va_up g i x) := by
  rw [List.set_append, if_neg (by omega), hF, Nat.add_sub_cancel_left]
  congr 1
  apply List.ext_getElem?
  intro j
  rw [List.getElem?_set, List.getElem?_map, List.getElem?_map, List.length_map, List.length_range]
  unfold va_up
  by_cases e : i = j
  · subst e
    rw [if_pos rfl]
    by_cases h : i < n
    · rw [if_pos h, List.getElem?_range h]
      simp
    · rw [if_neg h, List.getElem?_eq_none (by rw [List.length_range]; omega)]
      rfl
  · rw [if_neg e]
    cases h : (List.range n)[j]? with
    | none => rfl
    | some y =>
      have hj : j < n := by
        have := (List.getElem?_eq_some_iff.mp h).1
        rwa [List.length_range] at this
      rw [List.getElem?_range hj] at h
      cases h
      show some (g j) = some (if j = i then x else g j)
      rw [if_neg (fun h => e h.symm)]
theorem cW_rul {b ra : Nat → Nat} {cA : Nat → ClassId} {cN : Nat → Nat} {cV : Nat → Nat → Nat} {cM : Nat → Nat} {cR : Nat → Nat → Nat} {kp : Nat → Bool} {nu : Nat → Option Nat} {sO tO fS sP : Nat → Nat} {sN lA : Nat → Option Nat} {tG : Nat → Nat} {i : Nat} (hi : i < 30) : (cW b ra cA cN cV cM cR kp nu sO tO fS sP sN lA tG)[22 + i]? = some (ra i, .inr (2, rV (cR i))) := rg_get _ _ rfl hi
theorem va_P_one {D : va_G} {ws : va_W} {H : Heap} {k : Nat} {q : Nat × va_E} (hP : va_P D xCl ws H) (h : ws[k]? = some q) : va_P D xCl [q] H := by
  intro j x hj
  have hz : j < 1 := (List.getElem?_eq_some_iff.mp hj).1
  rw [show j = 0 by omega] at hj
  cases hj
  exact hP k q h
/-- a desk's own cells -/
def dkW (a1 a2 a3 : Nat) (cA : Nat → ClassId) (n : Nat) (w : Nat → Nat) (m : Nat) : va_W := [dkC a1 a2 a3 n m, (a2, .inl (cA 0, 10, .inl (nA w)))]
section RME
variable {p : Program} {l : Launch} {e : Env} {R : Room} {s : State} {m : MethodId} {args : Array Value} {below : List Frame} {meth : Method} {c : Code} {H : Heap} {locs : List Loc} {cells slots : Nat} {Q : State → Prop} {cc : ByteArray} {pc : Nat} {ls : Array Slot} {rest : List Value}
  {D : va_G} {cA : Nat → ClassId} {ws : va_W} {a n k x : Nat} {A : Nat → Prop} {H0 : Heap}
theorem rm_ald (hx : p.tables.exec = Jvm.exec) (hb : c.code = cc) (hK : va_K D xCl (xT cA) s) (hP : va_P D xCl ws H) (q0 t0 : Nat) {cR : ClassId} {C : String} {f : Nat → Option Nat} (ha : ws[q0]? = some (a, .inl (cR, n, rfA f))) (ht : (xT cA)[t0]? = some (cR, .object C)) (hk : k < n) (hn : n < 2 ^ 31) (hf : f k = some x) (hdg : decode cc pc = .ok (.aaload, 1))
    (kk : W p l e R s m args below meth c H locs cells slots Q (F0 m (pc + 1) ls (.ref x :: rest))) : W p l e R s m args below meth c H locs cells slots Q (F0 m pc ls (.int (nI k) :: .ref a :: rest)) :=
  va_aldq hx hb hK hP q0 t0 ha ht (vp_in_nI hk hn) hdg (by rw [nI_clamp (by omega), hf]; exact kk)
variable {y : MethodName} {cy : ByteArray} {maxL nL nn index : Nat} {ret : Option FieldType} {rm : Room} {own C host : String} {b : Nat} {As st : List Value} {val : Int32}
/-- a call of a nest mate's private method that only reads -/
theorem rm_cVN (Fx : CallFix p m c cc nL s args lw_all own) (hM : RO l y cy maxL ret rm (.ref b :: As) (wB D cA ws) val) (cw : va_CN R s args own index y host cy maxL ret (ws_ y cy maxL ret) rm 0 0 nn ∧ (Cond.instanceMethod y).before args s = true ∧ (Cond.selects C y y).before args s = true) (hP : va_P D xCl ws H) (hK : va_K D xCl (xT cA) s) (hN : xN s)
    (hrec : ∃ cell : Cell, H[b]? = some cell ∧ cell.vm.isStatics = false ∧ s.vm.findClass C = some cell.cls) (hn : As.length = nn) (hsize : ls.size = nL) (hst : st = As.reverse ++ .ref b :: rest) (hW : (rest.map fun v => v.category).sum ≤ 8) (hdg : decode cc pc = .ok (.invokevirtual index, 3)) (hf : cells ≤ R.cells ∧ slots ≤ R.slots)
    (k : W p l e R s m args below meth c H locs cells slots Q (F0 m (pc + 3) ls (.int val :: rest))) : W p l e R s m args below meth c H locs cells slots Q (F0 m pc ls st) := by
  subst hst
  exact vp_callSi (va_Run.run (va_runVN (rest := rest) Fx hM cw ⟨wB.blind, hrec, wB.pre hP hK hN⟩ rfl hn hsize rfl (lv_room hW) hdg hf)) (fun r hr => by subst hr; exact k)
end RME
/-- the start of a method that only reads (answer int; of a class for some of whose methods the machine has entries) -/
theorem ro_intF {l : Launch} {y : MethodName} {cc : ByteArray} {maxL : Nat} {rm : Room} {av : List Value} {B : State → Prop} {val : Int32} (hy : plainFor y = true) (hlen : (lg_sl av).length ≤ maxL)
    (body : ∀ (p : Program) (e : Env) (s : State) (m : MethodId) (below : List Frame) (meth : Method) (c : Code) (Q : State → Prop) (ls : Array Slot), p.tables.exec = Jvm.exec → c.code = cc → c.maxLocals = maxL → s.vm.findClass y.cls = some m.cls → (∀ w ∈ lw_all, w.before av.toArray s = true) → B s → lv_has ls maxL (lv_args 0 av) →
      (∀ (v : Int32) (pc : Nat) (ls : Array Slot), v = val → decode cc pc = .ok (.ireturn, 1) → W p l e rm s m av.toArray below meth c s.heap [] 0 0 Q (F0 m pc ls [.int v])) → W p l e rm s m av.toArray below meth c s.heap [] 0 0 Q (F0 m 0 ls [])) :
    RO l y cc maxL (some .int) rm av B val := by
  refine va_MetF (cc := cc) (maxL := maxL) (ret := some .int) hy rfl ?_
  intro p e s m args below meth c s₁ Bd hml hv
  obtain ⟨rfl, hB⟩ := hv
  have hts := atoms_spec (ws := ws_ y cc maxL (some .int)) Bd.pre
  have hl := lv_entry av (n := maxL) hlen
  have hlocks := Bd.notSynchronized
  rw [lg_entry_eq]
  refine body p e s m below meth c _ _ Bd.exec Bd.bytes hml (findClass_of_methodNamed Bd.named) (fun w h => hts w (List.mem_cons_of_mem _ h)) hB hl ?_
  intro v pc ls hv hd
  exact W.iret (v := v) Bd.exec Bd.bytes Bd.returns (fun t ht _ => ⟨v, rfl, hv, ht⟩) (fun q h => by cases h) hd
/-! JDK: numbers -/
def bc1 (x : Int32) : Int32 := x - ((x.toUInt32 >>> ((nI 1).toUInt32 &&& Int32.toUInt32 31)).toInt32 &&& nI 1431655765)
def bc2 (x : Int32) : Int32 := (x &&& nI 858993459) + ((x.toUInt32 >>> ((nI 2).toUInt32 &&& Int32.toUInt32 31)).toInt32 &&& nI 858993459)
def bc3 (x : Int32) : Int32 := (x + (x.toUInt32 >>> ((nI 4).toUInt32 &&& Int32.toUInt32 31)).toInt32) &&& nI 252645135
def bc4 (x : Int32) : Int32 := x + (x.toUInt32 >>> ((nI 8).toUInt32 &&& Int32.toUInt32 31)).toInt32
def bc5 (x : Int32) : Int32 := x + (x.toUInt32 >>> ((nI 16).toUInt32 &&& Int32.toUInt32 31)).toInt32
theorem bc_all : ∀ S, S < 1024 → bc5 (bc4 (bc3 (bc2 (bc1 (nI S))))) &&& nI 63 = nI (ct S 10) := by decide +kernel
def fmF (x y : Int32) : Int32 := if 0 ≤ x ^^^ y then x - x / y * y else if x - x / y * y = 0 then x - x / y * y else x - x / y * y + y
theorem fm_all : ∀ n, n < 11 → 3 ≤ n → ∀ c, c < n → ∀ g, g < n + 1 → ∀ up : Bool, fmF (nI c + dI up * nI g) (nI n) = nI (it n up c g) := by decide +kernel
def tz1 (i n : Nat) : Nat := n + i / 2
def tz2 (i n : Nat) : Nat := if 4 < i then tz1 (i / 4) (n + 2) else tz1 i n
def tz3 (i n : Nat) : Nat := if 16 < i then tz2 (i / 16) (n + 4) else tz2 i n
def tz4 (i n : Nat) : Nat := if 256 < i then tz3 (i / 256) (n + 8) else tz3 i n
def lowm (z : Nat) : Nat := (1023 ^^^ z) &&& (z - 1)
def bitsL (S : Nat) : List Nat := (List.range 10).filter (fun c => S.testBit c)
/-- the least cell of a set -/
def ntz (z : Nat) : Nat := if lowm z = 0 then 0 else tz4 (lowm z) 1
theorem lowm_all : ∀ z, z < 1024 → 0 < z → (nI z ^^^ (-1)) &&& (nI z - nI 1) = nI (lowm z) ∧ lowm z < 512 := by decide +kernel
theorem ntz_all : ∀ z, z < 1024 → 0 < z → ntz z < 10 ∧ bitsL z = ntz z :: bitsL (z &&& (z - 1)) := by decide +kernel
theorem low1_all : ∀ z, z < 1024 → nI z &&& -(nI z) = nI (nxs z 0) := by decide +kernel
theorem nI_ushr {a k : Nat} (h : a < 2 ^ 31) (hk : k < 32) : ((nI a).toUInt32 >>> ((nI k).toUInt32 &&& Int32.toUInt32 31)).toInt32 = nI (a / 2 ^ k) := pk_ushrN (by omega) (nI k) k ((by decide +kernel : ∀ n, n < 32 → (((nI n).toUInt32 &&& Int32.toUInt32 31).toBitVec % 32).toNat = n) k hk)
/-! longs -/
theorem i64_le {x y : Int32} : x.toInt64 ≤ y.toInt64 ↔ x ≤ y := by
  rw [Int64.le_iff_toInt_le, Int32.le_iff_toInt_le, Int32.toInt_toInt64, Int32.toInt_toInt64]
theorem isIn_I (lo hi : Nat) {v : Int32} (l64 h64 : Int64) (hl : l64 = (nI lo).toInt64) (hh : h64 = (nI hi).toInt64) : (decide (l64 ≤ v.toInt64) && decide (v.toInt64 ≤ h64)) = inI lo hi v := by
  subst hl; subst hh
  unfold inI
  rw [decide_eq_decide.mpr i64_le, decide_eq_decide.mpr i64_le]
theorem isIn_L {n : Nat} {v : Int32} (hn : n < 2 ^ 31) : (decide (0 ≤ v.toInt64) && decide (v.toInt64 ≤ (nI n).toInt64 - 1)) = inL n v := by
  unfold inL
  have h0 : (0 : Int64) = (nI 0).toInt64 := by decide
  have e1 : (decide (0 ≤ v.toInt64)) = decide (nI 0 ≤ v) := by rw [h0]; exact decide_eq_decide.mpr i64_le
  rw [e1]
  congr 1
  apply decide_eq_decide.mpr
  have h1 : ((nI n).toInt64 - 1).toInt = (n : Int) - 1 := by
    rw [nI_l hn]
    rcases Nat.eq_zero_or_pos n with q | q
    · subst q
      decide
    · have : (1 : Int64) = lN 1 := by decide
      rw [this, lN_sub q, lN_toInt (by omega)]
      omega
  rw [Int64.le_iff_toInt_le, Int32.lt_iff_toInt_lt, h1, Int32.toInt_toInt64, nI_toInt hn]
  omega
