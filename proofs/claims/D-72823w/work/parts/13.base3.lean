/-! methods that write: their contracts, starts and calls -/
set_option maxRecDepth 100000
/-- the start of a method that writes its cells ws -/
def wC (D : va_G) (cA : Nat → ClassId) (ws : va_W) (sz : Nat) (U : State) : Prop := U.heap.size = sz ∧ va_P D xCl ws U.heap ∧ va_K D xCl (xT cA) U ∧ xN U ∧ va_D (fun _ => True) ws
theorem wC.blind {D : va_G} {cA : Nat → ClassId} {ws : va_W} {sz : Nat} {av : List Value} : FrameBlind (va_Pc av (wC D cA ws sz)) := fun _ U _ _ q => ⟨q.1, q.2.1, q.2.2.1, va_K.moved (u := U) (Vm.Alike.refl U.vm) q.2.2.2.1, q.2.2.2.2.1.calling, q.2.2.2.2.2⟩
theorem wC.pre {D : va_G} {cA : Nat → ClassId} {ws : va_W} {av : List Value} {s : State} {H : Heap} {A : Nat → Prop} (hP : va_P D xCl ws H) (hD : va_D A ws) (hK : va_K D xCl (xT cA) s) (hN : xN s) : ∀ U : State, U.heap = H → s.WarmedH U.vm → va_Pc av (wC D cA ws H.size) av.toArray U := fun U hU hW => ⟨rfl, by rw [hU], by rw [hU]; exact hP, va_K.moved hW.alike hK, hN.warm hW, hD.weaken (fun _ _ _ _ => trivial)⟩
/-- a writing method that answers an int (or a boolean): from the cells w0 to the cells w1 u -/
abbrev MUi (l : Launch) (y : MethodName) (cc : ByteArray) (maxL : Nat) (ret : Option FieldType) (rm : Room) (av : List Value) (D : va_G) (cA : Nat → ClassId) (w0 : va_W) {S : Type} (post : Int32 → S → Prop) (w1 : S → va_W) (mc ms : Nat) : Prop := ∀ sz : Nat, Met l y (ws_ y cc maxL ret) rm (va_Pc av (wC D cA w0 sz)) (va_Qi post (fun u t => va_P D xCl (w1 u) t.heap ∧ va_D (va_A w0 sz) (w1 u)) (va_A w0 sz)) mc ms (va_A w0 sz)
abbrev MUv (l : Launch) (y : MethodName) (cc : ByteArray) (maxL : Nat) (ret : Option FieldType) (rm : Room) (av : List Value) (D : va_G) (cA : Nat → ClassId) (w0 : va_W) {S : Type} (post : S → Prop) (w1 : S → va_W) (mc ms : Nat) : Prop := ∀ sz : Nat, Met l y (ws_ y cc maxL ret) rm (va_Pc av (wC D cA w0 sz)) (va_Qv post (fun u t => va_P D xCl (w1 u) t.heap ∧ va_D (va_A w0 sz) (w1 u)) (va_A w0 sz)) mc ms (va_A w0 sz)
theorem mu_int {l : Launch} {y : MethodName} {cc : ByteArray} {maxL : Nat} {rm : Room} {av : List Value} {D : va_G} {cA : Nat → ClassId} {w0 : va_W} {S : Type} {post : Int32 → S → Prop} {w1 : S → va_W} {mc ms : Nat} (hy : plainName y.cls = true) (hlen : (lg_sl av).length ≤ maxL)
    (body : ∀ (p : Program) (e : Env) (s : State) (m : MethodId) (below : List Frame) (meth : Method) (c : Code) (Q : State → Prop) (ls : Array Slot) (A : Nat → Prop), p.tables.exec = Jvm.exec → c.code = cc → c.maxLocals = maxL → s.vm.findClass y.cls = some m.cls → (∀ w ∈ lw_all, w.before av.toArray s = true) → va_P D xCl w0 s.heap → va_K D xCl (xT cA) s → xN s → va_D A w0 → (∀ q, s.heap.size ≤ q → A q) → lv_has ls maxL (lv_args 0 av) →
      (∀ (v : Int32) (u : S) (H : Heap) (locs : List Loc) (pc : Nat) (ls : Array Slot), post v u → va_P D xCl (w1 u) H → va_D A (w1 u) → va_S A s.heap H locs → decode cc pc = .ok (.ireturn, 1) → W p l e rm s m av.toArray below meth c H locs mc ms Q (F0 m pc ls [.int v])) → W p l e rm s m av.toArray below meth c s.heap [] 0 0 Q (F0 m 0 ls [])) :
    MUi l y cc maxL (some .int) rm av D cA w0 post w1 mc ms := by
  intro sz
  refine Met.ofW (cc := cc) (maxL := maxL) (ret := some .int) hy rfl ?_
  intro p e s m args below meth c s₁ Bd hml hv
  obtain ⟨rfl, hsz, hP, hK, hN, hD0⟩ := hv
  subst hsz
  have hts := atoms_spec (ws := ws_ y cc maxL (some .int)) Bd.pre
  have hl := lv_entry av (n := maxL) hlen
  have hlocks := Bd.notSynchronized
  rw [lg_entry_eq]
  refine body p e s m below meth c _ _ (va_A w0 s.heap.size) Bd.exec Bd.bytes hml (findClass_of_methodNamed Bd.named) (fun w h => hts w (List.mem_cons_of_mem _ h)) hP hK hN hD0.self (fun q h => Or.inr h) hl ?_
  intro v u H locs pc ls hpost hP1 hD1 hS hd
  exact W.iret (v := v) Bd.exec Bd.bytes Bd.returns (fun t ht _ => ⟨⟨v, u, rfl, hpost, by rw [ht]; exact hP1, hD1⟩, hS.F ht⟩) hS.2.2 hd
theorem mu_bool {l : Launch} {y : MethodName} {cc : ByteArray} {maxL : Nat} {rm : Room} {av : List Value} {D : va_G} {cA : Nat → ClassId} {w0 : va_W} {S : Type} {post : Int32 → S → Prop} {w1 : S → va_W} {mc ms : Nat} (hy : plainName y.cls = true) (hlen : (lg_sl av).length ≤ maxL)
    (body : ∀ (p : Program) (e : Env) (s : State) (m : MethodId) (below : List Frame) (meth : Method) (c : Code) (Q : State → Prop) (ls : Array Slot) (A : Nat → Prop), p.tables.exec = Jvm.exec → c.code = cc → c.maxLocals = maxL → s.vm.findClass y.cls = some m.cls → (∀ w ∈ lw_all, w.before av.toArray s = true) → va_P D xCl w0 s.heap → va_K D xCl (xT cA) s → xN s → va_D A w0 → (∀ q, s.heap.size ≤ q → A q) → lv_has ls maxL (lv_args 0 av) →
      (∀ (v : Bool) (u : S) (H : Heap) (locs : List Loc) (pc : Nat) (ls : Array Slot), post (bI v) u → va_P D xCl (w1 u) H → va_D A (w1 u) → va_S A s.heap H locs → decode cc pc = .ok (.ireturn, 1) → W p l e rm s m av.toArray below meth c H locs mc ms Q (F0 m pc ls [.int (bI v)])) → W p l e rm s m av.toArray below meth c s.heap [] 0 0 Q (F0 m 0 ls [])) :
    MUi l y cc maxL (some .boolean) rm av D cA w0 post w1 mc ms := by
  intro sz
  refine Met.ofW (cc := cc) (maxL := maxL) (ret := some .boolean) hy rfl ?_
  intro p e s m args below meth c s₁ Bd hml hv
  obtain ⟨rfl, hsz, hP, hK, hN, hD0⟩ := hv
  subst hsz
  have hts := atoms_spec (ws := ws_ y cc maxL (some .boolean)) Bd.pre
  have hl := lv_entry av (n := maxL) hlen
  have hlocks := Bd.notSynchronized
  rw [lg_entry_eq]
  refine body p e s m below meth c _ _ (va_A w0 s.heap.size) Bd.exec Bd.bytes hml (findClass_of_methodNamed Bd.named) (fun w h => hts w (List.mem_cons_of_mem _ h)) hP hK hN hD0.self (fun q h => Or.inr h) hl ?_
  intro v u H locs pc ls hpost hP1 hD1 hS hd
  exact W.zret (v := bI v) Bd.exec Bd.bytes Bd.returns (nar_bI v) (fun t ht _ => ⟨⟨bI v, u, rfl, hpost, by rw [ht]; exact hP1, hD1⟩, hS.F ht⟩) hS.2.2 hd
theorem mu_void {l : Launch} {y : MethodName} {cc : ByteArray} {maxL : Nat} {rm : Room} {av : List Value} {D : va_G} {cA : Nat → ClassId} {w0 : va_W} {S : Type} {post : S → Prop} {w1 : S → va_W} {mc ms : Nat} (hy : plainName y.cls = true) (hlen : (lg_sl av).length ≤ maxL)
    (body : ∀ (p : Program) (e : Env) (s : State) (m : MethodId) (below : List Frame) (meth : Method) (c : Code) (Q : State → Prop) (ls : Array Slot) (A : Nat → Prop), p.tables.exec = Jvm.exec → c.code = cc → c.maxLocals = maxL → s.vm.findClass y.cls = some m.cls → meth.name = y.name → (∀ w ∈ lw_all, w.before av.toArray s = true) → va_P D xCl w0 s.heap → va_K D xCl (xT cA) s → xN s → va_D A w0 → (∀ q, s.heap.size ≤ q → A q) → lv_has ls maxL (lv_args 0 av) →
      (∀ (u : S) (H : Heap) (locs : List Loc) (pc : Nat) (ls : Array Slot), post u → va_P D xCl (w1 u) H → va_D A (w1 u) → va_S A s.heap H locs → decode cc pc = .ok (.return_, 1) → W p l e rm s m av.toArray below meth c H locs mc ms Q (F0 m pc ls [])) → W p l e rm s m av.toArray below meth c s.heap [] 0 0 Q (F0 m 0 ls [])) :
    MUv l y cc maxL none rm av D cA w0 post w1 mc ms := by
  intro sz
  refine Met.ofW (cc := cc) (maxL := maxL) (ret := none) hy rfl ?_
  intro p e s m args below meth c s₁ Bd hml hv
  obtain ⟨rfl, hsz, hP, hK, hN, hD0⟩ := hv
  subst hsz
  have hts := atoms_spec (ws := ws_ y cc maxL none) Bd.pre
  have hl := lv_entry av (n := maxL) hlen
  have hlocks := Bd.notSynchronized
  have hname : meth.name = y.name := (name_of_methodNamed Bd.named Bd.method).1
  rw [lg_entry_eq]
  refine body p e s m below meth c _ _ (va_A w0 s.heap.size) Bd.exec Bd.bytes hml (findClass_of_methodNamed Bd.named) hname (fun w h => hts w (List.mem_cons_of_mem _ h)) hP hK hN hD0.self (fun q h => Or.inr h) hl ?_
  intro u H locs pc ls hpost hP1 hD1 hS hd
  exact W.vret Bd.exec Bd.bytes Bd.returns (fun t ht _ => ⟨⟨u, rfl, hpost, by rw [ht]; exact hP1, hD1⟩, hS.F ht⟩) hS.2.2 hd
/-! behind a call: the callee's cells as it left them, the others as they were -/
theorem mu_own {A : Nat → Prop} {ws wr : va_W} {H0 H : Heap} {locs : List Loc} (hD : va_D A (ws ++ wr)) (hS : va_S A H0 H locs) (hA : ∀ q, H0.size ≤ q → A q) : ∀ q, va_A ws H.size q → A q := by
  intro q h
  rcases h with ⟨k, e, h⟩ | h
  · exact hD.2 k (q, e) (by rw [List.getElem?_append_left (List.getElem?_eq_some_iff.mp h).1]; exact h)
  · exact hA q (Nat.le_trans hS.1 h)
theorem mu_left {D : va_G} {ws wr : va_W} {H : Heap} (hP : va_P D xCl (ws ++ wr) H) : va_P D xCl ws H := fun k q h => hP k q (by rw [List.getElem?_append_left (List.getElem?_eq_some_iff.mp h).1]; exact h)
theorem mu_right {D : va_G} {ws wr : va_W} {H : Heap} (hP : va_P D xCl (ws ++ wr) H) : va_P D xCl wr H := fun k q h => hP (ws.length + k) q (by rw [List.getElem?_append_right (Nat.le_add_right _ _), Nat.add_sub_cancel_left]; exact h)
theorem mu_leftD {A : Nat → Prop} {ws wr : va_W} (hD : va_D A (ws ++ wr)) : va_D A ws := by
  have at' : ∀ (k : Nat) (q : Nat × va_E), ws[k]? = some q → (ws ++ wr)[k]? = some q := fun k q h => by rw [List.getElem?_append_left (List.getElem?_eq_some_iff.mp h).1]; exact h
  exact ⟨fun i j x y hi hj e => hD.1 i j x y (at' i x hi) (at' j y hj) e, fun k q h => hD.2 k q (at' k q h)⟩
theorem mu_rightD {A : Nat → Prop} {ws wr : va_W} (hD : va_D A (ws ++ wr)) : va_D A wr := by
  have at' : ∀ (k : Nat) (q : Nat × va_E), wr[k]? = some q → (ws ++ wr)[ws.length + k]? = some q := fun k q h => by rw [List.getElem?_append_right (Nat.le_add_right _ _), Nat.add_sub_cancel_left]; exact h
  exact ⟨fun i j x y hi hj e => Nat.add_left_cancel (hD.1 _ _ x y (at' i x hi) (at' j y hj) e), fun k q h => hD.2 _ q (at' k q h)⟩
theorem mu_join {A : Nat → Prop} {D : va_G} {ws wr w1 : va_W} {H0 H H1 : Heap} {locs : List Loc} (hP : va_P D xCl (ws ++ wr) H) (hD : va_D A (ws ++ wr)) (hS : va_S A H0 H locs) (hA : ∀ q, H0.size ≤ q → A q) (hk : ∀ q : Nat, q < H.size → ¬ va_A ws H.size q → H1[q]? = H[q]?) (hP1 : va_P D xCl w1 H1) (hD1 : va_D (va_A ws H.size) w1) : va_P D xCl (w1 ++ wr) H1 ∧ va_D A (w1 ++ wr) := by
  have at' : ∀ (k : Nat) (q : Nat × va_E), wr[k]? = some q → (ws ++ wr)[ws.length + k]? = some q := fun k q h => by rw [List.getElem?_append_right (Nat.le_add_right _ _), Nat.add_sub_cancel_left]; exact h
  have apart : ∀ (k : Nat) (q : Nat × va_E), wr[k]? = some q → q.1 < H.size ∧ ¬ va_A ws H.size q.1 := by
    intro k q hq
    have hl := (hP _ q (at' k q hq)).lt
    refine ⟨hl, fun h => ?_⟩
    rcases h with ⟨j, e, h⟩ | h
    · have h2 : j < ws.length := (List.getElem?_eq_some_iff.mp h).1
      have := hD.1 j (ws.length + k) (q.1, e) q (by rw [List.getElem?_append_left h2]; exact h) (at' k q hq) rfl
      omega
    · omega
  refine ⟨va_P.app hP1 (fun k q hq => ?_), va_D.app (hD1.weaken (fun k q _ h => mu_own hD hS hA q.1 h)) (mu_rightD hD) (fun i j x y hx hy hxy => ?_)⟩
  · exact (mu_right hP k q hq).kept (hk q.1 (apart k q hq).1 (apart k q hq).2)
  · exact (apart j y hy).2 (by rw [← hxy]; exact hD1.2 i x hx)
section RMD
variable {p : Program} {l : Launch} {e : Env} {R : Room} {s : State} {m : MethodId} {args : Array Value} {below : List Frame} {meth : Method} {c : Code} {H : Heap} {locs : List Loc} {cells slots : Nat} {Q : State → Prop} {cc : ByteArray} {pc : Nat} {ls : Array Slot} {rest : List Value}
  {D : va_G} {cA : Nat → ClassId} {ws wr : va_W} {y : MethodName} {cy : ByteArray} {maxL nL n index mc ms : Nat} {ret : Option FieldType} {rm : Room} {own C : String} {b : Nat} {As st : List Value} {A : Nat → Prop} {H0 : Heap} {S : Type} {w1 : S → va_W}
theorem mu_cVi {post : Int32 → S → Prop} (Fx : CallFix p m c cc nL s args lw_all own) (hM : MUi l y cy maxL ret rm (.ref b :: As) D cA ws post w1 mc ms) (cw : CallW R s args own C index y cy maxL ret (ws_ y cy maxL ret) rm mc ms n) (hP : va_P D xCl (ws ++ wr) H) (hD : va_D A (ws ++ wr)) (hS : va_S A H0 H locs) (hA : ∀ q, H0.size ≤ q → A q) (hK : va_K D xCl (xT cA) s) (hN : xN s)
    (hrec : ∃ cell : Cell, H[b]? = some cell ∧ cell.vm.isStatics = false ∧ s.vm.findClass C = some cell.cls) (hn : As.length = n) (hsize : ls.size = nL) (hst : st = As.reverse ++ .ref b :: rest) (hW : (rest.map fun v => v.category).sum ≤ 8) (hdg : decode cc pc = .ok (.invokevirtual index, 3)) (hf : cells + mc ≤ R.cells ∧ slots + ms ≤ R.slots)
    (k : ∀ (r : Int32) (u : S) (H1 : Heap) (locs1 : List Loc), post r u → va_P D xCl (w1 u ++ wr) H1 → va_D A (w1 u ++ wr) → va_S A H0 H1 locs1 → W p l e R s m args below meth c H1 locs1 (cells + mc) (slots + ms) Q (F0 m (pc + 3) ls (.int r :: rest))) : W p l e R s m args below meth c H locs cells slots Q (F0 m pc ls st) := by
  subst hst
  refine va_calli (va_runV (rest := rest) Fx (hM H.size) cw ⟨wC.blind, hrec, wC.pre (mu_left hP) (mu_leftD hD) hK hN⟩ rfl hn hsize rfl (lv_room hW) hdg hf) hS (fun q _ h => mu_own hD hS hA q h) (mu_own hD hS hA) (fun r u t H1 locs1 ht hvm hw hB hz hk hS1 => ?_)
  obtain ⟨hP1, hD1⟩ := hB
  rw [ht] at hP1
  obtain ⟨hP2, hD2⟩ := mu_join hP hD hS hA hk hP1 hD1
  exact k r u H1 locs1 hw hP2 hD2 hS1
theorem mu_cVv {post : S → Prop} (Fx : CallFix p m c cc nL s args lw_all own) (hM : MUv l y cy maxL ret rm (.ref b :: As) D cA ws post w1 mc ms) (cw : CallW R s args own C index y cy maxL ret (ws_ y cy maxL ret) rm mc ms n) (hP : va_P D xCl (ws ++ wr) H) (hD : va_D A (ws ++ wr)) (hS : va_S A H0 H locs) (hA : ∀ q, H0.size ≤ q → A q) (hK : va_K D xCl (xT cA) s) (hN : xN s)
    (hrec : ∃ cell : Cell, H[b]? = some cell ∧ cell.vm.isStatics = false ∧ s.vm.findClass C = some cell.cls) (hn : As.length = n) (hsize : ls.size = nL) (hst : st = As.reverse ++ .ref b :: rest) (hW : (rest.map fun v => v.category).sum ≤ 8) (hdg : decode cc pc = .ok (.invokevirtual index, 3)) (hf : cells + mc ≤ R.cells ∧ slots + ms ≤ R.slots)
    (k : ∀ (u : S) (H1 : Heap) (locs1 : List Loc), post u → va_P D xCl (w1 u ++ wr) H1 → va_D A (w1 u ++ wr) → va_S A H0 H1 locs1 → W p l e R s m args below meth c H1 locs1 (cells + mc) (slots + ms) Q (F0 m (pc + 3) ls rest)) : W p l e R s m args below meth c H locs cells slots Q (F0 m pc ls st) := by
  subst hst
  refine va_callv (va_runV (rest := rest) Fx (hM H.size) cw ⟨wC.blind, hrec, wC.pre (mu_left hP) (mu_leftD hD) hK hN⟩ rfl hn hsize rfl (lv_room hW) hdg hf) hS (fun q _ h => mu_own hD hS hA q h) (mu_own hD hS hA) (fun u t H1 locs1 ht hvm hw hB hz hk hS1 => ?_)
  obtain ⟨hP1, hD1⟩ := hB
  rw [ht] at hP1
  obtain ⟨hP2, hD2⟩ := mu_join hP hD hS hA hk hP1 hD1
  exact k u H1 locs1 hw hP2 hD2 hS1
/-- the same, the callee's cells being all the caller's -/
theorem mu_aVi {post : Int32 → S → Prop} (Fx : CallFix p m c cc nL s args lw_all own) (hM : MUi l y cy maxL ret rm (.ref b :: As) D cA ws post w1 mc ms) (cw : CallW R s args own C index y cy maxL ret (ws_ y cy maxL ret) rm mc ms n) (hP : va_P D xCl ws H) (hD : va_D A ws) (hS : va_S A H0 H locs) (hA : ∀ q, H0.size ≤ q → A q) (hK : va_K D xCl (xT cA) s) (hN : xN s)
    (hrec : ∃ cell : Cell, H[b]? = some cell ∧ cell.vm.isStatics = false ∧ s.vm.findClass C = some cell.cls) (hn : As.length = n) (hsize : ls.size = nL) (hst : st = As.reverse ++ .ref b :: rest) (hW : (rest.map fun v => v.category).sum ≤ 8) (hdg : decode cc pc = .ok (.invokevirtual index, 3)) (hf : cells + mc ≤ R.cells ∧ slots + ms ≤ R.slots)
    (k : ∀ (r : Int32) (u : S) (H1 : Heap) (locs1 : List Loc), post r u → va_P D xCl (w1 u) H1 → va_D A (w1 u) → va_S A H0 H1 locs1 → W p l e R s m args below meth c H1 locs1 (cells + mc) (slots + ms) Q (F0 m (pc + 3) ls (.int r :: rest))) : W p l e R s m args below meth c H locs cells slots Q (F0 m pc ls st) := by
  have hP' : va_P D xCl (ws ++ []) H := by rw [List.append_nil]; exact hP
  have hD' : va_D A (ws ++ []) := by rw [List.append_nil]; exact hD
  refine mu_cVi (wr := []) Fx hM cw hP' hD' hS hA hK hN hrec hn hsize hst hW hdg hf (fun r u H1 locs1 h1 h2 h3 h4 => ?_)
  rw [List.append_nil] at h2 h3
  exact k r u H1 locs1 h1 h2 h3 h4
theorem mu_aVv {post : S → Prop} (Fx : CallFix p m c cc nL s args lw_all own) (hM : MUv l y cy maxL ret rm (.ref b :: As) D cA ws post w1 mc ms) (cw : CallW R s args own C index y cy maxL ret (ws_ y cy maxL ret) rm mc ms n) (hP : va_P D xCl ws H) (hD : va_D A ws) (hS : va_S A H0 H locs) (hA : ∀ q, H0.size ≤ q → A q) (hK : va_K D xCl (xT cA) s) (hN : xN s)
    (hrec : ∃ cell : Cell, H[b]? = some cell ∧ cell.vm.isStatics = false ∧ s.vm.findClass C = some cell.cls) (hn : As.length = n) (hsize : ls.size = nL) (hst : st = As.reverse ++ .ref b :: rest) (hW : (rest.map fun v => v.category).sum ≤ 8) (hdg : decode cc pc = .ok (.invokevirtual index, 3)) (hf : cells + mc ≤ R.cells ∧ slots + ms ≤ R.slots)
    (k : ∀ (u : S) (H1 : Heap) (locs1 : List Loc), post u → va_P D xCl (w1 u) H1 → va_D A (w1 u) → va_S A H0 H1 locs1 → W p l e R s m args below meth c H1 locs1 (cells + mc) (slots + ms) Q (F0 m (pc + 3) ls rest)) : W p l e R s m args below meth c H locs cells slots Q (F0 m pc ls st) := by
  have hP' : va_P D xCl (ws ++ []) H := by rw [List.append_nil]; exact hP
  have hD' : va_D A (ws ++ []) := by rw [List.append_nil]; exact hD
  refine mu_cVv (wr := []) Fx hM cw hP' hD' hS hA hK hN hrec hn hsize hst hW hdg hf (fun u H1 locs1 h1 h2 h3 h4 => ?_)
  rw [List.append_nil] at h2 h3
  exact k u H1 locs1 h1 h2 h3 h4
end RMD
