/-! writing the component's rules -/
set_option maxRecDepth 100000
theorem rV_set (f : Nat → Nat) (v : Nat) : ∀ {k : Nat}, k < 6 → (rV f).set k (.int (nI v)) = rV (va_up f k v)
  | 0, _ => rfl
  | 1, _ => rfl
  | 2, _ => rfl
  | 3, _ => rfl
  | 4, _ => rfl
  | 5, _ => rfl
  | k + 6, h => absurd h (by omega)
theorem cW_setR {b ra : Nat → Nat} {cA : Nat → ClassId} {cN : Nat → Nat} {cV : Nat → Nat → Nat} {cM : Nat → Nat} {cR : Nat → Nat → Nat} {kp : Nat → Bool} {nu : Nat → Option Nat} {sO tO fS sP : Nat → Nat} {sN lA : Nat → Option Nat} {tG : Nat → Nat} {i k v : Nat} (hk : k < 6) : (cW b ra cA cN cV cM cR kp nu sO tO fS sP sN lA tG).set (22 + i) (ra i, .inr (2, (rV (cR i)).set k (.int (nI v)))) = cW b ra cA cN cV cM (va_up cR i (va_up (cR i) k v)) kp nu sO tO fS sP sN lA tG := by
  unfold cW
  rw [rg_set (k := 22) _ _ _ rfl, rV_set _ _ hk]
  congr 2
  funext j
  unfold va_up rC
  by_cases e : j = i
  · subst e
    simp
  · simp [e]
section RMF
variable {p : Program} {l : Launch} {e : Env} {R : Room} {s : State} {m : MethodId} {args : Array Value} {below : List Frame} {meth : Method} {c : Code} {H : Heap} {locs : List Loc} {cells slots : Nat} {Q : State → Prop} {cc : ByteArray} {pc : Nat} {ls : Array Slot} {rest : List Value}
  {D : va_G} {cA : Nat → ClassId} {ws : va_W} {a n k x : Nat} {A : Nat → Prop} {H0 : Heap}
theorem cpy_nA (f g : Nat → Nat) : va_cpy (nA f) (nA g) 0 0 10 = nA (va_cpy f g 0 0 10) := by
  funext j
  show (if 0 ≤ j ∧ j < 0 + 10 then nI (f (0 + (j - 0))) else nI (g j)) = nI (if 0 ≤ j ∧ j < 0 + 10 then f (0 + (j - 0)) else g j)
  split <;> rfl
/-- ten ints copied from an array to another -/
theorem rm_cpy10 (hx : p.tables.exec = Jvm.exec) (hb : c.code = cc) (hml : c.maxLocals = ls.size) {own : String} {index : Nat} (hown : s.vm.findClass own = some m.cls) (hlink : (Cond.methodLink own index arraycopyName).before args s = true) (hnat : (Cond.native arraycopyName).before args s = true) (hstat : (Cond.static arraycopyName).before args s = true) (hini : (Cond.initialized "java/lang/System").before args s = true)
    (hK : va_K D xCl (xT cA) s) (hP : va_P D xCl ws H) (hD : va_D A ws) (hS : va_S A H0 H locs) (q0 q1 : Nat) {a0 : Nat} {f g : Nat → Nat} (ha0 : ws[q0]? = some (a0, .inl (cA 0, 10, .inl (nA f)))) (ha1 : ws[q1]? = some (a, .inl (cA 0, 10, .inl (nA g)))) {ws' : va_W} (hw : ws.set q1 (a, .inl (cA 0, 10, .inl (nA (va_cpy f g 0 0 10)))) = ws')
    (hframes : 1 ≤ R.frames) (hlocals : (rest.map fun v => v.category).sum + (nativeFrameWords "java/lang/System" "arraycopy" 5 + 11) ≤ R.locals) (hdg : decode cc pc = .ok (.invokestatic index, 3))
    (kk : ∀ (H1 : Heap) (locs1 : List Loc), va_P D xCl ws' H1 → va_D A ws' → va_S A H0 H1 locs1 → W p l e R s m args below meth c H1 locs1 cells slots Q (F0 m (pc + 3) ls rest)) : W p l e R s m args below meth c H locs cells slots Q (F0 m pc ls (.int (nI 10) :: .int (nI 0) :: .ref a :: .int (nI 0) :: .ref a0 :: rest)) := by
  refine va_copyi hx hb hml hown hlink hnat hstat hini hK hP hD hS q0 q1 0 0 ha0 ha1 (xt0 cA) (xt0 cA) rfl (by decide) (by decide) (by decide) (by decide) (by decide) (fun i _ => rfl) hframes hlocals hdg (fun H1 locs1 h1 h2 h3 => ?_)
  rw [show (nI 0).toNatClampNeg = 0 from rfl, show (nI 10).toNatClampNeg = 10 from rfl, cpy_nA, hw] at h1 h2
  exact kk H1 locs1 h1 h2 h3
end RMF
