set_option maxRecDepth 100000
/-! numbers: nI of a Nat, bI of a Bool, oI of an Option (none: -6), dI of a direction -/
def bI (b : Bool) : Int32 := if b then 1 else 0
def oI (o : Option Nat) : Int32 := match o with
  | none => -6
  | some k => nI k
def dI (up : Bool) : Int32 := if up then 1 else -1
def nA (f : Nat → Nat) : Nat → Int32 := fun j => nI (f j)
def bA (f : Nat → Bool) : Nat → Int32 := fun j => bI (f j)
def oA (f : Nat → Option Nat) : Nat → Int32 := fun j => oI (f j)
theorem upd_nA (f : Nat → Nat) (k v : Nat) : upd (nA f) k (nI v) = nA (va_up f k v) := by
  funext j
  unfold upd nA va_up
  split <;> rfl
theorem upd_bA (f : Nat → Bool) (k : Nat) (v : Bool) : upd (bA f) k (bI v) = bA (va_up f k v) := by
  funext j
  unfold upd bA va_up
  split <;> rfl
theorem upd_oA (f : Nat → Option Nat) (k : Nat) (v : Option Nat) : upd (oA f) k (oI v) = oA (va_up f k v) := by
  funext j
  unfold upd oA va_up
  split <;> rfl
theorem nar_bI (b : Bool) : narrow .boolean (.int (bI b)) = .int (bI b) := by cases b <;> rfl
theorem vnar_bI (b : Bool) : vp_nar .boolean (bI b) = bI b := by cases b <;> rfl
theorem fit_bI (b : Bool) : fits .boolean (.int (bI b)) = true := by cases b <;> rfl
theorem bI_eq0 {b : Bool} : bI b = 0 ↔ b = false := by cases b <;> decide
theorem bI_ne0 {b : Bool} : ¬ bI b = 0 ↔ b = true := by cases b <;> decide
theorem bI_eq1 {b : Bool} : bI b = nI 1 ↔ b = true := by cases b <;> decide
theorem nI_eq0 {a : Nat} (h : a < 2 ^ 31) : nI a = 0 ↔ a = 0 := by
  rw [← nI_0]; exact nI_eq h (by decide)
theorem nI_or (a b : Nat) : nI a ||| nI b = nI (a ||| b) := by
  apply Int32.toBitVec_inj.1
  show BitVec.ofNat 32 a ||| BitVec.ofNat 32 b = BitVec.ofNat 32 (a ||| b)
  apply BitVec.eq_of_getLsbD_eq
  intro i hi
  simp [hi]
theorem nI_and (a b : Nat) : nI a &&& nI b = nI (a &&& b) := by
  apply Int32.toBitVec_inj.1
  show BitVec.ofNat 32 a &&& BitVec.ofNat 32 b = BitVec.ofNat 32 (a &&& b)
  apply BitVec.eq_of_getLsbD_eq
  intro i hi
  simp [hi]
theorem rm_sl : ∀ n, n < 32 → ((nI n &&& 31).toBitVec.smod 32).toNat = n := by decide +kernel
theorem nI_shr {a k : Nat} (h : a < 2 ^ 31) (hk : k < 32) : nI a >>> (nI k &&& 31) = nI (a >>> k) := by
  rw [pk_shrN h (nI k &&& 31) k (rm_sl k hk), Nat.shiftRight_eq_div_pow]
theorem nI_shl {a k : Nat} (hk : k < 32) (h : a * 2 ^ k < 2 ^ 32) : nI a <<< (nI k &&& 31) = nI (a * 2 ^ k) := pk_shlN (nI k &&& 31) k (rm_sl k hk) h
theorem nI_shl1 {k : Nat} (hk : k < 31) : nI 1 <<< (nI k &&& 31) = nI (2 ^ k) := by
  rw [nI_shl (by omega) (by
    rw [Nat.one_mul]
    exact Nat.pow_lt_pow_right (by decide) (by omega)), Nat.one_mul]
theorem nI_bit (a k : Nat) : nI ((a >>> k) &&& 1) = bI (a.testBit k) := by
  rw [Nat.testBit]
  unfold bI
  rw [Nat.and_one_is_mod, Nat.one_and_eq_mod_two]
  rcases Nat.mod_two_eq_zero_or_one (a >>> k) with h | h <;> rw [h] <;> rfl
theorem nI_idx {a n : Nat} (h : a < n) (hn : n < 2 ^ 31) : vp_in (nI a) n := vp_in_nI h hn

section RMB
variable {p : Program} {l : Launch} {e : Env} {R : Room} {s : State} {m : MethodId} {args : Array Value} {below : List Frame} {meth : Method} {c : Code} {H : Heap} {locs : List Loc} {cells slots : Nat} {Q : State → Prop} {cc : ByteArray} {pc : Nat} {ls : Array Slot} {rest : List Value}

theorem rm_top {x y : Int32} (h : x = y) (k : W p l e R s m args below meth c H locs cells slots Q (F0 m pc ls (.int y :: rest))) : W p l e R s m args below meth c H locs cells slots Q (F0 m pc ls (.int x :: rest)) := by rw [h]; exact k
theorem rm_top2 {x y : Int32} {v : Value} (h : x = y) (k : W p l e R s m args below meth c H locs cells slots Q (F0 m pc ls (v :: .int y :: rest))) : W p l e R s m args below meth c H locs cells slots Q (F0 m pc ls (v :: .int x :: rest)) := by rw [h]; exact k
theorem rm_iadd {a b : Nat} (hx : p.tables.exec = Jvm.exec) (hb : c.code = cc) (hdg : decode cc pc = .ok (.iadd, 1))  (k : W p l e R s m args below meth c H locs cells slots Q (F0 m (pc + 1) ls (.int (nI (a + b)) :: rest))) : W p l e R s m args below meth c H locs cells slots Q (F0 m pc ls (.int (nI b) :: .int (nI a) :: rest)) := lv_iadd hx hb hdg (rm_top (nI_add a b) k)
theorem rm_isub {a b : Nat} (hx : p.tables.exec = Jvm.exec) (hb : c.code = cc) (hdg : decode cc pc = .ok (.isub, 1)) (h : b ≤ a) (k : W p l e R s m args below meth c H locs cells slots Q (F0 m (pc + 1) ls (.int (nI (a - b)) :: rest))) : W p l e R s m args below meth c H locs cells slots Q (F0 m pc ls (.int (nI b) :: .int (nI a) :: rest)) := lv_isub hx hb hdg (rm_top (pk_sub h) k)
theorem rm_imul {a b : Nat} (hx : p.tables.exec = Jvm.exec) (hb : c.code = cc) (hdg : decode cc pc = .ok (.imul, 1))  (k : W p l e R s m args below meth c H locs cells slots Q (F0 m (pc + 1) ls (.int (nI (a * b)) :: rest))) : W p l e R s m args below meth c H locs cells slots Q (F0 m pc ls (.int (nI b) :: .int (nI a) :: rest)) := lv_imul hx hb hdg (rm_top (pk_mul a b) k)
theorem rm_idiv {a b : Nat} (hx : p.tables.exec = Jvm.exec) (hb : c.code = cc) (hdg : decode cc pc = .ok (.idiv, 1)) (h0 : 0 < b) (h2 : b < 2 ^ 31) (h1 : a < 2 ^ 31) (k : W p l e R s m args below meth c H locs cells slots Q (F0 m (pc + 1) ls (.int (nI (a / b)) :: rest))) : W p l e R s m args below meth c H locs cells slots Q (F0 m pc ls (.int (nI b) :: .int (nI a) :: rest)) := lv_idiv hx hb hdg (nI_ne0 h0 h2) (rm_top (pk_div h1 h0 h2) k)
theorem rm_irem {a b : Nat} (hx : p.tables.exec = Jvm.exec) (hb : c.code = cc) (hdg : decode cc pc = .ok (.irem, 1)) (h0 : 0 < b) (h2 : b < 2 ^ 31) (h1 : a < 2 ^ 31) (k : W p l e R s m args below meth c H locs cells slots Q (F0 m (pc + 1) ls (.int (nI (a % b)) :: rest))) : W p l e R s m args below meth c H locs cells slots Q (F0 m pc ls (.int (nI b) :: .int (nI a) :: rest)) := lv_irem hx hb hdg (nI_ne0 h0 h2) (rm_top (pk_rem h1 h0 h2) k)
theorem rm_ior {a b : Nat} (hx : p.tables.exec = Jvm.exec) (hb : c.code = cc) (hdg : decode cc pc = .ok (.ior, 1))  (k : W p l e R s m args below meth c H locs cells slots Q (F0 m (pc + 1) ls (.int (nI (a ||| b)) :: rest))) : W p l e R s m args below meth c H locs cells slots Q (F0 m pc ls (.int (nI b) :: .int (nI a) :: rest)) := lv_ior hx hb hdg (rm_top (nI_or a b) k)
theorem rm_iand {a b : Nat} (hx : p.tables.exec = Jvm.exec) (hb : c.code = cc) (hdg : decode cc pc = .ok (.iand, 1))  (k : W p l e R s m args below meth c H locs cells slots Q (F0 m (pc + 1) ls (.int (nI (a &&& b)) :: rest))) : W p l e R s m args below meth c H locs cells slots Q (F0 m pc ls (.int (nI b) :: .int (nI a) :: rest)) := lv_iand hx hb hdg (rm_top (nI_and a b) k)
theorem rm_ishr {a b : Nat} (hx : p.tables.exec = Jvm.exec) (hb : c.code = cc) (hdg : decode cc pc = .ok (.ishr, 1)) (h1 : a < 2 ^ 31) (h2 : b < 32) (k : W p l e R s m args below meth c H locs cells slots Q (F0 m (pc + 1) ls (.int (nI (a >>> b)) :: rest))) : W p l e R s m args below meth c H locs cells slots Q (F0 m pc ls (.int (nI b) :: .int (nI a) :: rest)) := lv_ishr hx hb hdg (rm_top (nI_shr h1 h2) k)
theorem rm_ishl1 {b : Nat} (hx : p.tables.exec = Jvm.exec) (hb : c.code = cc) (hdg : decode cc pc = .ok (.ishl, 1)) (h : b < 31) (k : W p l e R s m args below meth c H locs cells slots Q (F0 m (pc + 1) ls (.int (nI (2 ^ b)) :: rest))) : W p l e R s m args below meth c H locs cells slots Q (F0 m pc ls (.int (nI b) :: .int (nI 1) :: rest)) := lv_ishl hx hb hdg (rm_top (nI_shl1 h) k)
theorem rm_bit {a b : Nat} (hx : p.tables.exec = Jvm.exec) (hb : c.code = cc) (hdg : decode cc pc = .ok (.iand, 1)) (k : W p l e R s m args below meth c H locs cells slots Q (F0 m (pc + 1) ls (.int (bI (a.testBit b)) :: rest))) : W p l e R s m args below meth c H locs cells slots Q (F0 m pc ls (.int (nI 1) :: .int (nI (a >>> b)) :: rest)) := lv_iand hx hb hdg (rm_top ((nI_and _ _).trans (nI_bit a b)) k)
theorem rm_ceq {a b : Nat} {off : Int} {tgt : Nat} (hx : p.tables.exec = Jvm.exec) (hb : c.code = cc) (hdg : decode cc pc = .ok (.if_icmp .eq off, 3)) (ht : (pc : Int) + off = (tgt : Int)) (h1 : a < 2 ^ 31) (h2 : b < 2 ^ 31) (kt : a = b → W p l e R s m args below meth c H locs cells slots Q (F0 m tgt ls rest)) (kf : ¬ a = b → W p l e R s m args below meth c H locs cells slots Q (F0 m (pc + 3) ls rest)) : W p l e R s m args below meth c H locs cells slots Q (F0 m pc ls (.int (nI b) :: .int (nI a) :: rest)) := lv_icmp_eq hx hb hdg ht (fun q => kt ((nI_eq h1 h2).mp q)) (fun q => kf (fun e => q ((nI_eq h1 h2).mpr e)))
theorem rm_cne {a b : Nat} {off : Int} {tgt : Nat} (hx : p.tables.exec = Jvm.exec) (hb : c.code = cc) (hdg : decode cc pc = .ok (.if_icmp .ne off, 3)) (ht : (pc : Int) + off = (tgt : Int)) (h1 : a < 2 ^ 31) (h2 : b < 2 ^ 31) (kt : ¬ a = b → W p l e R s m args below meth c H locs cells slots Q (F0 m tgt ls rest)) (kf : a = b → W p l e R s m args below meth c H locs cells slots Q (F0 m (pc + 3) ls rest)) : W p l e R s m args below meth c H locs cells slots Q (F0 m pc ls (.int (nI b) :: .int (nI a) :: rest)) := lv_icmp_ne hx hb hdg ht (fun q => kt (fun e => q ((nI_eq h1 h2).mpr e))) (fun q => kf ((nI_eq h1 h2).mp q))
theorem rm_clt {a b : Nat} {off : Int} {tgt : Nat} (hx : p.tables.exec = Jvm.exec) (hb : c.code = cc) (hdg : decode cc pc = .ok (.if_icmp .lt off, 3)) (ht : (pc : Int) + off = (tgt : Int)) (h1 : a < 2 ^ 31) (h2 : b < 2 ^ 31) (kt : a < b → W p l e R s m args below meth c H locs cells slots Q (F0 m tgt ls rest)) (kf : b ≤ a → W p l e R s m args below meth c H locs cells slots Q (F0 m (pc + 3) ls rest)) : W p l e R s m args below meth c H locs cells slots Q (F0 m pc ls (.int (nI b) :: .int (nI a) :: rest)) := lv_icmp_lt hx hb hdg ht (fun q => kt ((nI_ltI h1 h2).mp q)) (fun q => kf (Nat.not_lt.mp fun e => q ((nI_ltI h1 h2).mpr e)))
theorem rm_cge {a b : Nat} {off : Int} {tgt : Nat} (hx : p.tables.exec = Jvm.exec) (hb : c.code = cc) (hdg : decode cc pc = .ok (.if_icmp .ge off, 3)) (ht : (pc : Int) + off = (tgt : Int)) (h1 : a < 2 ^ 31) (h2 : b < 2 ^ 31) (kt : b ≤ a → W p l e R s m args below meth c H locs cells slots Q (F0 m tgt ls rest)) (kf : a < b → W p l e R s m args below meth c H locs cells slots Q (F0 m (pc + 3) ls rest)) : W p l e R s m args below meth c H locs cells slots Q (F0 m pc ls (.int (nI b) :: .int (nI a) :: rest)) := lv_icmp_ge hx hb hdg ht (fun q => kt ((nI_leI h2 h1).mp q)) (fun q => kf (Nat.not_le.mp fun e => q ((nI_leI h2 h1).mpr e)))
theorem rm_cgt {a b : Nat} {off : Int} {tgt : Nat} (hx : p.tables.exec = Jvm.exec) (hb : c.code = cc) (hdg : decode cc pc = .ok (.if_icmp .gt off, 3)) (ht : (pc : Int) + off = (tgt : Int)) (h1 : a < 2 ^ 31) (h2 : b < 2 ^ 31) (kt : b < a → W p l e R s m args below meth c H locs cells slots Q (F0 m tgt ls rest)) (kf : a ≤ b → W p l e R s m args below meth c H locs cells slots Q (F0 m (pc + 3) ls rest)) : W p l e R s m args below meth c H locs cells slots Q (F0 m pc ls (.int (nI b) :: .int (nI a) :: rest)) := lv_icmp_gt hx hb hdg ht (fun q => kt ((nI_ltI h2 h1).mp q)) (fun q => kf (Nat.not_lt.mp fun e => q ((nI_ltI h2 h1).mpr e)))
theorem rm_cle {a b : Nat} {off : Int} {tgt : Nat} (hx : p.tables.exec = Jvm.exec) (hb : c.code = cc) (hdg : decode cc pc = .ok (.if_icmp .le off, 3)) (ht : (pc : Int) + off = (tgt : Int)) (h1 : a < 2 ^ 31) (h2 : b < 2 ^ 31) (kt : a ≤ b → W p l e R s m args below meth c H locs cells slots Q (F0 m tgt ls rest)) (kf : b < a → W p l e R s m args below meth c H locs cells slots Q (F0 m (pc + 3) ls rest)) : W p l e R s m args below meth c H locs cells slots Q (F0 m pc ls (.int (nI b) :: .int (nI a) :: rest)) := lv_icmp_le hx hb hdg ht (fun q => kt ((nI_leI h1 h2).mp q)) (fun q => kf (Nat.not_le.mp fun e => q ((nI_leI h1 h2).mpr e)))
theorem rm_ieq {a : Nat} {off : Int} {tgt : Nat} (hx : p.tables.exec = Jvm.exec) (hb : c.code = cc) (hdg : decode cc pc = .ok (.ifCond .eq off, 3)) (ht : (pc : Int) + off = (tgt : Int)) (h1 : a < 2 ^ 31) (kt : a = 0 → W p l e R s m args below meth c H locs cells slots Q (F0 m tgt ls rest)) (kf : 0 < a → W p l e R s m args below meth c H locs cells slots Q (F0 m (pc + 3) ls rest)) : W p l e R s m args below meth c H locs cells slots Q (F0 m pc ls (.int (nI a) :: rest)) := lv_if_eq hx hb hdg ht (fun q => kt ((nI_eq0 h1).mp q)) (fun q => kf (Nat.pos_of_ne_zero fun e => q ((nI_eq0 h1).mpr e)))
theorem rm_ine {a : Nat} {off : Int} {tgt : Nat} (hx : p.tables.exec = Jvm.exec) (hb : c.code = cc) (hdg : decode cc pc = .ok (.ifCond .ne off, 3)) (ht : (pc : Int) + off = (tgt : Int)) (h1 : a < 2 ^ 31) (kt : 0 < a → W p l e R s m args below meth c H locs cells slots Q (F0 m tgt ls rest)) (kf : a = 0 → W p l e R s m args below meth c H locs cells slots Q (F0 m (pc + 3) ls rest)) : W p l e R s m args below meth c H locs cells slots Q (F0 m pc ls (.int (nI a) :: rest)) := lv_if_ne hx hb hdg ht (fun q => kt (Nat.pos_of_ne_zero fun e => q ((nI_eq0 h1).mpr e))) (fun q => kf ((nI_eq0 h1).mp q))
theorem rm_igt {a : Nat} {off : Int} {tgt : Nat} (hx : p.tables.exec = Jvm.exec) (hb : c.code = cc) (hdg : decode cc pc = .ok (.ifCond .gt off, 3)) (ht : (pc : Int) + off = (tgt : Int)) (h1 : a < 2 ^ 31) (kt : 0 < a → W p l e R s m args below meth c H locs cells slots Q (F0 m tgt ls rest)) (kf : a = 0 → W p l e R s m args below meth c H locs cells slots Q (F0 m (pc + 3) ls rest)) : W p l e R s m args below meth c H locs cells slots Q (F0 m pc ls (.int (nI a) :: rest)) := lv_if_gt hx hb hdg ht (fun q => kt (Nat.pos_of_ne_zero fun e => absurd q (by rw [e]; decide))) (fun q => kf (Nat.le_zero.mp ((nI_leI h1 (by decide)).mp (Int32.not_lt.mp q))))
theorem rm_ile {a : Nat} {off : Int} {tgt : Nat} (hx : p.tables.exec = Jvm.exec) (hb : c.code = cc) (hdg : decode cc pc = .ok (.ifCond .le off, 3)) (ht : (pc : Int) + off = (tgt : Int)) (h1 : a < 2 ^ 31) (kt : a = 0 → W p l e R s m args below meth c H locs cells slots Q (F0 m tgt ls rest)) (kf : 0 < a → W p l e R s m args below meth c H locs cells slots Q (F0 m (pc + 3) ls rest)) : W p l e R s m args below meth c H locs cells slots Q (F0 m pc ls (.int (nI a) :: rest)) := lv_if_le hx hb hdg ht (fun q => kt (Nat.le_zero.mp ((nI_leI h1 (by decide)).mp q))) (fun q => kf (Nat.pos_of_ne_zero fun e => q (by rw [e]; decide)))
theorem rm_ilt {a : Nat} {off : Int} {tgt : Nat} (hx : p.tables.exec = Jvm.exec) (hb : c.code = cc) (hdg : decode cc pc = .ok (.ifCond .lt off, 3)) (ht : (pc : Int) + off = (tgt : Int)) (h1 : a < 2 ^ 31) (kf : W p l e R s m args below meth c H locs cells slots Q (F0 m (pc + 3) ls rest)) : W p l e R s m args below meth c H locs cells slots Q (F0 m pc ls (.int (nI a) :: rest)) := lv_if_lt hx hb hdg ht (fun q => absurd q (nI_pos h1)) (fun _ => kf)
theorem rm_ige {a : Nat} {off : Int} {tgt : Nat} (hx : p.tables.exec = Jvm.exec) (hb : c.code = cc) (hdg : decode cc pc = .ok (.ifCond .ge off, 3)) (ht : (pc : Int) + off = (tgt : Int)) (h1 : a < 2 ^ 31) (kt : W p l e R s m args below meth c H locs cells slots Q (F0 m tgt ls rest)) : W p l e R s m args below meth c H locs cells slots Q (F0 m pc ls (.int (nI a) :: rest)) := lv_if_ge hx hb hdg ht (fun _ => kt) (fun q => absurd (nI_pos' h1) q)
theorem rm_olt {x : Option Nat} {off : Int} {tgt : Nat} (hx : p.tables.exec = Jvm.exec) (hb : c.code = cc) (hdg : decode cc pc = .ok (.ifCond .lt off, 3)) (ht : (pc : Int) + off = (tgt : Int)) (h1 : ∀ v, x = some v → v < 2 ^ 31) (kt : x = none → W p l e R s m args below meth c H locs cells slots Q (F0 m tgt ls rest)) (kf : (∃ v, x = some v) → W p l e R s m args below meth c H locs cells slots Q (F0 m (pc + 3) ls rest)) : W p l e R s m args below meth c H locs cells slots Q (F0 m pc ls (.int (oI x) :: rest)) := by
  cases x with
  | none => exact lv_if_lt hx hb hdg ht (fun _ => kt rfl) (fun q => absurd (by decide) q)
  | some v => exact lv_if_lt hx hb hdg ht (fun q => absurd q (nI_pos (h1 v rfl))) (fun _ => kf ⟨v, rfl⟩)
theorem rm_oge {x : Option Nat} {off : Int} {tgt : Nat} (hx : p.tables.exec = Jvm.exec) (hb : c.code = cc) (hdg : decode cc pc = .ok (.ifCond .ge off, 3)) (ht : (pc : Int) + off = (tgt : Int)) (h1 : ∀ v, x = some v → v < 2 ^ 31) (kt : (∃ v, x = some v) → W p l e R s m args below meth c H locs cells slots Q (F0 m tgt ls rest)) (kf : x = none → W p l e R s m args below meth c H locs cells slots Q (F0 m (pc + 3) ls rest)) : W p l e R s m args below meth c H locs cells slots Q (F0 m pc ls (.int (oI x) :: rest)) := by
  cases x with
  | none => exact lv_if_ge hx hb hdg ht (fun q => absurd q (by decide)) (fun _ => kf rfl)
  | some v => exact lv_if_ge hx hb hdg ht (fun _ => kt ⟨v, rfl⟩) (fun q => absurd (nI_pos' (h1 v rfl)) q)
theorem rm_beq {x : Bool} {off : Int} {tgt : Nat} (hx : p.tables.exec = Jvm.exec) (hb : c.code = cc) (hdg : decode cc pc = .ok (.ifCond .eq off, 3)) (ht : (pc : Int) + off = (tgt : Int)) (kt : x = false → W p l e R s m args below meth c H locs cells slots Q (F0 m tgt ls rest)) (kf : x = true → W p l e R s m args below meth c H locs cells slots Q (F0 m (pc + 3) ls rest)) : W p l e R s m args below meth c H locs cells slots Q (F0 m pc ls (.int (bI x) :: rest)) := lv_if_eq hx hb hdg ht (fun q => kt (bI_eq0.mp q)) (fun q => kf (bI_ne0.mp q))
theorem rm_bne {x : Bool} {off : Int} {tgt : Nat} (hx : p.tables.exec = Jvm.exec) (hb : c.code = cc) (hdg : decode cc pc = .ok (.ifCond .ne off, 3)) (ht : (pc : Int) + off = (tgt : Int)) (kt : x = true → W p l e R s m args below meth c H locs cells slots Q (F0 m tgt ls rest)) (kf : x = false → W p l e R s m args below meth c H locs cells slots Q (F0 m (pc + 3) ls rest)) : W p l e R s m args below meth c H locs cells slots Q (F0 m pc ls (.int (bI x) :: rest)) := lv_if_ne hx hb hdg ht (fun q => kt (bI_ne0.mp q)) (fun q => kf (bI_eq0.mp q))
theorem rm_b1eq {x : Bool} {off : Int} {tgt : Nat} (hx : p.tables.exec = Jvm.exec) (hb : c.code = cc) (hdg : decode cc pc = .ok (.if_icmp .eq off, 3)) (ht : (pc : Int) + off = (tgt : Int)) (kt : x = true → W p l e R s m args below meth c H locs cells slots Q (F0 m tgt ls rest)) (kf : x = false → W p l e R s m args below meth c H locs cells slots Q (F0 m (pc + 3) ls rest)) : W p l e R s m args below meth c H locs cells slots Q (F0 m pc ls (.int (nI 1) :: .int (bI x) :: rest)) := lv_icmp_eq hx hb hdg ht (fun q => kt (bI_eq1.mp q)) (fun q => kf (by cases x; rfl; exact absurd rfl q))
theorem rm_b1ne {x : Bool} {off : Int} {tgt : Nat} (hx : p.tables.exec = Jvm.exec) (hb : c.code = cc) (hdg : decode cc pc = .ok (.if_icmp .ne off, 3)) (ht : (pc : Int) + off = (tgt : Int)) (kt : x = false → W p l e R s m args below meth c H locs cells slots Q (F0 m tgt ls rest)) (kf : x = true → W p l e R s m args below meth c H locs cells slots Q (F0 m (pc + 3) ls rest)) : W p l e R s m args below meth c H locs cells slots Q (F0 m pc ls (.int (nI 1) :: .int (bI x) :: rest)) := lv_icmp_ne hx hb hdg ht (fun q => kt (by cases x; rfl; exact absurd rfl q)) (fun q => kf (bI_eq1.mp q))
end RMB
/-! ===== the classes, the array types, nest words ===== -/
def xCl : List vw_C := [(RX0, TX0, 13), (RX1, TX1, 4), (RX2, TX2, 6), (RX4, TX4, 2), (RX5, TX5, 2), (RX6, TX6, 14), (RX7, TX7, 1), (RX8, TX8, 2), (RX9, TX9, 2), (RX10, TX10, 6)]
theorem xc0 : xCl[0]? = some (RX0, TX0, 13) := rfl
theorem xc1 : xCl[1]? = some (RX1, TX1, 4) := rfl
theorem xc2 : xCl[2]? = some (RX2, TX2, 6) := rfl
theorem xc3 : xCl[3]? = some (RX4, TX4, 2) := rfl
theorem xc4 : xCl[4]? = some (RX5, TX5, 2) := rfl
theorem xc5 : xCl[5]? = some (RX6, TX6, 14) := rfl
theorem xc6 : xCl[6]? = some (RX7, TX7, 1) := rfl
theorem xc7 : xCl[7]? = some (RX8, TX8, 2) := rfl
theorem xc8 : xCl[8]? = some (RX9, TX9, 2) := rfl
theorem xc9 : xCl[9]? = some (RX10, TX10, 6) := rfl
def xT (cA : Nat → ClassId) : List (ClassId × FieldType) := [(cA 0, .int), (cA 1, .boolean), (cA 2, .object "RingMeets$Rule"), (cA 3, .object "RingMeets$Desk")]
theorem xt0 (cA : Nat → ClassId) : (xT cA)[0]? = some (cA 0, .int) := rfl
theorem xt1 (cA : Nat → ClassId) : (xT cA)[1]? = some (cA 1, .boolean) := rfl
theorem xt2 (cA : Nat → ClassId) : (xT cA)[2]? = some (cA 2, .object "RingMeets$Rule") := rfl
theorem xt3 (cA : Nat → ClassId) : (xT cA)[3]? = some (cA 3, .object "RingMeets$Desk") := rfl
def xNest (w : Cond) : Bool := match w with
  | .fieldLinkNest _ _ _ _ _ _ => true
  | .methodLinkNest _ _ _ _ => true
  | _ => false
/-- the words that don't ride in the lists: nest mates' links, arrays over our classes -/
def xN (U : State) : Prop := (∀ w ∈ lw_tbl, xNest w = true → va_Nw w U) ∧ va_AO "RingMeets$Rule" U ∧ va_AO "RingMeets$Desk" U
theorem xN_nest {w : Cond} (h : xNest w = true) {s U : State} (hW : s.WarmedH U.vm) (hZ : va_Nw w s) : va_Nw w U := by
  cases w with
  | fieldLinkNest a i b n d h => exact hZ.warmF hW
  | methodLinkNest a i x h => exact hZ.warmM hW
  | _ => exact absurd h (by simp [xNest])
theorem xN.warm {s U : State} (hW : s.WarmedH U.vm) (h : xN s) : xN U := ⟨fun w hw hn => xN_nest hn hW (h.1 w hw hn), h.2.1.moved hW.alike, h.2.2.moved hW.alike⟩
theorem xNest_tables {w : Cond} (h : xNest w = true) : w.onTables = true := by
  cases w with
  | fieldLinkNest a i b n d h => rfl
  | methodLinkNest a i x h => rfl
  | _ => exact absurd h (by simp [xNest])
theorem xN.calling {U : State} {g : JFrame} {mk : MethodId} {a : Array Value} (h : xN U) : xN (U.calling g mk a) := ⟨fun w hw hn => va_Nw.same (u := U) (U := U.calling g mk a) (xNest_tables hn) rfl (h.1 w hw hn), h.2.1.moved (Vm.Alike.refl U.vm), h.2.2.moved (Vm.Alike.refl U.vm)⟩
/-- what a method needs of its start: the cells ws, the classes, the nest words -/
def wB (D : va_G) (cA : Nat → ClassId) (ws : va_W) (U : State) : Prop := va_P D xCl ws U.heap ∧ va_K D xCl (xT cA) U ∧ xN U
theorem wB.blind {D : va_G} {cA : Nat → ClassId} {ws : va_W} {av : List Value} : FrameBlind (va_Pc av (wB D cA ws)) := fun _ U _ _ q => ⟨q.1, q.2.1, va_K.moved (u := U) (Vm.Alike.refl U.vm) q.2.2.1, q.2.2.2.calling⟩
theorem wB.pre {D : va_G} {cA : Nat → ClassId} {ws : va_W} {av : List Value} {s : State} {H : Heap} (hP : va_P D xCl ws H) (hK : va_K D xCl (xT cA) s) (hN : xN s) : ∀ U : State, U.heap = H → s.WarmedH U.vm → va_Pc av (wB D cA ws) av.toArray U := fun U hU hW => ⟨rfl, by rw [hU]; exact hP, va_K.moved hW.alike hK, hN.warm hW⟩
/-- a method that only reads: its answer is val, the heap stays -/
abbrev RO (l : Launch) (y : MethodName) (cc : ByteArray) (maxL : Nat) (ret : Option FieldType) (rm : Room) (av : List Value) (B : State → Prop) (val : Int32) : Prop := Met l y (ws_ y cc maxL ret) rm (va_Pc av B) (vp_Si (fun r => r = val)) 0 0 (fun _ => False)
/-- the start of a method that only reads (answer int) -/
theorem ro_int {l : Launch} {y : MethodName} {cc : ByteArray} {maxL : Nat} {rm : Room} {av : List Value} {B : State → Prop} {val : Int32} (hy : plainName y.cls = true) (hlen : (lg_sl av).length ≤ maxL)
    (body : ∀ (p : Program) (e : Env) (s : State) (m : MethodId) (below : List Frame) (meth : Method) (c : Code) (Q : State → Prop) (ls : Array Slot), p.tables.exec = Jvm.exec → c.code = cc → c.maxLocals = maxL → s.vm.findClass y.cls = some m.cls → (∀ w ∈ lw_all, w.before av.toArray s = true) → B s → lv_has ls maxL (lv_args 0 av) →
      (∀ (v : Int32) (pc : Nat) (ls : Array Slot), v = val → decode cc pc = .ok (.ireturn, 1) → W p l e rm s m av.toArray below meth c s.heap [] 0 0 Q (F0 m pc ls [.int v])) → W p l e rm s m av.toArray below meth c s.heap [] 0 0 Q (F0 m 0 ls [])) :
    RO l y cc maxL (some .int) rm av B val := by
  refine Met.ofW (cc := cc) (maxL := maxL) (ret := some .int) hy rfl ?_
  intro p e s m args below meth c s₁ Bd hml hv
  obtain ⟨rfl, hB⟩ := hv
  have hts := atoms_spec (ws := ws_ y cc maxL (some .int)) Bd.pre
  have hl := lv_entry av (n := maxL) hlen
  have hlocks := Bd.notSynchronized
  rw [lg_entry_eq]
  refine body p e s m below meth c _ _ Bd.exec Bd.bytes hml (findClass_of_methodNamed Bd.named) (fun w h => hts w (List.mem_cons_of_mem _ h)) hB hl ?_
  intro v pc ls hv hd
  exact W.iret (v := v) Bd.exec Bd.bytes Bd.returns (fun t ht _ => ⟨v, rfl, hv, ht⟩) (fun q h => by cases h) hd
/-- the start of a method that only reads (answer boolean) -/
theorem ro_bool {l : Launch} {y : MethodName} {cc : ByteArray} {maxL : Nat} {rm : Room} {av : List Value} {B : State → Prop} {val : Bool} (hy : plainName y.cls = true) (hlen : (lg_sl av).length ≤ maxL)
    (body : ∀ (p : Program) (e : Env) (s : State) (m : MethodId) (below : List Frame) (meth : Method) (c : Code) (Q : State → Prop) (ls : Array Slot), p.tables.exec = Jvm.exec → c.code = cc → c.maxLocals = maxL → s.vm.findClass y.cls = some m.cls → (∀ w ∈ lw_all, w.before av.toArray s = true) → B s → lv_has ls maxL (lv_args 0 av) →
      (∀ (v : Int32) (pc : Nat) (ls : Array Slot), v = bI val → decode cc pc = .ok (.ireturn, 1) → W p l e rm s m av.toArray below meth c s.heap [] 0 0 Q (F0 m pc ls [.int v])) → W p l e rm s m av.toArray below meth c s.heap [] 0 0 Q (F0 m 0 ls [])) :
    RO l y cc maxL (some .boolean) rm av B (bI val) := by
  refine Met.ofW (cc := cc) (maxL := maxL) (ret := some .boolean) hy rfl ?_
  intro p e s m args below meth c s₁ Bd hml hv
  obtain ⟨rfl, hB⟩ := hv
  have hts := atoms_spec (ws := ws_ y cc maxL (some .boolean)) Bd.pre
  have hl := lv_entry av (n := maxL) hlen
  have hlocks := Bd.notSynchronized
  rw [lg_entry_eq]
  refine body p e s m below meth c _ _ Bd.exec Bd.bytes hml (findClass_of_methodNamed Bd.named) (fun w h => hts w (List.mem_cons_of_mem _ h)) hB hl ?_
  intro v pc ls hv hd
  subst hv
  exact W.zret (v := bI val) Bd.exec Bd.bytes Bd.returns (nar_bI val) (fun t ht _ => ⟨bI val, rfl, rfl, ht⟩) (fun q h => by cases h) hd
section RMC
variable {p : Program} {l : Launch} {e : Env} {R : Room} {s : State} {m : MethodId} {args : Array Value} {below : List Frame} {meth : Method} {c : Code} {H : Heap} {locs : List Loc} {cells slots : Nat} {Q : State → Prop} {cc : ByteArray} {pc : Nat} {ls : Array Slot} {rest : List Value}
  {D : va_G} {cA : Nat → ClassId} {ws : va_W} {y : MethodName} {cy : ByteArray} {maxL nL n index : Nat} {ret : Option FieldType} {rm : Room} {own C : String} {b : Nat} {As st : List Value} {val : Int32}
/-- a call, through an object, of a method that only reads -/
theorem rm_cV (S : CallFix p m c cc nL s args lw_all own) (hM : RO l y cy maxL ret rm (.ref b :: As) (wB D cA ws) val) (cw : CallW R s args own C index y cy maxL ret (ws_ y cy maxL ret) rm 0 0 n) (hP : va_P D xCl ws H) (hK : va_K D xCl (xT cA) s) (hN : xN s)
    (hrec : ∃ cell : Cell, H[b]? = some cell ∧ cell.vm.isStatics = false ∧ s.vm.findClass C = some cell.cls) (hn : As.length = n) (hsize : ls.size = nL) (hst : st = As.reverse ++ .ref b :: rest) (hW : (rest.map fun v => v.category).sum ≤ 8) (hdg : decode cc pc = .ok (.invokevirtual index, 3)) (hf : cells ≤ R.cells ∧ slots ≤ R.slots)
    (k : W p l e R s m args below meth c H locs cells slots Q (F0 m (pc + 3) ls (.int val :: rest))) : W p l e R s m args below meth c H locs cells slots Q (F0 m pc ls st) := by
  subst hst
  exact vp_callSi (va_Run.run (va_runV (rest := rest) S hM cw ⟨wB.blind, hrec, wB.pre hP hK hN⟩ rfl hn hsize rfl (lv_room hW) hdg hf)) (fun r hr => by subst hr; exact k)
/-- a static call of a method that only reads, and needs no cells -/
theorem rm_cS {B : State → Prop} (S : CallFix p m c cc nL s args lw_all own) (hM : RO l y cy maxL ret rm As B val) (cw : CallB R s args own index y cy maxL ret (ws_ y cy maxL ret) rm 0 0 n ∧ (Cond.static y).before args s = true) (hB : FrameBlind (va_Pc As B) ∧ ∀ U : State, U.heap = H → s.WarmedH U.vm → B U)
    (hn : As.length = n) (hsize : ls.size = nL) (hst : st = As.reverse ++ rest) (hW : (rest.map fun v => v.category).sum ≤ 8) (hdg : decode cc pc = .ok (.invokestatic index, 3)) (hf : cells ≤ R.cells ∧ slots ≤ R.slots)
    (k : W p l e R s m args below meth c H locs cells slots Q (F0 m (pc + 3) ls (.int val :: rest))) : W p l e R s m args below meth c H locs cells slots Q (F0 m pc ls st) := by
  subst hst
  exact vp_callSi (va_Run.run (va_runS (rest := rest) S hM cw ⟨hB.1, fun U hU hW => ⟨rfl, hB.2 U hU hW⟩⟩ rfl hn hsize rfl (lv_room hW) hdg hf)) (fun r hr => by subst hr; exact k)
theorem noB : FrameBlind (va_Pc As (fun _ => True)) ∧ ∀ U : State, U.heap = H → s.WarmedH U.vm → (fun _ : State => True) U := ⟨fun _ _ _ _ q => q, fun _ _ _ => trivial⟩
end RMC
/-! arrays of Nats, Bools, Options: one row a load, one a store -/
section RMA
variable {p : Program} {l : Launch} {e : Env} {R : Room} {s : State} {m : MethodId} {args : Array Value} {below : List Frame} {meth : Method} {c : Code} {H : Heap} {locs : List Loc} {cells slots : Nat} {Q : State → Prop} {cc : ByteArray} {pc : Nat} {ls : Array Slot} {rest : List Value}
  {D : va_G} {cA : Nat → ClassId} {ws : va_W} {a n k : Nat} {A : Nat → Prop} {H0 : Heap}
theorem rm_nld (hx : p.tables.exec = Jvm.exec) (hb : c.code = cc) (hK : va_K D xCl (xT cA) s) (hP : va_P D xCl ws H) (q0 : Nat) {f : Nat → Nat} (ha : ws[q0]? = some (a, .inl (cA 0, n, .inl (nA f)))) (hk : k < n) (hn : n < 2 ^ 31) (hdg : decode cc pc = .ok (.iaload, 1))
    (kk : W p l e R s m args below meth c H locs cells slots Q (F0 m (pc + 1) ls (.int (nI (f k)) :: rest))) : W p l e R s m args below meth c H locs cells slots Q (F0 m pc ls (.int (nI k) :: .ref a :: rest)) :=
  va_iald hx hb hK hP q0 0 ha (xt0 cA) (vp_in_nI hk hn) hdg (by rw [nI_clamp (by omega)]; exact kk)
theorem rm_old (hx : p.tables.exec = Jvm.exec) (hb : c.code = cc) (hK : va_K D xCl (xT cA) s) (hP : va_P D xCl ws H) (q0 : Nat) {f : Nat → Option Nat} (ha : ws[q0]? = some (a, .inl (cA 0, n, .inl (oA f)))) (hk : k < n) (hn : n < 2 ^ 31) (hdg : decode cc pc = .ok (.iaload, 1))
    (kk : W p l e R s m args below meth c H locs cells slots Q (F0 m (pc + 1) ls (.int (oI (f k)) :: rest))) : W p l e R s m args below meth c H locs cells slots Q (F0 m pc ls (.int (nI k) :: .ref a :: rest)) :=
  va_iald hx hb hK hP q0 0 ha (xt0 cA) (vp_in_nI hk hn) hdg (by rw [nI_clamp (by omega)]; exact kk)
theorem rm_zld (hx : p.tables.exec = Jvm.exec) (hb : c.code = cc) (hK : va_K D xCl (xT cA) s) (hP : va_P D xCl ws H) (q0 : Nat) {f : Nat → Bool} (ha : ws[q0]? = some (a, .inl (cA 1, n, .inl (bA f)))) (hk : k < n) (hn : n < 2 ^ 31) (hdg : decode cc pc = .ok (.baload, 1))
    (kk : W p l e R s m args below meth c H locs cells slots Q (F0 m (pc + 1) ls (.int (bI (f k)) :: rest))) : W p l e R s m args below meth c H locs cells slots Q (F0 m pc ls (.int (nI k) :: .ref a :: rest)) :=
  va_zald hx hb hK hP q0 1 ha (xt1 cA) (vp_in_nI hk hn) hdg (by rw [nI_clamp (by omega)]; exact kk)
theorem rm_nst (hx : p.tables.exec = Jvm.exec) (hb : c.code = cc) (hK : va_K D xCl (xT cA) s) (hP : va_P D xCl ws H) (hD : va_D A ws) (hS : va_S A H0 H locs) (q0 : Nat) {f : Nat → Nat} {v : Nat} (ha : ws[q0]? = some (a, .inl (cA 0, n, .inl (nA f)))) (hk : k < n) (hn : n < 2 ^ 31) {ws' : va_W} (hw : ws.set q0 (a, .inl (cA 0, n, .inl (nA (va_up f k v)))) = ws') (hdg : decode cc pc = .ok (.iastore, 1))
    (kk : ∀ (H1 : Heap) (locs1 : List Loc), va_P D xCl ws' H1 → va_D A ws' → va_S A H0 H1 locs1 → W p l e R s m args below meth c H1 locs1 cells slots Q (F0 m (pc + 1) ls rest)) : W p l e R s m args below meth c H locs cells slots Q (F0 m pc ls (.int (nI v) :: .int (nI k) :: .ref a :: rest)) := by
  refine va_iast hx hb hK hP hD hS q0 0 ha (xt0 cA) (vp_in_nI hk hn) hdg (fun H1 locs1 h1 h2 h3 => ?_)
  rw [nI_clamp (by omega), upd_nA, hw] at h1 h2
  exact kk H1 locs1 h1 h2 h3
theorem rm_ost (hx : p.tables.exec = Jvm.exec) (hb : c.code = cc) (hK : va_K D xCl (xT cA) s) (hP : va_P D xCl ws H) (hD : va_D A ws) (hS : va_S A H0 H locs) (q0 : Nat) {f : Nat → Option Nat} {v : Option Nat} (ha : ws[q0]? = some (a, .inl (cA 0, n, .inl (oA f)))) (hk : k < n) (hn : n < 2 ^ 31) {ws' : va_W} (hw : ws.set q0 (a, .inl (cA 0, n, .inl (oA (va_up f k v)))) = ws') (hdg : decode cc pc = .ok (.iastore, 1))
    (kk : ∀ (H1 : Heap) (locs1 : List Loc), va_P D xCl ws' H1 → va_D A ws' → va_S A H0 H1 locs1 → W p l e R s m args below meth c H1 locs1 cells slots Q (F0 m (pc + 1) ls rest)) : W p l e R s m args below meth c H locs cells slots Q (F0 m pc ls (.int (oI v) :: .int (nI k) :: .ref a :: rest)) := by
  refine va_iast hx hb hK hP hD hS q0 0 ha (xt0 cA) (vp_in_nI hk hn) hdg (fun H1 locs1 h1 h2 h3 => ?_)
  rw [nI_clamp (by omega), upd_oA, hw] at h1 h2
  exact kk H1 locs1 h1 h2 h3
theorem rm_zst (hx : p.tables.exec = Jvm.exec) (hb : c.code = cc) (hK : va_K D xCl (xT cA) s) (hP : va_P D xCl ws H) (hD : va_D A ws) (hS : va_S A H0 H locs) (q0 : Nat) {f : Nat → Bool} {v : Bool} (ha : ws[q0]? = some (a, .inl (cA 1, n, .inl (bA f)))) (hk : k < n) (hn : n < 2 ^ 31) {ws' : va_W} (hw : ws.set q0 (a, .inl (cA 1, n, .inl (bA (va_up f k v)))) = ws') (hdg : decode cc pc = .ok (.bastore, 1))
    (kk : ∀ (H1 : Heap) (locs1 : List Loc), va_P D xCl ws' H1 → va_D A ws' → va_S A H0 H1 locs1 → W p l e R s m args below meth c H1 locs1 cells slots Q (F0 m (pc + 1) ls rest)) : W p l e R s m args below meth c H locs cells slots Q (F0 m pc ls (.int (bI v) :: .int (nI k) :: .ref a :: rest)) := by
  refine va_zast hx hb hK hP hD hS q0 1 ha (xt1 cA) (vp_in_nI hk hn) hdg (fun H1 locs1 h1 h2 h3 => ?_)
  rw [nI_clamp (by omega), vnar_bI, upd_bA, hw] at h1 h2
  exact kk H1 locs1 h1 h2 h3
end RMA

