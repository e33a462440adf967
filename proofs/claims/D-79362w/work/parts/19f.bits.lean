/-! BITS: sets of places as integers -/
set_option maxRecDepth 100000
theorem shl1 : ∀ t, t < 12 → (1 : Int32) <<< (Int32.ofNat t &&& 31) = Int32.ofNat (2 ^ t) := by decide +kernel
theorem or_nat (a b : Nat) : Int32.ofNat a ||| Int32.ofNat b = Int32.ofNat (a ||| b) := by
  apply Int32.toBitVec_inj.mp
  simp [Int32.toBitVec_or, Int32.toBitVec_ofNat', BitVec.ofNat_or]
theorem and_nat (a b : Nat) : Int32.ofNat a &&& Int32.ofNat b = Int32.ofNat (a &&& b) := by
  apply Int32.toBitVec_inj.mp
  simp [Int32.toBitVec_and, Int32.toBitVec_ofNat', BitVec.ofNat_and]
theorem or_pow {s t : Nat} (h : s < 2 ^ t) : s ||| 2 ^ t = s + 2 ^ t := by
  have := Nat.two_pow_add_eq_or_of_lt h 1
  rw [Nat.mul_one] at this
  rw [Nat.or_comm, ← this, Nat.add_comm]
/-- the set of the places below n where p holds -/
def setB (p : Nat → Bool) : Nat → Nat
  | 0 => 0
  | n + 1 => setB p n + (if p n then 2 ^ n else 0)
theorem setB_lt (p : Nat → Bool) (n : Nat) : setB p n < 2 ^ n := by
  induction n with
  | zero => show 0 < 1; decide
  | succ n ih =>
    show setB p n + (if p n then 2 ^ n else 0) < 2 ^ (n + 1)
    rw [Nat.pow_succ]
    split <;> omega
section ZB
variable {p : Program} {l : Launch} {e : Env} {R : Room} {s : State} {m : MethodId} {args : Array Value} {below : List Frame} {meth : Method} {c : Code} {H : Heap} {locs : List Loc} {cells slots : Nat} {Q : State → Prop}
variable {cc : ByteArray} {pc : Nat} {ls : Array Slot} {rest : List Value}
theorem z_shl1 (hx : p.tables.exec = Jvm.exec) (hb : c.code = cc) {t : Nat} (ht : t < 12) (hdg : decode cc pc = .ok (.ishl, 1)) (k : W p l e R s m args below meth c H locs cells slots Q (F0 m (pc + 1) ls (iV ((2 ^ t : Nat) : Int) :: rest))) : W p l e R s m args below meth c H locs cells slots Q (F0 m pc ls (iV (t : Int) :: iV 1 :: rest)) := by
  refine lv_ishl hx hb hdg ?_
  have e : Value.int (iZ 1 <<< (iZ (t : Int) &&& 31)) = iV ((2 ^ t : Nat) : Int) := by
    show Value.int (iZ 1 <<< (iZ (t : Int) &&& 31)) = Value.int (iZ _)
    rw [← iZ_nat t, ← iZ_nat (2 ^ t), ← shl1 t ht]
    rfl
  rw [e]
  exact k
theorem z_or (hx : p.tables.exec = Jvm.exec) (hb : c.code = cc) {a b : Nat} (hdg : decode cc pc = .ok (.ior, 1)) (k : W p l e R s m args below meth c H locs cells slots Q (F0 m (pc + 1) ls (iV ((a ||| b : Nat) : Int) :: rest))) : W p l e R s m args below meth c H locs cells slots Q (F0 m pc ls (iV (b : Int) :: iV (a : Int) :: rest)) := by
  refine lv_ior hx hb hdg ?_
  have e : Value.int (iZ (a : Int) ||| iZ (b : Int)) = iV ((a ||| b : Nat) : Int) := by
    show _ = Value.int (iZ _)
    rw [← iZ_nat a, ← iZ_nat b, ← iZ_nat (a ||| b), or_nat]
  rw [e]
  exact k
theorem z_and (hx : p.tables.exec = Jvm.exec) (hb : c.code = cc) {a b : Nat} (hdg : decode cc pc = .ok (.iand, 1)) (k : W p l e R s m args below meth c H locs cells slots Q (F0 m (pc + 1) ls (iV ((a &&& b : Nat) : Int) :: rest))) : W p l e R s m args below meth c H locs cells slots Q (F0 m pc ls (iV (b : Int) :: iV (a : Int) :: rest)) := by
  refine lv_iand hx hb hdg ?_
  have e : Value.int (iZ (a : Int) &&& iZ (b : Int)) = iV ((a &&& b : Nat) : Int) := by
    show _ = Value.int (iZ _)
    rw [← iZ_nat a, ← iZ_nat b, ← iZ_nat (a &&& b), and_nat]
  rw [e]
  exact k
end ZB
