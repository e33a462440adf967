/-! ROWS over the world: arrays (printed by gen/mk15.py) -/
set_option maxRecDepth 100000
theorem one_P {D : va_G} {q : Nat × va_E} {H : Heap} (h : va_at D CL q H) : va_P D CL [q] H := fun k q' hq => by
  cases k with
  | zero => cases hq; exact h
  | succ k => cases hq
theorem nr_byte {x : Int} (h : -128 ≤ x ∧ x < 128) : narrow .byte (iV x) = iV x := by
  show Value.int (iZ x).toInt8.toInt32 = _
  congr 1
  apply Int32.toInt_inj.mp
  rw [Int8.toInt_toInt32, Int32.toInt_toInt8, iZ_toInt (by omega), Int.bmod_eq_of_le (by omega) (by omega)]
theorem i2b_Z {x : Int} (h : -128 ≤ x ∧ x < 128) : (iZ x).toInt8.toInt32 = iZ x := by
  have := nr_byte h
  injection this
theorem i2c_Z {x : Int} (h : 0 ≤ x ∧ x < 65536) : ((iZ x).toUInt32 % 65536).toInt32 = iZ x := by
  obtain ⟨n, rfl⟩ : ∃ n : Nat, x = (n : Int) := ⟨x.toNat, by omega⟩
  have e : iZ (n : Int) = nI n := (iZ_nat n).symm
  rw [e, pk_char, pk_tn (by omega), Nat.mod_eq_of_lt (by omega)]
theorem nr_char {x : Int} (h : 0 ≤ x ∧ x < 65536) : narrow .char (iV x) = iV x := by
  obtain ⟨n, rfl⟩ : ∃ n : Nat, x = (n : Int) := ⟨x.toNat, by omega⟩
  have e : iZ (n : Int) = nI n := (iZ_nat n).symm
  show narrow .char (.int (iZ (n : Int))) = .int (iZ (n : Int))
  rw [e]
  exact (pk_charN (q := n) (by omega)).1
section ZA
variable {p : Program} {l : Launch} {e : Env} {R : Room} {s : State} {m : MethodId} {args : Array Value} {below : List Frame} {meth : Method} {c : Code} {H : Heap} {locs : List Loc} {cells slots : Nat} {Q : State → Prop}
variable {cc : ByteArray} {pc : Nat} {ls : Array Slot} {rest : List Value} {G : gG} {A : Nat → Prop} {Fa Fk F : fS} {ws : va_W} {Ha : Heap} {a n : Nat} {z : Int}
theorem z_iald (hx : p.tables.exec = Jvm.exec) (hb : c.code = cc) (hk : KK G Fk s) {g : Nat → Int} (hc : va_at G.1 CL (a, aI G n g) H) (i : Nat) (hi : z = (i : Int) ∧ i < n ∧ i < 2147483648) (hdg : decode cc pc = .ok (.iaload, 1)) (kk : W p l e R s m args below meth c H locs cells slots Q (F0 m (pc + 1) ls (iV (g i) :: rest))) : W p l e R s m args below meth c H locs cells slots Q (F0 m pc ls (iV z :: .ref a :: rest)) :=
  va_iald (tys := TYS G) hx hb hk.K (one_P hc) 0 1 rfl rfl (iZ_in hi) hdg (by rw [iZ_cl ⟨hi.1, hi.2.2⟩]; exact kk)
theorem z_bald (hx : p.tables.exec = Jvm.exec) (hb : c.code = cc) (hk : KK G Fk s) {g : Nat → Int} (hc : va_at G.1 CL (a, aB G n g) H) (i : Nat) (hi : z = (i : Int) ∧ i < n ∧ i < 2147483648) (hdg : decode cc pc = .ok (.baload, 1)) (kk : W p l e R s m args below meth c H locs cells slots Q (F0 m (pc + 1) ls (iV (g i) :: rest))) : W p l e R s m args below meth c H locs cells slots Q (F0 m pc ls (iV z :: .ref a :: rest)) :=
  va_bald (tys := TYS G) hx hb hk.K (one_P hc) 0 0 rfl rfl (iZ_in hi) hdg (by rw [iZ_cl ⟨hi.1, hi.2.2⟩]; exact kk)
theorem z_cald (hx : p.tables.exec = Jvm.exec) (hb : c.code = cc) (hk : KK G Fk s) {g : Nat → Int} (hc : va_at G.1 CL (a, aC G n g) H) (i : Nat) (hi : z = (i : Int) ∧ i < n ∧ i < 2147483648) (hdg : decode cc pc = .ok (.caload, 1)) (kk : W p l e R s m args below meth c H locs cells slots Q (F0 m (pc + 1) ls (iV (g i) :: rest))) : W p l e R s m args below meth c H locs cells slots Q (F0 m pc ls (iV z :: .ref a :: rest)) :=
  va_cald (tys := TYS G) hx hb hk.K (one_P hc) 0 3 rfl rfl (iZ_in hi) hdg (by rw [iZ_cl ⟨hi.1, hi.2.2⟩]; exact kk)
theorem z_lald (hx : p.tables.exec = Jvm.exec) (hb : c.code = cc) (hk : KK G Fk s) {g : Nat → Int} (hc : va_at G.1 CL (a, aJ G n g) H) (i : Nat) (hi : z = (i : Int) ∧ i < n ∧ i < 2147483648) (hdg : decode cc pc = .ok (.laload, 1)) (kk : W p l e R s m args below meth c H locs cells slots Q (F0 m (pc + 1) ls (jV (g i) :: rest))) : W p l e R s m args below meth c H locs cells slots Q (F0 m pc ls (iV z :: .ref a :: rest)) :=
  va_lald (tys := TYS G) hx hb hk.K (one_P hc) 0 2 rfl rfl (iZ_in hi) hdg (by rw [iZ_cl ⟨hi.1, hi.2.2⟩]; exact kk)
theorem z_dald (hx : p.tables.exec = Jvm.exec) (hb : c.code = cc) (hk : KK G Fk s) {g : Nat → UInt64} (hc : va_at G.1 CL (a, aD G n g) H) (i : Nat) (hi : z = (i : Int) ∧ i < n ∧ i < 2147483648) (hdg : decode cc pc = .ok (.daload, 1)) (kk : W p l e R s m args below meth c H locs cells slots Q (F0 m (pc + 1) ls (.double (g i) :: rest))) : W p l e R s m args below meth c H locs cells slots Q (F0 m pc ls (iV z :: .ref a :: rest)) :=
  va_dald (tys := TYS G) hx hb hk.K (one_P hc) 0 4 rfl rfl (iZ_in hi) hdg (by rw [iZ_cl ⟨hi.1, hi.2.2⟩]; exact kk)
theorem z_aald (hx : p.tables.exec = Jvm.exec) (hb : c.code = cc) (hk : KK G Fk s) {g : Nat → Option Nat} (hc : va_at G.1 CL (a, aR G n g) H) (i : Nat) (hi : z = (i : Int) ∧ i < n ∧ i < 2147483648) (hdg : decode cc pc = .ok (.aaload, 1)) {v : Value} (hv : va_rf (g i) = v) (kk : W p l e R s m args below meth c H locs cells slots Q (F0 m (pc + 1) ls (v :: rest))) : W p l e R s m args below meth c H locs cells slots Q (F0 m pc ls (iV z :: .ref a :: rest)) :=
  va_aldq (tys := TYS G) hx hb hk.K (one_P hc) 0 5 rfl rfl (iZ_in hi) hdg (by rw [iZ_cl ⟨hi.1, hi.2.2⟩, hv]; exact kk)
theorem z_nald (hx : p.tables.exec = Jvm.exec) (hb : c.code = cc) (hk : KK G Fk s) {g : Nat → Option Nat} (hc : va_at G.1 CL (a, aN G n g) H) (i : Nat) (hi : z = (i : Int) ∧ i < n ∧ i < 2147483648) (hdg : decode cc pc = .ok (.aaload, 1)) {v : Value} (hv : va_rf (g i) = v) (kk : W p l e R s m args below meth c H locs cells slots Q (F0 m (pc + 1) ls (v :: rest))) : W p l e R s m args below meth c H locs cells slots Q (F0 m pc ls (iV z :: .ref a :: rest)) :=
  va_aldq (tys := TYS G) hx hb hk.K (one_P hc) 0 7 rfl rfl (iZ_in hi) hdg (by rw [iZ_cl ⟨hi.1, hi.2.2⟩, hv]; exact kk)
theorem z_mald (hx : p.tables.exec = Jvm.exec) (hb : c.code = cc) (hk : KK G Fk s) {g : Nat → Option Nat} (hc : va_at G.1 CL (a, aM G n g) H) (i : Nat) (hi : z = (i : Int) ∧ i < n ∧ i < 2147483648) (hdg : decode cc pc = .ok (.aaload, 1)) {v : Value} (hv : va_rf (g i) = v) (kk : W p l e R s m args below meth c H locs cells slots Q (F0 m (pc + 1) ls (v :: rest))) : W p l e R s m args below meth c H locs cells slots Q (F0 m pc ls (iV z :: .ref a :: rest)) := by
  have hin : vp_in (iZ z) n := iZ_in hi
  have hlt : (iZ z).toNatClampNeg < n := Nat.not_le.mp fun q => hin (Or.inr q)
  have hc' : H[a]? = some (vp_cell (G.2.1 6) (n, .inr (.inr (.inr (.inr g))))) := hc
  refine W.aald (v := va_rf (g (iZ z).toNatClampNeg)) (ty := .array .int) hx hb hc' ((hk.K.2 6 _ rfl).1 n (fun j => va_rf (g j))) rfl (fun q => by cases q) (by show ¬ (iZ z < 0 ∨ (arrV _ _ _).slots.size ≤ _); rw [arrV_size]; exact hin) (by show (arrV _ _ _).slots[_]? = _; rw [arrV_read _ _ hlt]) rfl rfl hdg ?_
  rw [iZ_cl ⟨hi.1, hi.2.2⟩, hv]
  exact kk
theorem z_iast (hx : p.tables.exec = Jvm.exec) (hb : c.code = cc) (hk : KK G Fk s) (V : VV G A Fa F ws Ha H locs) (q0 : Nat) {g : Nat → Int} (ha : ws[q0]? = some (a, aI G n g)) (i : Nat) (hi : z = (i : Int) ∧ i < n ∧ i < 2147483648) {x : Int} (hdg : decode cc pc = .ok (.iastore, 1))
    (kk : ∀ (H1 : Heap) (locs1 : List Loc), VV G A Fa F (ws.set q0 (a, aI G n (updZ g i x))) Ha H1 locs1 → W p l e R s m args below meth c H1 locs1 cells slots Q (F0 m (pc + 1) ls rest)) : W p l e R s m args below meth c H locs cells slots Q (F0 m pc ls (iV x :: iV z :: .ref a :: rest)) := by
  have hc : H[a]? = some (arrV (G.2.1 1) n (fun j => .int (iZ (g j)))) := V.w q0 ha
  refine W.iast hx hb hc ((hk.K.2 1 _ rfl).1 n (fun j => .int (iZ (g j)))) (fun q => by cases q) (by show ¬ (iZ z < 0 ∨ (arrV _ _ _).slots.size ≤ _); rw [arrV_size]; exact iZ_in hi) rfl rfl hdg fun H1 e z1 oq => ?_
  refine kk H1 _ (V.wr (e := aI G n (updZ g i x)) (H1 := H1) ha ?_ z1 oq _)
  show H1[a]? = some (arrV (G.2.1 1) n (fun j => .int (iZ (updZ g i x j))))
  rw [e, arrV_store, iZ_cl ⟨hi.1, hi.2.2⟩]
  congr 2
  funext q
  by_cases hq : q = i
  · subst hq; simp [updV, updZ]
  · simp [updV, updZ, hq]
theorem z_bast (hx : p.tables.exec = Jvm.exec) (hb : c.code = cc) (hk : KK G Fk s) (V : VV G A Fa F ws Ha H locs) (q0 : Nat) {g : Nat → Int} (ha : ws[q0]? = some (a, aB G n g)) (i : Nat) (hi : z = (i : Int) ∧ i < n ∧ i < 2147483648) {x : Int} (hn : narrow .byte (iV x) = iV x) (hdg : decode cc pc = .ok (.bastore, 1))
    (kk : ∀ (H1 : Heap) (locs1 : List Loc), VV G A Fa F (ws.set q0 (a, aB G n (updZ g i x))) Ha H1 locs1 → W p l e R s m args below meth c H1 locs1 cells slots Q (F0 m (pc + 1) ls rest)) : W p l e R s m args below meth c H locs cells slots Q (F0 m pc ls (iV x :: iV z :: .ref a :: rest)) := by
  have hc : H[a]? = some (arrV (G.2.1 0) n (fun j => .int (iZ (g j)))) := V.w q0 ha
  refine W.bast hx hb hc ((hk.K.2 0 _ rfl).1 n (fun j => .int (iZ (g j)))) (fun q => by cases q) (by show ¬ (iZ z < 0 ∨ (arrV _ _ _).slots.size ≤ _); rw [arrV_size]; exact iZ_in hi) rfl rfl hdg fun H1 e z1 oq => ?_
  refine kk H1 _ (V.wr (e := aB G n (updZ g i x)) (H1 := H1) ha ?_ z1 oq _)
  show H1[a]? = some (arrV (G.2.1 0) n (fun j => .int (iZ (updZ g i x j))))
  rw [hn] at e
  rw [e, arrV_store, iZ_cl ⟨hi.1, hi.2.2⟩]
  congr 2
  funext q
  by_cases hq : q = i
  · subst hq; simp [updV, updZ]
  · simp [updV, updZ, hq]
theorem z_cast (hx : p.tables.exec = Jvm.exec) (hb : c.code = cc) (hk : KK G Fk s) (V : VV G A Fa F ws Ha H locs) (q0 : Nat) {g : Nat → Int} (ha : ws[q0]? = some (a, aC G n g)) (i : Nat) (hi : z = (i : Int) ∧ i < n ∧ i < 2147483648) {x : Int} (hn : narrow .char (iV x) = iV x) (hdg : decode cc pc = .ok (.castore, 1))
    (kk : ∀ (H1 : Heap) (locs1 : List Loc), VV G A Fa F (ws.set q0 (a, aC G n (updZ g i x))) Ha H1 locs1 → W p l e R s m args below meth c H1 locs1 cells slots Q (F0 m (pc + 1) ls rest)) : W p l e R s m args below meth c H locs cells slots Q (F0 m pc ls (iV x :: iV z :: .ref a :: rest)) := by
  have hc : H[a]? = some (arrV (G.2.1 3) n (fun j => .int (iZ (g j)))) := V.w q0 ha
  refine W.cast hx hb hc ((hk.K.2 3 _ rfl).1 n (fun j => .int (iZ (g j)))) (fun q => by cases q) (by show ¬ (iZ z < 0 ∨ (arrV _ _ _).slots.size ≤ _); rw [arrV_size]; exact iZ_in hi) rfl rfl hdg fun H1 e z1 oq => ?_
  refine kk H1 _ (V.wr (e := aC G n (updZ g i x)) (H1 := H1) ha ?_ z1 oq _)
  show H1[a]? = some (arrV (G.2.1 3) n (fun j => .int (iZ (updZ g i x j))))
  rw [hn] at e
  rw [e, arrV_store, iZ_cl ⟨hi.1, hi.2.2⟩]
  congr 2
  funext q
  by_cases hq : q = i
  · subst hq; simp [updV, updZ]
  · simp [updV, updZ, hq]
theorem z_last (hx : p.tables.exec = Jvm.exec) (hb : c.code = cc) (hk : KK G Fk s) (V : VV G A Fa F ws Ha H locs) (q0 : Nat) {g : Nat → Int} (ha : ws[q0]? = some (a, aJ G n g)) (i : Nat) (hi : z = (i : Int) ∧ i < n ∧ i < 2147483648) {x : Int} (hdg : decode cc pc = .ok (.lastore, 1))
    (kk : ∀ (H1 : Heap) (locs1 : List Loc), VV G A Fa F (ws.set q0 (a, aJ G n (updZ g i x))) Ha H1 locs1 → W p l e R s m args below meth c H1 locs1 cells slots Q (F0 m (pc + 1) ls rest)) : W p l e R s m args below meth c H locs cells slots Q (F0 m pc ls (jV x :: iV z :: .ref a :: rest)) := by
  have hc : H[a]? = some (arrV (G.2.1 2) n (fun j => .long (jZ (g j)))) := V.w q0 ha
  refine W.last hx hb hc ((hk.K.2 2 _ rfl).1 n (fun j => .long (jZ (g j)))) (fun q => by cases q) (by show ¬ (iZ z < 0 ∨ (arrV _ _ _).slots.size ≤ _); rw [arrV_size]; exact iZ_in hi) rfl rfl hdg fun H1 e z1 oq => ?_
  refine kk H1 _ (V.wr (e := aJ G n (updZ g i x)) (H1 := H1) ha ?_ z1 oq _)
  show H1[a]? = some (arrV (G.2.1 2) n (fun j => .long (jZ (updZ g i x j))))
  rw [e, arrV_store, iZ_cl ⟨hi.1, hi.2.2⟩]
  congr 2
  funext q
  by_cases hq : q = i
  · subst hq; simp [updV, updZ]
  · simp [updV, updZ, hq]
theorem z_dast (hx : p.tables.exec = Jvm.exec) (hb : c.code = cc) (hk : KK G Fk s) (V : VV G A Fa F ws Ha H locs) (q0 : Nat) {g : Nat → UInt64} (ha : ws[q0]? = some (a, aD G n g)) (i : Nat) (hi : z = (i : Int) ∧ i < n ∧ i < 2147483648) {x : UInt64} (hdg : decode cc pc = .ok (.dastore, 1))
    (kk : ∀ (H1 : Heap) (locs1 : List Loc), VV G A Fa F (ws.set q0 (a, aD G n (va_up g i x))) Ha H1 locs1 → W p l e R s m args below meth c H1 locs1 cells slots Q (F0 m (pc + 1) ls rest)) : W p l e R s m args below meth c H locs cells slots Q (F0 m pc ls (.double x :: iV z :: .ref a :: rest)) := by
  have hc : H[a]? = some (arrV (G.2.1 4) n (fun j => .double (g j))) := V.w q0 ha
  refine W.dast hx hb hc ((hk.K.2 4 _ rfl).1 n (fun j => .double (g j))) (fun q => by cases q) (by show ¬ (iZ z < 0 ∨ (arrV _ _ _).slots.size ≤ _); rw [arrV_size]; exact iZ_in hi) rfl rfl hdg fun H1 e z1 oq => ?_
  refine kk H1 _ (V.wr (e := aD G n (va_up g i x)) (H1 := H1) ha ?_ z1 oq _)
  show H1[a]? = some (arrV (G.2.1 4) n (fun j => .double (va_up g i x j)))
  rw [e, arrV_store, iZ_cl ⟨hi.1, hi.2.2⟩]
  congr 2
  funext q
  by_cases hq : q = i
  · subst hq; simp [updV, va_up]
  · simp [updV, va_up, hq]
theorem z_aast (hx : p.tables.exec = Jvm.exec) (hb : c.code = cc) (hk : KK G Fk s) (V : VV G A Fa F ws Ha H locs) (q0 : Nat) {g : Nat → Option Nat} (ha : ws[q0]? = some (a, aR G n g)) (i : Nat) (hi : z = (i : Int) ∧ i < n ∧ i < 2147483648) {v : Nat} (hv : va_Any "java/lang/Object" s H v) (hdg : decode cc pc = .ok (.aastore, 1))
    (kk : ∀ (H1 : Heap) (locs1 : List Loc), VV G A Fa F (ws.set q0 (a, aR G n (va_up g i (some v)))) Ha H1 locs1 → W p l e R s m args below meth c H1 locs1 cells slots Q (F0 m (pc + 1) ls rest)) : W p l e R s m args below meth c H locs cells slots Q (F0 m pc ls (.ref v :: iV z :: .ref a :: rest)) := by
  have hc : H[a]? = some (arrV (G.2.1 5) n (fun j => va_rf (g j))) := V.w q0 ha
  have hin : vp_in (iZ z) n := iZ_in hi
  have hlt : (iZ z).toNatClampNeg < n := Nat.not_le.mp fun q => hin (Or.inr q)
  have h0 : ¬ iZ z < 0 := fun q => hin (Or.inl q)
  obtain ⟨cellV, g1, g3, ⟨kC, hkC⟩, hasg⟩ := hv
  obtain ⟨kA, comp, k1, k2, k3, -⟩ := (hk.K.2 5 _ rfl).2
  obtain ⟨kE, hkE, -⟩ := Vm.findClass_spec k3
  refine W.aast hx hb hc (fun q h => by cases h) (fun h => by cases h) k1 k2 rfl hkE ⟨h0, by show _ < (arrV _ _ _).slots.size; rw [arrV_size]; exact hlt⟩ g1 (fun q h => by rw [h] at g3; cases g3) hkC (hasg _ k3) rfl rfl hdg fun H1 e z1 oq => ?_
  refine kk H1 _ (V.wr (e := aR G n (va_up g i (some v))) (H1 := H1) ha ?_ z1 oq _)
  show H1[a]? = some (arrV (G.2.1 5) n (fun j => va_rf (va_up g i (some v) j)))
  rw [e, arrV_store, iZ_cl ⟨hi.1, hi.2.2⟩]
  congr 2
  funext q
  by_cases hq : q = i
  · subst hq; simp [updV, va_up, va_rf]
  · simp [updV, va_up, hq]
theorem z_nast (hx : p.tables.exec = Jvm.exec) (hb : c.code = cc) (hk : KK G Fk s) (V : VV G A Fa F ws Ha H locs) (q0 : Nat) {g : Nat → Option Nat} (ha : ws[q0]? = some (a, aN G n g)) (i : Nat) (hi : z = (i : Int) ∧ i < n ∧ i < 2147483648) {v : Nat} (hv : va_Any "java/util/HashMap$Node" s H v) (hdg : decode cc pc = .ok (.aastore, 1))
    (kk : ∀ (H1 : Heap) (locs1 : List Loc), VV G A Fa F (ws.set q0 (a, aN G n (va_up g i (some v)))) Ha H1 locs1 → W p l e R s m args below meth c H1 locs1 cells slots Q (F0 m (pc + 1) ls rest)) : W p l e R s m args below meth c H locs cells slots Q (F0 m pc ls (.ref v :: iV z :: .ref a :: rest)) := by
  have hc : H[a]? = some (arrV (G.2.1 7) n (fun j => va_rf (g j))) := V.w q0 ha
  have hin : vp_in (iZ z) n := iZ_in hi
  have hlt : (iZ z).toNatClampNeg < n := Nat.not_le.mp fun q => hin (Or.inr q)
  have h0 : ¬ iZ z < 0 := fun q => hin (Or.inl q)
  obtain ⟨cellV, g1, g3, ⟨kC, hkC⟩, hasg⟩ := hv
  obtain ⟨kA, comp, k1, k2, k3, -⟩ := (hk.K.2 7 _ rfl).2
  obtain ⟨kE, hkE, -⟩ := Vm.findClass_spec k3
  refine W.aast hx hb hc (fun q h => by cases h) (fun h => by cases h) k1 k2 rfl hkE ⟨h0, by show _ < (arrV _ _ _).slots.size; rw [arrV_size]; exact hlt⟩ g1 (fun q h => by rw [h] at g3; cases g3) hkC (hasg _ k3) rfl rfl hdg fun H1 e z1 oq => ?_
  refine kk H1 _ (V.wr (e := aN G n (va_up g i (some v))) (H1 := H1) ha ?_ z1 oq _)
  show H1[a]? = some (arrV (G.2.1 7) n (fun j => va_rf (va_up g i (some v) j)))
  rw [e, arrV_store, iZ_cl ⟨hi.1, hi.2.2⟩]
  congr 2
  funext q
  by_cases hq : q = i
  · subst hq; simp [updV, va_up, va_rf]
  · simp [updV, va_up, hq]
theorem z_aastN (hx : p.tables.exec = Jvm.exec) (hb : c.code = cc) (hk : KK G Fk s) (V : VV G A Fa F ws Ha H locs) (q0 : Nat) {g : Nat → Option Nat} (ha : ws[q0]? = some (a, aR G n g)) (i : Nat) (hi : z = (i : Int) ∧ i < n ∧ i < 2147483648) (hdg : decode cc pc = .ok (.aastore, 1))
    (kk : ∀ (H1 : Heap) (locs1 : List Loc), VV G A Fa F (ws.set q0 (a, aR G n (va_up g i none))) Ha H1 locs1 → W p l e R s m args below meth c H1 locs1 cells slots Q (F0 m (pc + 1) ls rest)) : W p l e R s m args below meth c H locs cells slots Q (F0 m pc ls (.null :: iV z :: .ref a :: rest)) := by
  have hc : H[a]? = some (arrV (G.2.1 5) n (fun j => va_rf (g j))) := V.w q0 ha
  have hin : vp_in (iZ z) n := iZ_in hi
  refine va_WaastN (C := "java/lang/Object") hx hb hc ((hk.K.2 5 _ rfl).1 n (fun j => va_rf (g j))) (fun h => by cases h) (by show ¬ (iZ z < 0 ∨ (arrV _ _ _).slots.size ≤ _); rw [arrV_size]; exact hin) rfl rfl hdg fun H1 e z1 oq => ?_
  refine kk H1 _ (V.wr (e := aR G n (va_up g i none)) (H1 := H1) ha ?_ z1 oq _)
  show H1[a]? = some (arrV (G.2.1 5) n (fun j => va_rf (va_up g i none j)))
  rw [e, arrV_store, iZ_cl ⟨hi.1, hi.2.2⟩]
  congr 2
  funext q
  by_cases hq : q = i
  · subst hq; simp [updV, va_up, va_rf]
  · simp [updV, va_up, hq]
theorem z_ilen (hx : p.tables.exec = Jvm.exec) (hb : c.code = cc) (hk : KK G Fk s) {g : Nat → Int} (hc : va_at G.1 CL (a, aI G n g) H) (hdg : decode cc pc = .ok (.arraylength, 1)) (kk : W p l e R s m args below meth c H locs cells slots Q (F0 m (pc + 1) ls (iV (n : Int) :: rest))) : W p l e R s m args below meth c H locs cells slots Q (F0 m pc ls (.ref a :: rest)) :=
  va_alen (tys := TYS G) (v := iZ (n : Int)) hx hb hk.K (one_P hc) 0 1 rfl rfl (iZ_nat n) hdg kk
theorem z_blen (hx : p.tables.exec = Jvm.exec) (hb : c.code = cc) (hk : KK G Fk s) {g : Nat → Int} (hc : va_at G.1 CL (a, aB G n g) H) (hdg : decode cc pc = .ok (.arraylength, 1)) (kk : W p l e R s m args below meth c H locs cells slots Q (F0 m (pc + 1) ls (iV (n : Int) :: rest))) : W p l e R s m args below meth c H locs cells slots Q (F0 m pc ls (.ref a :: rest)) :=
  va_alen (tys := TYS G) (v := iZ (n : Int)) hx hb hk.K (one_P hc) 0 0 rfl rfl (iZ_nat n) hdg kk
theorem z_clen (hx : p.tables.exec = Jvm.exec) (hb : c.code = cc) (hk : KK G Fk s) {g : Nat → Int} (hc : va_at G.1 CL (a, aC G n g) H) (hdg : decode cc pc = .ok (.arraylength, 1)) (kk : W p l e R s m args below meth c H locs cells slots Q (F0 m (pc + 1) ls (iV (n : Int) :: rest))) : W p l e R s m args below meth c H locs cells slots Q (F0 m pc ls (.ref a :: rest)) :=
  va_alen (tys := TYS G) (v := iZ (n : Int)) hx hb hk.K (one_P hc) 0 3 rfl rfl (iZ_nat n) hdg kk
theorem z_llen (hx : p.tables.exec = Jvm.exec) (hb : c.code = cc) (hk : KK G Fk s) {g : Nat → Int} (hc : va_at G.1 CL (a, aJ G n g) H) (hdg : decode cc pc = .ok (.arraylength, 1)) (kk : W p l e R s m args below meth c H locs cells slots Q (F0 m (pc + 1) ls (iV (n : Int) :: rest))) : W p l e R s m args below meth c H locs cells slots Q (F0 m pc ls (.ref a :: rest)) :=
  va_alen (tys := TYS G) (v := iZ (n : Int)) hx hb hk.K (one_P hc) 0 2 rfl rfl (iZ_nat n) hdg kk
theorem z_alen (hx : p.tables.exec = Jvm.exec) (hb : c.code = cc) (hk : KK G Fk s) {g : Nat → Option Nat} (hc : va_at G.1 CL (a, aR G n g) H) (hdg : decode cc pc = .ok (.arraylength, 1)) (kk : W p l e R s m args below meth c H locs cells slots Q (F0 m (pc + 1) ls (iV (n : Int) :: rest))) : W p l e R s m args below meth c H locs cells slots Q (F0 m pc ls (.ref a :: rest)) :=
  va_alen (tys := TYS G) (v := iZ (n : Int)) hx hb hk.K (one_P hc) 0 5 rfl rfl (iZ_nat n) hdg kk
theorem z_nlen (hx : p.tables.exec = Jvm.exec) (hb : c.code = cc) (hk : KK G Fk s) {g : Nat → Option Nat} (hc : va_at G.1 CL (a, aN G n g) H) (hdg : decode cc pc = .ok (.arraylength, 1)) (kk : W p l e R s m args below meth c H locs cells slots Q (F0 m (pc + 1) ls (iV (n : Int) :: rest))) : W p l e R s m args below meth c H locs cells slots Q (F0 m pc ls (.ref a :: rest)) :=
  va_alen (tys := TYS G) (v := iZ (n : Int)) hx hb hk.K (one_P hc) 0 7 rfl rfl (iZ_nat n) hdg kk
theorem z_newI (hx : p.tables.exec = Jvm.exec) (hb : c.code = cc) (hts : ∀ w ∈ lw_all, w.before args s = true) (hk : KK G Fk s) (V : VV G A Fa F ws Ha H locs) (harr : (Cond.arrayClass .int) ∈ lw_all) (hz : z = (n : Int) ∧ n ≤ 1000000) (hcells : cells + 1 ≤ R.cells) (hslots : slots + n ≤ R.slots) (hdg : decode cc pc = .ok (.newarray .int, 2))
    (kk : ∀ (q : Nat) (H1 : Heap), VV G A Fa F (ws ++ [(q, aI G n (fun _ => 0))]) Ha H1 locs → W p l e R s m args below meth c H1 locs (cells + 1) (slots + n) Q (F0 m (pc + 2) ls (.ref q :: rest))) : W p l e R s m args below meth c H locs cells slots Q (F0 m pc ls (iV z :: rest)) := by
  refine va_newaK hx hb (atype := .int) (hts _ harr) rfl hdg rfl (fun h => by have := (iZ_lt (a := z) (b := 0) (by omega)).mp h; omega) (iZ_cl (i := n) (by omega)) (by show n * _ ≤ _; simp [componentBytes, newarray.typeOf]; omega) hcells hslots rfl fun H1 cA e1 z1 o1 hAr hNm => ?_
  have hcA : cA = G.2.1 1 := Option.some.inj (hNm.symm.trans (hk.K.2 1 _ rfl).2)
  subst hcA
  exact kk H.size H1 (V.nw (e := aI G n (fun _ => 0)) (H1 := H1) e1 z1 o1)
theorem z_newB (hx : p.tables.exec = Jvm.exec) (hb : c.code = cc) (hts : ∀ w ∈ lw_all, w.before args s = true) (hk : KK G Fk s) (V : VV G A Fa F ws Ha H locs) (harr : (Cond.arrayClass .byte) ∈ lw_all) (hz : z = (n : Int) ∧ n ≤ 1000000) (hcells : cells + 1 ≤ R.cells) (hslots : slots + n ≤ R.slots) (hdg : decode cc pc = .ok (.newarray .byte, 2))
    (kk : ∀ (q : Nat) (H1 : Heap), VV G A Fa F (ws ++ [(q, aB G n (fun _ => 0))]) Ha H1 locs → W p l e R s m args below meth c H1 locs (cells + 1) (slots + n) Q (F0 m (pc + 2) ls (.ref q :: rest))) : W p l e R s m args below meth c H locs cells slots Q (F0 m pc ls (iV z :: rest)) := by
  refine va_newaK hx hb (atype := .byte) (hts _ harr) rfl hdg rfl (fun h => by have := (iZ_lt (a := z) (b := 0) (by omega)).mp h; omega) (iZ_cl (i := n) (by omega)) (by show n * _ ≤ _; simp [componentBytes, newarray.typeOf]; omega) hcells hslots rfl fun H1 cA e1 z1 o1 hAr hNm => ?_
  have hcA : cA = G.2.1 0 := Option.some.inj (hNm.symm.trans (hk.K.2 0 _ rfl).2)
  subst hcA
  exact kk H.size H1 (V.nw (e := aB G n (fun _ => 0)) (H1 := H1) e1 z1 o1)
theorem z_newC (hx : p.tables.exec = Jvm.exec) (hb : c.code = cc) (hts : ∀ w ∈ lw_all, w.before args s = true) (hk : KK G Fk s) (V : VV G A Fa F ws Ha H locs) (harr : (Cond.arrayClass .char) ∈ lw_all) (hz : z = (n : Int) ∧ n ≤ 1000000) (hcells : cells + 1 ≤ R.cells) (hslots : slots + n ≤ R.slots) (hdg : decode cc pc = .ok (.newarray .char, 2))
    (kk : ∀ (q : Nat) (H1 : Heap), VV G A Fa F (ws ++ [(q, aC G n (fun _ => 0))]) Ha H1 locs → W p l e R s m args below meth c H1 locs (cells + 1) (slots + n) Q (F0 m (pc + 2) ls (.ref q :: rest))) : W p l e R s m args below meth c H locs cells slots Q (F0 m pc ls (iV z :: rest)) := by
  refine va_newaK hx hb (atype := .char) (hts _ harr) rfl hdg rfl (fun h => by have := (iZ_lt (a := z) (b := 0) (by omega)).mp h; omega) (iZ_cl (i := n) (by omega)) (by show n * _ ≤ _; simp [componentBytes, newarray.typeOf]; omega) hcells hslots rfl fun H1 cA e1 z1 o1 hAr hNm => ?_
  have hcA : cA = G.2.1 3 := Option.some.inj (hNm.symm.trans (hk.K.2 3 _ rfl).2)
  subst hcA
  exact kk H.size H1 (V.nw (e := aC G n (fun _ => 0)) (H1 := H1) e1 z1 o1)
theorem z_newJ (hx : p.tables.exec = Jvm.exec) (hb : c.code = cc) (hts : ∀ w ∈ lw_all, w.before args s = true) (hk : KK G Fk s) (V : VV G A Fa F ws Ha H locs) (harr : (Cond.arrayClass .long) ∈ lw_all) (hz : z = (n : Int) ∧ n ≤ 1000000) (hcells : cells + 1 ≤ R.cells) (hslots : slots + n ≤ R.slots) (hdg : decode cc pc = .ok (.newarray .long, 2))
    (kk : ∀ (q : Nat) (H1 : Heap), VV G A Fa F (ws ++ [(q, aJ G n (fun _ => 0))]) Ha H1 locs → W p l e R s m args below meth c H1 locs (cells + 1) (slots + n) Q (F0 m (pc + 2) ls (.ref q :: rest))) : W p l e R s m args below meth c H locs cells slots Q (F0 m pc ls (iV z :: rest)) := by
  refine va_newaK hx hb (atype := .long) (hts _ harr) rfl hdg rfl (fun h => by have := (iZ_lt (a := z) (b := 0) (by omega)).mp h; omega) (iZ_cl (i := n) (by omega)) (by show n * _ ≤ _; simp [componentBytes, newarray.typeOf]; omega) hcells hslots rfl fun H1 cA e1 z1 o1 hAr hNm => ?_
  have hcA : cA = G.2.1 2 := Option.some.inj (hNm.symm.trans (hk.K.2 2 _ rfl).2)
  subst hcA
  exact kk H.size H1 (V.nw (e := aJ G n (fun _ => 0)) (H1 := H1) e1 z1 o1)
theorem z_newD (hx : p.tables.exec = Jvm.exec) (hb : c.code = cc) (hts : ∀ w ∈ lw_all, w.before args s = true) (hk : KK G Fk s) (V : VV G A Fa F ws Ha H locs) (harr : (Cond.arrayClass .double) ∈ lw_all) (hz : z = (n : Int) ∧ n ≤ 1000000) (hcells : cells + 1 ≤ R.cells) (hslots : slots + n ≤ R.slots) (hdg : decode cc pc = .ok (.newarray .double, 2))
    (kk : ∀ (q : Nat) (H1 : Heap), VV G A Fa F (ws ++ [(q, aD G n (fun _ => 0))]) Ha H1 locs → W p l e R s m args below meth c H1 locs (cells + 1) (slots + n) Q (F0 m (pc + 2) ls (.ref q :: rest))) : W p l e R s m args below meth c H locs cells slots Q (F0 m pc ls (iV z :: rest)) := by
  refine va_newaK hx hb (atype := .double) (hts _ harr) rfl hdg rfl (fun h => by have := (iZ_lt (a := z) (b := 0) (by omega)).mp h; omega) (iZ_cl (i := n) (by omega)) (by show n * _ ≤ _; simp [componentBytes, newarray.typeOf]; omega) hcells hslots rfl fun H1 cA e1 z1 o1 hAr hNm => ?_
  have hcA : cA = G.2.1 4 := Option.some.inj (hNm.symm.trans (hk.K.2 4 _ rfl).2)
  subst hcA
  exact kk H.size H1 (V.nw (e := aD G n (fun _ => 0)) (H1 := H1) e1 z1 o1)
theorem z_newA (hx : p.tables.exec = Jvm.exec) (hb : c.code = cc) (hts : ∀ w ∈ lw_all, w.before args s = true) (hk : KK G Fk s) (V : VV G A Fa F ws Ha H locs) {own : String} {index : Nat} (hown : s.vm.findClass own = some m.cls) (hcl : (Cond.classLink own index "java/lang/Object") ∈ lw_all) (hz : z = (n : Int) ∧ n ≤ 1000000) (hcells : cells + 1 ≤ R.cells) (hslots : slots + n ≤ R.slots) (hdg : decode cc pc = .ok (.anewarray index, 3))
    (kk : ∀ (q : Nat) (H1 : Heap), VV G A Fa F (ws ++ [(q, aR G n (fun _ => none))]) Ha H1 locs → W p l e R s m args below meth c H1 locs (cells + 1) (slots + n) Q (F0 m (pc + 3) ls (.ref q :: rest))) : W p l e R s m args below meth c H locs cells slots Q (F0 m pc ls (iV z :: rest)) := by
  have hN : (iZ z).toNatClampNeg = n := iZ_cl (i := n) (by omega)
  refine W.anew hx hb hown (hts _ hcl) (va_AO.use (hk.2.2.2.2.2.1.1)) rfl hdg rfl (fun h => by have := (iZ_lt (a := z) (b := 0) (by omega)).mp h; omega) (by rw [hN]; omega) hcells (by rw [hN]; exact hslots) fun cA kA comp f1 f2 f3 f4 => ?_
  rw [hN]
  generalize hH1 : H.push ({ cls := cA, slots := Array.replicate n .null, vm := .none } : Cell) = H1
  have z1 : H1.size = H.size + 1 := by rw [← hH1, Array.size_push]
  have e1 : H1[H.size]? = some (arrV cA n (fun _ => .null)) := by rw [← hH1, Array.getElem?_push_size, ← arrV_new]
  have o1 : ∀ q : Nat, q < H.size → H1[q]? = H[q]? := fun q hq => by rw [← hH1, Array.getElem?_push, if_neg (Nat.ne_of_lt hq)]
  obtain ⟨kA', comp', k1, k2, k3, k4⟩ := (hk.K.2 5 _ rfl).2
  have hcA : cA = G.2.1 5 := Option.some.inj (f1.symm.trans k4)
  subst hcA
  exact kk H.size H1 (V.nw (e := aR G n (fun _ => none)) (H1 := H1) e1 z1 o1)
theorem z_newN (hx : p.tables.exec = Jvm.exec) (hb : c.code = cc) (hts : ∀ w ∈ lw_all, w.before args s = true) (hk : KK G Fk s) (V : VV G A Fa F ws Ha H locs) {own : String} {index : Nat} (hown : s.vm.findClass own = some m.cls) (hcl : (Cond.classLink own index "java/util/HashMap$Node") ∈ lw_all) (hz : z = (n : Int) ∧ n ≤ 1000000) (hcells : cells + 1 ≤ R.cells) (hslots : slots + n ≤ R.slots) (hdg : decode cc pc = .ok (.anewarray index, 3))
    (kk : ∀ (q : Nat) (H1 : Heap), VV G A Fa F (ws ++ [(q, aN G n (fun _ => none))]) Ha H1 locs → W p l e R s m args below meth c H1 locs (cells + 1) (slots + n) Q (F0 m (pc + 3) ls (.ref q :: rest))) : W p l e R s m args below meth c H locs cells slots Q (F0 m pc ls (iV z :: rest)) := by
  have hN : (iZ z).toNatClampNeg = n := iZ_cl (i := n) (by omega)
  refine W.anew hx hb hown (hts _ hcl) (va_AO.use (hk.2.2.2.2.2.1.2)) rfl hdg rfl (fun h => by have := (iZ_lt (a := z) (b := 0) (by omega)).mp h; omega) (by rw [hN]; omega) hcells (by rw [hN]; exact hslots) fun cA kA comp f1 f2 f3 f4 => ?_
  rw [hN]
  generalize hH1 : H.push ({ cls := cA, slots := Array.replicate n .null, vm := .none } : Cell) = H1
  have z1 : H1.size = H.size + 1 := by rw [← hH1, Array.size_push]
  have e1 : H1[H.size]? = some (arrV cA n (fun _ => .null)) := by rw [← hH1, Array.getElem?_push_size, ← arrV_new]
  have o1 : ∀ q : Nat, q < H.size → H1[q]? = H[q]? := fun q hq => by rw [← hH1, Array.getElem?_push, if_neg (Nat.ne_of_lt hq)]
  obtain ⟨kA', comp', k1, k2, k3, k4⟩ := (hk.K.2 7 _ rfl).2
  have hcA : cA = G.2.1 7 := Option.some.inj (f1.symm.trans k4)
  subst hcA
  exact kk H.size H1 (V.nw (e := aN G n (fun _ => none)) (H1 := H1) e1 z1 o1)
end ZA
