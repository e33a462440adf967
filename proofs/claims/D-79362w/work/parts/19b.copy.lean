/-! System.arraycopy over the world (printed by gen/mk19b.py) -/
set_option maxRecDepth 100000
theorem VV.wrs {G : gG} {A : Nat → Prop} {F0 F : fS} {ws : va_W} {H0 H : Heap} {locs : List Loc} (V : VV G A F0 F ws H0 H locs) {k a : Nat} {e0 e : va_E} (he : ws[k]? = some (a, e0)) {H1 : Heap} (hc : va_at G.1 CL (a, e) H1) (z : H1.size = H.size) (oq : ∀ q : Nat, q ≠ a → H1[q]? = H[q]?) (L : List Loc) (hL : ∀ q ∈ L, q.base = a) : VV G A F0 F (ws.set k (a, e)) H0 H1 (locs ++ L) := by
  obtain ⟨h1, h2, h3, h4, h5, h6, h7, h8, h9⟩ := V.wr he hc z oq 0
  refine ⟨h1, h2, ⟨h3.1, h3.2.1, fun q hq => ?_⟩, h4, h5, h6, h7, h8, h9⟩
  rcases List.mem_append.mp hq with h | h
  · exact V.S.2.2 q h
  · rw [hL q h]
    exact V.D.2 k _ he
theorem cpyZ (f g : Nat → Int) (i j k : Nat) : va_cpy (fun x => iZ (f x)) (fun x => iZ (g x)) i j k = fun x => iZ (va_cpy f g i j k x) := by
  funext x; unfold va_cpy; split <;> rfl
theorem fits_byte {x : Int} (h : -128 ≤ x ∧ x < 128) : fits .byte (iV x) = true := by
  show fits .byte (.int (iZ x)) = true
  rw [← i2b_Z h]; exact pk_fb _
section ZCP
variable {p : Program} {l : Launch} {e : Env} {R : Room} {s : State} {m : MethodId} {args : Array Value} {below : List Frame} {meth : Method} {c : Code} {H : Heap} {locs : List Loc} {cells slots : Nat} {Q : State → Prop}
variable {cc : ByteArray} {pc : Nat} {ls : Array Slot} {rest : List Value} {G : gG} {A : Nat → Prop} {Fa Fk F : fS} {ws : va_W} {Ha : Heap} {a a0 n0 n1 i j k : Nat} {sp dp n : Int}
theorem z_copyB (hx : p.tables.exec = Jvm.exec) (hb : c.code = cc) (hml : c.maxLocals = ls.size) (hts : ∀ w ∈ lw_all, w.before args s = true) (hk : KK G Fk s) (V : VV G A Fa F ws Ha H locs) {own : String} {index : Nat} (hown : s.vm.findClass own = some m.cls) (hlink : (Cond.methodLink own index arraycopyName) ∈ lw_all) {f g : Nat → Int} (hc0 : va_at G.1 CL (a0, aB G n0 f) H) (q1 : Nat) (ha1 : ws[q1]? = some (a, aB G n1 g)) (hh : (sp = (i : Int) ∧ dp = (j : Int) ∧ n = (k : Int)) ∧ i + k ≤ n0 ∧ j + k ≤ n1 ∧ n0 < 1000000 ∧ n1 < 1000000) (hfit : ∀ x, x < k → -128 ≤ f (i + x) ∧ f (i + x) < 128) 
    (hframes : 1 ≤ R.frames) (hlocals : (rest.map fun v => v.category).sum + (nativeFrameWords "java/lang/System" "arraycopy" 5 + 11) ≤ R.locals) (hdg : decode cc pc = .ok (.invokestatic index, 3))
    (kk : ∀ (H1 : Heap) (locs1 : List Loc), VV G A Fa F (ws.set q1 (a, aB G n1 (va_cpy f g i j k))) Ha H1 locs1 → W p l e R s m args below meth c H1 locs1 cells slots Q (F0 m (pc + 3) ls rest)) : W p l e R s m args below meth c H locs cells slots Q (F0 m pc ls (iV n :: iV dp :: .ref a :: iV sp :: .ref a0 :: rest)) := by
  obtain ⟨⟨rfl, rfl, rfl⟩, h4, h5, h6, h7⟩ := hh
  have cl_ : ∀ z : Nat, z < 1000000 → (iZ (z : Int)).toNatClampNeg = z := fun z hz => iZ_cl ⟨rfl, by omega⟩
  have nn : ∀ z : Nat, z < 1000000 → ¬ iZ (z : Int) < 0 := fun z hz h => by have := (iZ_lt (a := (z : Int)) (b := 0) (by omega)).mp h; omega
  have ti : ∀ z : Nat, z < 1000000 → (iZ (z : Int)).toInt = (z : Int) := fun z hz => iZ_toInt (by omega)
  intro T hT X
  have hc0' : H[a0]? = some (arrV (G.2.1 0) n0 (fun x => .int (iZ (f x)))) := hc0
  have hc1 : H[a]? = some (arrV (G.2.1 0) n1 (fun x => .int (iZ (g x)))) := V.w q1 ha1
  obtain ⟨-, k0, hk0, cm0, hkk0⟩ := (hk.K.2 0 _ rfl).1 n0 (fun x => .int (iZ (f x)))
  obtain ⟨-, k1, hk1, cm1, hkk1⟩ := (hk.K.2 0 _ rfl).1 n1 (fun x => .int (iZ (g x)))
  obtain ⟨vm', X', step⟩ := X.arraycopy hx hown (hts _ hlink) (hts _ q541) (hts _ q540) (hts _ q92) (src := a0) (dst := a) (cs := arrV (G.2.1 0) n0 (fun x => .int (iZ (f x)))) (cd := arrV (G.2.1 0) n1 (fun x => .int (iZ (g x)))) (srcPos := iZ (i : Int)) (destPos := iZ (j : Int)) (n := iZ (k : Int)) (by rw [hT]; exact hc0') (by rw [hT]; exact hc1)
    (fun _ h => by cases h) (fun _ h => by cases h) (fun h => by cases h) (fun h => by cases h) hk0 hk1 hkk0 hkk1 (by first | rfl | simp [refKind]) (nn i (by omega)) (nn j (by omega)) (nn k (by omega))
    (by rw [ti i (by omega), ti k (by omega), arrV_size]; omega)
    (by rw [ti j (by omega), ti k (by omega), arrV_size]; omega)
    (fun vm₁ hal x hx9 => by
      rw [cl_ k (by omega)] at hx9
      have e : (arrV (G.2.1 0) n0 (fun x => .int (iZ (f x)))).slots.getD ((iZ (i : Int)).toNatClampNeg + x) .null = .int (iZ (f (i + x))) := by
        rw [cl_ i (by omega), Array.getD_eq_getD_getElem?, arrV_read _ _ (by omega)]
        rfl
      refine ⟨?_, ?_⟩
      · rw [e]
        exact fits_byte (hfit x hx9)
      · rw [e]
        exact trivial)
    (g := F0 m pc ls (iV k :: iV j :: .ref a :: iV i :: .ref a0 :: rest)) rfl (by rw [hml]) (rest := rest) rfl (by rw [hb]; exact hdg) hframes (by show 2 * 0 + _ + _ ≤ _; omega)
  have e1 : copied (arrV (G.2.1 0) n0 (fun x => .int (iZ (f x)))) (arrV (G.2.1 0) n1 (fun x => .int (iZ (g x)))) (iZ (i : Int)) (iZ (j : Int)) (iZ (k : Int)) = arrV (G.2.1 0) n1 (fun x => .int (iZ ((va_cpy f g i j k) x))) := by
    have e2 := va_copied (sp := (iZ (i : Int)).toNatClampNeg) (dp := (iZ (j : Int)).toNatClampNeg) (n := (iZ (k : Int)).toNatClampNeg) (fun z : Int => .int (iZ z)) (G.2.1 0) (G.2.1 0) (n0 := n0) (n1 := n1) f g (by rw [cl_ i (by omega), cl_ k (by omega)]; exact h4)
    rw [cl_ i (by omega), cl_ j (by omega), cl_ k (by omega)] at e2
    unfold copied
    rw [cl_ i (by omega), cl_ j (by omega), cl_ k (by omega)]
    exact e2
  rw [e1] at X' step
  have hl : a < H.size := (Array.getElem?_eq_some_iff.mp hc1).1
  have hheap : ((T.setVm vm').setCell a (arrV (G.2.1 0) n1 (fun x => .int (iZ ((va_cpy f g i j k) x))))).heap = H.setIfInBounds a (arrV (G.2.1 0) n1 (fun x => .int (iZ ((va_cpy f g i j k) x)))) := by rw [← hT]; rfl
  have oq : ∀ q : Nat, q ≠ a → (H.setIfInBounds a (arrV (G.2.1 0) n1 (fun x => .int (iZ ((va_cpy f g i j k) x)))))[q]? = H[q]? := fun q hq => by simp [Array.getElem?_setIfInBounds, Ne.symm hq]
  obtain ⟨t, a1, b1⟩ := kk _ _ (V.wrs (e := aB G n1 (va_cpy f g i j k)) (H1 := H.setIfInBounds a (arrV (G.2.1 0) n1 (fun x => .int (iZ ((va_cpy f g i j k) x))))) ha1 (show (H.setIfInBounds a _)[a]? = some _ by simp [Array.getElem?_setIfInBounds, hl]; rfl) (by simp) oq _ (fun q hq => by
      obtain ⟨z, -, hz⟩ := List.mem_map.mp hq
      rw [← hz])) _ hheap X'
  exact ⟨t, step t a1, b1⟩
theorem z_copyI (hx : p.tables.exec = Jvm.exec) (hb : c.code = cc) (hml : c.maxLocals = ls.size) (hts : ∀ w ∈ lw_all, w.before args s = true) (hk : KK G Fk s) (V : VV G A Fa F ws Ha H locs) {own : String} {index : Nat} (hown : s.vm.findClass own = some m.cls) (hlink : (Cond.methodLink own index arraycopyName) ∈ lw_all) {f g : Nat → Int} (hc0 : va_at G.1 CL (a0, aI G n0 f) H) (q1 : Nat) (ha1 : ws[q1]? = some (a, aI G n1 g)) (hh : (sp = (i : Int) ∧ dp = (j : Int) ∧ n = (k : Int)) ∧ i + k ≤ n0 ∧ j + k ≤ n1 ∧ n0 < 1000000 ∧ n1 < 1000000) 
    (hframes : 1 ≤ R.frames) (hlocals : (rest.map fun v => v.category).sum + (nativeFrameWords "java/lang/System" "arraycopy" 5 + 11) ≤ R.locals) (hdg : decode cc pc = .ok (.invokestatic index, 3))
    (kk : ∀ (H1 : Heap) (locs1 : List Loc), VV G A Fa F (ws.set q1 (a, aI G n1 (va_cpy f g i j k))) Ha H1 locs1 → W p l e R s m args below meth c H1 locs1 cells slots Q (F0 m (pc + 3) ls rest)) : W p l e R s m args below meth c H locs cells slots Q (F0 m pc ls (iV n :: iV dp :: .ref a :: iV sp :: .ref a0 :: rest)) := by
  obtain ⟨⟨rfl, rfl, rfl⟩, h4, h5, h6, h7⟩ := hh
  have cl_ : ∀ z : Nat, z < 1000000 → (iZ (z : Int)).toNatClampNeg = z := fun z hz => iZ_cl ⟨rfl, by omega⟩
  have nn : ∀ z : Nat, z < 1000000 → ¬ iZ (z : Int) < 0 := fun z hz h => by have := (iZ_lt (a := (z : Int)) (b := 0) (by omega)).mp h; omega
  have ti : ∀ z : Nat, z < 1000000 → (iZ (z : Int)).toInt = (z : Int) := fun z hz => iZ_toInt (by omega)
  intro T hT X
  have hc0' : H[a0]? = some (arrV (G.2.1 1) n0 (fun x => .int (iZ (f x)))) := hc0
  have hc1 : H[a]? = some (arrV (G.2.1 1) n1 (fun x => .int (iZ (g x)))) := V.w q1 ha1
  obtain ⟨-, k0, hk0, cm0, hkk0⟩ := (hk.K.2 1 _ rfl).1 n0 (fun x => .int (iZ (f x)))
  obtain ⟨-, k1, hk1, cm1, hkk1⟩ := (hk.K.2 1 _ rfl).1 n1 (fun x => .int (iZ (g x)))
  obtain ⟨vm', X', step⟩ := X.arraycopy hx hown (hts _ hlink) (hts _ q541) (hts _ q540) (hts _ q92) (src := a0) (dst := a) (cs := arrV (G.2.1 1) n0 (fun x => .int (iZ (f x)))) (cd := arrV (G.2.1 1) n1 (fun x => .int (iZ (g x)))) (srcPos := iZ (i : Int)) (destPos := iZ (j : Int)) (n := iZ (k : Int)) (by rw [hT]; exact hc0') (by rw [hT]; exact hc1)
    (fun _ h => by cases h) (fun _ h => by cases h) (fun h => by cases h) (fun h => by cases h) hk0 hk1 hkk0 hkk1 (by first | rfl | simp [refKind]) (nn i (by omega)) (nn j (by omega)) (nn k (by omega))
    (by rw [ti i (by omega), ti k (by omega), arrV_size]; omega)
    (by rw [ti j (by omega), ti k (by omega), arrV_size]; omega)
    (fun vm₁ hal x hx9 => by
      rw [cl_ k (by omega)] at hx9
      have e : (arrV (G.2.1 1) n0 (fun x => .int (iZ (f x)))).slots.getD ((iZ (i : Int)).toNatClampNeg + x) .null = .int (iZ (f (i + x))) := by
        rw [cl_ i (by omega), Array.getD_eq_getD_getElem?, arrV_read _ _ (by omega)]
        rfl
      refine ⟨?_, ?_⟩
      · rw [e]
        rfl
      · rw [e]
        exact trivial)
    (g := F0 m pc ls (iV k :: iV j :: .ref a :: iV i :: .ref a0 :: rest)) rfl (by rw [hml]) (rest := rest) rfl (by rw [hb]; exact hdg) hframes (by show 2 * 0 + _ + _ ≤ _; omega)
  have e1 : copied (arrV (G.2.1 1) n0 (fun x => .int (iZ (f x)))) (arrV (G.2.1 1) n1 (fun x => .int (iZ (g x)))) (iZ (i : Int)) (iZ (j : Int)) (iZ (k : Int)) = arrV (G.2.1 1) n1 (fun x => .int (iZ ((va_cpy f g i j k) x))) := by
    have e2 := va_copied (sp := (iZ (i : Int)).toNatClampNeg) (dp := (iZ (j : Int)).toNatClampNeg) (n := (iZ (k : Int)).toNatClampNeg) (fun z : Int => .int (iZ z)) (G.2.1 1) (G.2.1 1) (n0 := n0) (n1 := n1) f g (by rw [cl_ i (by omega), cl_ k (by omega)]; exact h4)
    rw [cl_ i (by omega), cl_ j (by omega), cl_ k (by omega)] at e2
    unfold copied
    rw [cl_ i (by omega), cl_ j (by omega), cl_ k (by omega)]
    exact e2
  rw [e1] at X' step
  have hl : a < H.size := (Array.getElem?_eq_some_iff.mp hc1).1
  have hheap : ((T.setVm vm').setCell a (arrV (G.2.1 1) n1 (fun x => .int (iZ ((va_cpy f g i j k) x))))).heap = H.setIfInBounds a (arrV (G.2.1 1) n1 (fun x => .int (iZ ((va_cpy f g i j k) x)))) := by rw [← hT]; rfl
  have oq : ∀ q : Nat, q ≠ a → (H.setIfInBounds a (arrV (G.2.1 1) n1 (fun x => .int (iZ ((va_cpy f g i j k) x)))))[q]? = H[q]? := fun q hq => by simp [Array.getElem?_setIfInBounds, Ne.symm hq]
  obtain ⟨t, a1, b1⟩ := kk _ _ (V.wrs (e := aI G n1 (va_cpy f g i j k)) (H1 := H.setIfInBounds a (arrV (G.2.1 1) n1 (fun x => .int (iZ ((va_cpy f g i j k) x))))) ha1 (show (H.setIfInBounds a _)[a]? = some _ by simp [Array.getElem?_setIfInBounds, hl]; rfl) (by simp) oq _ (fun q hq => by
      obtain ⟨z, -, hz⟩ := List.mem_map.mp hq
      rw [← hz])) _ hheap X'
  exact ⟨t, step t a1, b1⟩
theorem z_copyA (hx : p.tables.exec = Jvm.exec) (hb : c.code = cc) (hml : c.maxLocals = ls.size) (hts : ∀ w ∈ lw_all, w.before args s = true) (hk : KK G Fk s) (V : VV G A Fa F ws Ha H locs) {own : String} {index : Nat} (hown : s.vm.findClass own = some m.cls) (hlink : (Cond.methodLink own index arraycopyName) ∈ lw_all) {f g : Nat → Option Nat} (hc0 : va_at G.1 CL (a0, aR G n0 f) H) (q1 : Nat) (ha1 : ws[q1]? = some (a, aR G n1 g)) (hh : (sp = (i : Int) ∧ dp = (j : Int) ∧ n = (k : Int)) ∧ i + k ≤ n0 ∧ j + k ≤ n1 ∧ n0 < 1000000 ∧ n1 < 1000000) (hel : ∀ x, x < k → ∀ y : Nat, f (i + x) = some y → va_Any "java/lang/Object" s H y) 
    (hframes : 1 ≤ R.frames) (hlocals : (rest.map fun v => v.category).sum + (nativeFrameWords "java/lang/System" "arraycopy" 5 + 11) ≤ R.locals) (hdg : decode cc pc = .ok (.invokestatic index, 3))
    (kk : ∀ (H1 : Heap) (locs1 : List Loc), VV G A Fa F (ws.set q1 (a, aR G n1 (va_cpy f g i j k))) Ha H1 locs1 → W p l e R s m args below meth c H1 locs1 cells slots Q (F0 m (pc + 3) ls rest)) : W p l e R s m args below meth c H locs cells slots Q (F0 m pc ls (iV n :: iV dp :: .ref a :: iV sp :: .ref a0 :: rest)) := by
  obtain ⟨⟨rfl, rfl, rfl⟩, h4, h5, h6, h7⟩ := hh
  have cl_ : ∀ z : Nat, z < 1000000 → (iZ (z : Int)).toNatClampNeg = z := fun z hz => iZ_cl ⟨rfl, by omega⟩
  have nn : ∀ z : Nat, z < 1000000 → ¬ iZ (z : Int) < 0 := fun z hz h => by have := (iZ_lt (a := (z : Int)) (b := 0) (by omega)).mp h; omega
  have ti : ∀ z : Nat, z < 1000000 → (iZ (z : Int)).toInt = (z : Int) := fun z hz => iZ_toInt (by omega)
  intro T hT X
  have hc0' : H[a0]? = some (arrV (G.2.1 5) n0 (fun x => va_rf (f x))) := hc0
  have hc1 : H[a]? = some (arrV (G.2.1 5) n1 (fun x => va_rf (g x))) := V.w q1 ha1
  obtain ⟨-, k0, hk0, cm0, hkk0⟩ := (hk.K.2 5 _ rfl).1 n0 (fun x => va_rf (f x))
  obtain ⟨-, k1, hk1, cm1, hkk1⟩ := (hk.K.2 5 _ rfl).1 n1 (fun x => va_rf (g x))
  obtain ⟨vm', X', step⟩ := X.arraycopy hx hown (hts _ hlink) (hts _ q541) (hts _ q540) (hts _ q92) (src := a0) (dst := a) (cs := arrV (G.2.1 5) n0 (fun x => va_rf (f x))) (cd := arrV (G.2.1 5) n1 (fun x => va_rf (g x))) (srcPos := iZ (i : Int)) (destPos := iZ (j : Int)) (n := iZ (k : Int)) (by rw [hT]; exact hc0') (by rw [hT]; exact hc1)
    (fun _ h => by cases h) (fun _ h => by cases h) (fun h => by cases h) (fun h => by cases h) hk0 hk1 hkk0 hkk1 (by first | rfl | simp [refKind]) (nn i (by omega)) (nn j (by omega)) (nn k (by omega))
    (by rw [ti i (by omega), ti k (by omega), arrV_size]; omega)
    (by rw [ti j (by omega), ti k (by omega), arrV_size]; omega)
    (fun vm₁ hal x hx9 => by
      rw [cl_ k (by omega)] at hx9
      have e : (arrV (G.2.1 5) n0 (fun x => va_rf (f x))).slots.getD ((iZ (i : Int)).toNatClampNeg + x) .null = va_rf (f (i + x)) := by
        rw [cl_ i (by omega), Array.getD_eq_getD_getElem?, arrV_read _ _ (by omega)]
        rfl
      rw [e]
      cases hy : f (i + x) with
      | none => exact ⟨rfl, trivial⟩
      | some y =>
        obtain ⟨cellV, g1, g2, ⟨kC, hkC⟩, hasg⟩ := hel x hx9 y hy
        obtain ⟨kA, comp, r1, r2, r3, -⟩ := (hk.K.2 5 _ rfl).2
        cases hk1.symm.trans r1
        cases hkk1.symm.trans r2
        obtain ⟨kE, hkE, -⟩ := Vm.findClass_spec r3
        obtain ⟨kC', hkC', -⟩ := hal.2.2 _ _ hkC
        obtain ⟨kE', hkE', -⟩ := hal.2.2 _ _ hkE
        refine ⟨rfl, cellV, (show T.heap[y]? = some cellV by rw [hT]; exact g1), (fun q h => by rw [h] at g2; cases g2), ⟨kC', hkC'⟩, ?_, ?_⟩
        · exact ⟨kE', hkE'⟩
        · show vm₁.assignable _ _ = true
          rw [hal.assignable]
          exact hasg _ r3)
    (g := F0 m pc ls (iV k :: iV j :: .ref a :: iV i :: .ref a0 :: rest)) rfl (by rw [hml]) (rest := rest) rfl (by rw [hb]; exact hdg) hframes (by show 2 * 0 + _ + _ ≤ _; omega)
  have e1 : copied (arrV (G.2.1 5) n0 (fun x => va_rf (f x))) (arrV (G.2.1 5) n1 (fun x => va_rf (g x))) (iZ (i : Int)) (iZ (j : Int)) (iZ (k : Int)) = arrV (G.2.1 5) n1 (fun x => va_rf ((va_cpy f g i j k) x)) := by
    have e2 := va_copied (sp := (iZ (i : Int)).toNatClampNeg) (dp := (iZ (j : Int)).toNatClampNeg) (n := (iZ (k : Int)).toNatClampNeg) (fun z : Option Nat => va_rf z) (G.2.1 5) (G.2.1 5) (n0 := n0) (n1 := n1) f g (by rw [cl_ i (by omega), cl_ k (by omega)]; exact h4)
    rw [cl_ i (by omega), cl_ j (by omega), cl_ k (by omega)] at e2
    unfold copied
    rw [cl_ i (by omega), cl_ j (by omega), cl_ k (by omega)]
    exact e2
  rw [e1] at X' step
  have hl : a < H.size := (Array.getElem?_eq_some_iff.mp hc1).1
  have hheap : ((T.setVm vm').setCell a (arrV (G.2.1 5) n1 (fun x => va_rf ((va_cpy f g i j k) x)))).heap = H.setIfInBounds a (arrV (G.2.1 5) n1 (fun x => va_rf ((va_cpy f g i j k) x))) := by rw [← hT]; rfl
  have oq : ∀ q : Nat, q ≠ a → (H.setIfInBounds a (arrV (G.2.1 5) n1 (fun x => va_rf ((va_cpy f g i j k) x))))[q]? = H[q]? := fun q hq => by simp [Array.getElem?_setIfInBounds, Ne.symm hq]
  obtain ⟨t, a1, b1⟩ := kk _ _ (V.wrs (e := aR G n1 (va_cpy f g i j k)) (H1 := H.setIfInBounds a (arrV (G.2.1 5) n1 (fun x => va_rf ((va_cpy f g i j k) x)))) ha1 (show (H.setIfInBounds a _)[a]? = some _ by simp [Array.getElem?_setIfInBounds, hl]; rfl) (by simp) oq _ (fun q hq => by
      obtain ⟨z, -, hz⟩ := List.mem_map.mp hq
      rw [← hz])) _ hheap X'
  exact ⟨t, step t a1, b1⟩
end ZCP
