/-! a byte array's clone -/
set_option maxRecDepth 100000
section ZCL
variable {p : Program} {l : Launch} {e : Env} {R : Room} {s : State} {m : MethodId} {args : Array Value} {below : List Frame} {meth : Method} {c : Code} {H : Heap} {locs : List Loc} {cells slots : Nat} {Q : State → Prop}
variable {cc : ByteArray} {pc : Nat} {ls : Array Slot} {rest st0 : List Value} {G : gG} {A : Nat → Prop} {Fa Fk F : fS} {ws wc wr wa : va_W} {Ha : Heap} {post : Option Value → fS → va_W → Prop} {mc ms : Nat}
variable {own : String}
/-- a byte array's clone -/
theorem z_cloneB (hx : p.tables.exec = Jvm.exec) (hb : c.code = cc) (hml : c.maxLocals = ls.size) (hts : ∀ w ∈ lw_all, w.before args s = true) (hk : KK G Fk s) (V : VV G A Fa F ws Ha H locs) {index : Nat} (hown : s.vm.findClass own = some m.cls)
    (hlink : (Cond.methodLink own index ⟨"[B", "clone", "()Ljava/lang/Object;"⟩) ∈ lw_all) (hsame : (Cond.sameMethod "[B" "java/lang/Object" "clone" "()Ljava/lang/Object;") ∈ lw_all)
    (hnat : (Cond.native ⟨"java/lang/Object", "clone", "()Ljava/lang/Object;"⟩) ∈ lw_all) (hinst : (Cond.instanceMethod ⟨"java/lang/Object", "clone", "()Ljava/lang/Object;"⟩) ∈ lw_all)
    (hsel : (Cond.selects "[B" ⟨"[B", "clone", "()Ljava/lang/Object;"⟩ ⟨"java/lang/Object", "clone", "()Ljava/lang/Object;"⟩) ∈ lw_all) (hcl : (Cond.castable "[B" "java/lang/Cloneable") ∈ lw_tbl)
    {a n : Nat} {g : Nat → Int} (hc : va_at G.1 CL (a, aB G n g) H) (hnB : ∀ i, i < n → -128 ≤ g i ∧ g i < 128)
    (hframes : 1 ≤ R.frames) (hlocals : (rest.map fun v => v.category).sum + 14 ≤ R.locals) (hcells : cells + 1 ≤ R.cells) (hslots : slots + n ≤ R.slots) (hdg : decode cc pc = .ok (.invokevirtual index, 3))
    (kk : ∀ (q : Nat) (H1 : Heap), VV G A Fa F (ws ++ [(q, aB G n g)]) Ha H1 locs → W p l e R s m args below meth c H1 locs (cells + 1) (slots + n) Q (F0 m (pc + 3) ls (.ref q :: rest))) : W p l e R s m args below meth c H locs cells slots Q (F0 m pc ls (.ref a :: rest)) := by
  intro T hT X
  have hcl' := va_Nw.use (A := args) rfl (hk.N hcl rfl)
  obtain ⟨c0, t0', f1, f2, f3⟩ := Cond.castable_spec hcl'
  have hnm := (hk.K.2 0 _ rfl).2
  cases hnm.symm.trans f1
  have hcA : H[a]? = some (arrV (G.2.1 0) n (fun j => iV (g j))) := hc
  have hcT : T.heap[a]? = some (arrV (G.2.1 0) n (fun j => iV (g j))) := by rw [hT]; exact hcA
  obtain ⟨-, kA, hkA, comp, hkind⟩ := State.isArrayOf_alike X.warmed.alike ((hk.K.2 0 _ rfl).1 0 (fun _ => .null))
  obtain ⟨-, kS, hkS, compS, hkindS⟩ := (hk.K.2 0 _ rfl).1 0 (fun _ => .null)
  have hfit := va_fit (cA := G.2.1 0) (n := n) (F := fun j => iV (g j)) (ty := .byte) (fun i hi => fits_byte (hnB i hi))
  obtain ⟨vm', X', st⟩ := X.cloneArray hx hown (hts _ hlink) (hts _ hsame) (hts _ hnat) (hts _ hinst) (hts _ hsel) (a := a) (cell := arrV (G.2.1 0) n (fun j => iV (g j))) hcT (fun k h => by cases h) (fun h => by cases h) hnm f2 f3
    (fun i v hv => by
      have hk' : T.vm.classes[G.2.1 0]? = some kA := hkA
      have hh := hfit i v hv
      simpa [State.fitsSlot, State.slotType?, arrV, hk', hkind] using hh)
    (g := F0 m pc ls (.ref a :: rest)) rfl (by rw [hml]) rfl (by rw [hb]; exact hdg) hframes (by show 2 * 0 + _ + 14 ≤ _; omega) hcells (by rw [arrV_size]; exact hslots) (hloader := Vm.clonesLoader_of_array hkS hkindS)
  rw [arrV_size] at X'
  obtain ⟨t, b1, b2⟩ := kk H.size (H.push (arrV (G.2.1 0) n (fun j => iV (g j)))) (V.nw (e := aB G n g) (by show (H.push _)[H.size]? = _; rw [Array.getElem?_push_size]; rfl) (by rw [Array.size_push]) (fun q hq => by rw [Array.getElem?_push, if_neg (Nat.ne_of_lt hq)])) _ (by rw [← hT]; rfl) X'
  refine ⟨t, st t ?_, b2⟩
  rw [hT]
  exact b1
end ZCL
