/-! CALLS: private methods on a subclass's object, overriding methods, super calls; shifts by none; a byte array's clone -/
set_option maxRecDepth 100000
theorem selP {s : State} {args : Array Value} {C : String} {y z : MethodName} (hz : z.cls = y.cls) (hcl : y.cls ≠ "java/lang/invoke/MethodHandle" ∧ y.cls ≠ "java/lang/invoke/VarHandle") (h1 : (Cond.selects C z z).before args s = true) (h2 : (Cond.instanceMethod y).before args s = true) (h3 : (Cond.privateMethod y).before args s = true) : (Cond.selects C y y).before args s = true := by
  obtain ⟨c, r, m, a1, a2, a3, a4, kP, a5, a6⟩ := Cond.selects_spec h1
  obtain ⟨mk, methM, b1, b2, b3, b4⟩ := Cond.instanceMethod_spec h2
  have e1 := findClass_of_methodNamed b1
  have e2 := findClass_of_methodNamed a3
  rw [hz] at e2
  have e : m.cls = mk.cls := Option.some.inj (e2.symm.trans e1)
  have hp : methM.isPrivate = true := by
    simpa [Cond.before, Cond.holds, Cond.value, b1, b2] using h3
  have hs : selectMethod {} s.vm c mk = .method mk := by simp [selectMethod, b2, hp]
  rw [e] at a5
  show Cond.holds _ _ _ _ _ _ = true
  simp only [Cond.holds, Cond.value]
  rw [a1, State.methodFound?_of_named b1 hcl, b1]
  simp [hs, a5, a6]
theorem lw_in5 {a b c d e : Cond} (h1 : a ∈ lw_all) (h2 : b ∈ lw_all) (h3 : c ∈ lw_all) (h4 : d ∈ lw_all) (h5 : e ∈ lw_all) : ∀ w ∈ [a, b, c, d, e], w ∈ lw_all := by
  intro w hw
  simp only [List.mem_cons, List.not_mem_nil, or_false] at hw
  rcases hw with e | e | e | e | e <;> rw [e] <;> assumption
theorem lw_in6 {a b c d e f : Cond} (h1 : a ∈ lw_all) (h2 : b ∈ lw_all) (h3 : c ∈ lw_all) (h4 : d ∈ lw_all) (h5 : e ∈ lw_all) (h6 : f ∈ lw_all) : ∀ w ∈ [a, b, c, d, e, f], w ∈ lw_all := by
  intro w hw
  simp only [List.mem_cons, List.not_mem_nil, or_false] at hw
  rcases hw with e | e | e | e | e | e <;> rw [e] <;> assumption
section ZD
variable {p : Program} {l : Launch} {e : Env} {R : Room} {s : State} {m : MethodId} {args : Array Value} {below : List Frame} {meth : Method} {c : Code} {H : Heap} {locs : List Loc} {cells slots : Nat} {Q : State → Prop}
variable {cc : ByteArray} {pc : Nat} {ls : Array Slot} {rest st0 : List Value} {G : gG} {A : Nat → Prop} {Fa Fk F : fS} {ws wc wr wa : va_W} {Ha : Heap} {post : Option Value → fS → va_W → Prop} {mc ms : Nat}
variable {y x : MethodName} {bytes : ByteArray} {maxL nL n index : Nat} {ret : Option FieldType} {fr lo : Nat} {own C owner : String} {b : Nat} {As : List Value}
theorem z_callU (S : CallFix p m c cc nL s args lw_all own) (hk : KK G Fa s) (hl : ls.size = nL) (V : VV G A Fa F ws Ha H locs) (isC isR : List Nat) (hC : isC.map (fun i => ws[i]?) = wc.map some) (hR : isR.map (fun i => ws[i]?) = wr.map some) (hnC : va_nd isC = true) (hn : va_nd isR = true) (hdis : ∀ i ∈ isR, i ∉ isC)
    (hM : Hp G F wc H → CT l G y bytes maxL ret fr lo mc ms (.ref b :: As) F wc H post) (cw : va_CU R s args own C owner index x y bytes maxL ret (ws_ y bytes maxL ret) ({ frames := fr, cells := mc, slots := ms, locals := lo }) mc ms n) (hrc : ∃ cellB : Cell, H[b]? = some cellB ∧ cellB.vm.isStatics = false ∧ s.vm.findClass C = some cellB.cls)
    (hAn : As.length = n) (hst : st0 = As.reverse ++ .ref b :: rest) (hW : (rest.map fun v => v.category).sum ≤ 8) (hdg : decode cc pc = .ok (.invokevirtual index, 3)) (hf : cells + mc ≤ R.cells ∧ slots + ms ≤ R.slots)
    (kk : ∀ (v : Option Value) (F1 : fS) (w1 : va_W) (H1 : Heap) (locs1 : List Loc), post v F1 w1 → fLe F F1 → (∀ a, ¬ FR F wc H a → F1 a = F a) → VV G A Fa F1 (wr ++ w1) Ha H1 locs1 → W p l e R s m args below meth c H1 locs1 (cells + mc) (slots + ms) Q (F0 m (pc + 3) ls (v.toList ++ rest))) : W p l e R s m args below meth c H locs cells slots Q (F0 m pc ls st0) :=
  z_go V isC isR hC hR hn hdis (va_runU (g := F0 m pc ls st0) S (hM (V.hp.sub isC hnC hC)) cw (z_preV hk V As hrc) rfl hAn hl hst (lv_room (pc := pc) (m := m) (ls := ls) (rest := st0) hW) hdg hf) kk
theorem z_callSU {cC : ClassId} (hat : ClassAt s C cC) (S : CallFix p m c cc nL s args lw_all own) (hk : KK G Fa s) (hl : ls.size = nL) (V : VV G A Fa F ws Ha H locs) (isC isR : List Nat) (hC : isC.map (fun i => ws[i]?) = wc.map some) (hR : isR.map (fun i => ws[i]?) = wr.map some) (hnC : va_nd isC = true) (hn : va_nd isR = true) (hdis : ∀ i ∈ isR, i ∉ isC)
    (hM : Hp G F wc H → CT l G y bytes maxL ret fr lo mc ms (.ref b :: As) F wc H post) (cw : va_CS R s args own index y bytes maxL ret (ws_ y bytes maxL ret) ({ frames := fr, cells := mc, slots := ms, locals := lo }) mc ms n) (hrc : ∃ cellB : Cell, H[b]? = some cellB ∧ cellB.vm.isStatics = false ∧ s.vm.findClass C = some cellB.cls)
    (hAn : As.length = n) (hst : st0 = As.reverse ++ .ref b :: rest) (hW : (rest.map fun v => v.category).sum ≤ 8) (hdg : decode cc pc = .ok (.invokespecial index, 3)) (hf : cells + mc ≤ R.cells ∧ slots + ms ≤ R.slots)
    (kk : ∀ (v : Option Value) (F1 : fS) (w1 : va_W) (H1 : Heap) (locs1 : List Loc), post v F1 w1 → fLe F F1 → (∀ a, ¬ FR F wc H a → F1 a = F a) → VV G A Fa F1 (wr ++ w1) Ha H1 locs1 → W p l e R s m args below meth c H1 locs1 (cells + mc) (slots + ms) Q (F0 m (pc + 3) ls (v.toList ++ rest))) : W p l e R s m args below meth c H locs cells slots Q (F0 m pc ls st0) :=
  z_go V isC isR hC hR hn hdis (va_runSU (g := F0 m pc ls st0) hat S (hM (V.hp.sub isC hnC hC)) cw (z_preV hk V As hrc) rfl hAn hl hst (lv_room (pc := pc) (m := m) (ls := ls) (rest := st0) hW) hdg hf) kk
theorem z_ishr0 (hx : p.tables.exec = Jvm.exec) (hb : c.code = cc) {v : Int} (hdg : decode cc pc = .ok (.ishr, 1)) (k : W p l e R s m args below meth c H locs cells slots Q (F0 m (pc + 1) ls (iV v :: rest))) : W p l e R s m args below meth c H locs cells slots Q (F0 m pc ls (iV 0 :: iV v :: rest)) :=
  lv_ishr hx hb hdg (by rw [show (iZ 0 : Int32) = 0 from rfl, sb_shr0]; exact k)
theorem z_ishl0 (hx : p.tables.exec = Jvm.exec) (hb : c.code = cc) {v : Int} (hdg : decode cc pc = .ok (.ishl, 1)) (k : W p l e R s m args below meth c H locs cells slots Q (F0 m (pc + 1) ls (iV v :: rest))) : W p l e R s m args below meth c H locs cells slots Q (F0 m pc ls (iV 0 :: iV v :: rest)) :=
  lv_ishl hx hb hdg (by rw [show (iZ 0 : Int32) = 0 from rfl, sb_shl0]; exact k)
end ZD
