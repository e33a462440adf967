/-! ROWS over the world: a contract, its entry, its end; calls -/
set_option maxRecDepth 100000
/-- what a contract says of the end: the answer, the frozen store and the owned cells; the frame is in VV -/
def Qz (G : gG) (F : fS) (ws : va_W) (H : Heap) (post : Option Value → fS → va_W → Prop) : Array Value → State → Outcome → State → Prop := fun _ _ o t => ∃ (v : Option Value) (F' : fS) (ws' : va_W), o = .returned v ∧ post v F' ws' ∧ VV G (FR F ws H) F F' ws' H t.heap []
abbrev PcZ (G : gG) (F : fS) (H : Heap) (av : List Value) : Array Value → State → Prop := va_Pc av (fun U => U.heap = H ∧ KK G F U)
/-- a contract: frames, words of the locals, cells, slots; the arguments; the frozen store, the owned cells, the heap; the end -/
abbrev CT (l : Launch) (G : gG) (y : MethodName) (cc : ByteArray) (nL : Nat) (ret : Option FieldType) (fr lo mc ms : Nat) (av : List Value) (F : fS) (ws : va_W) (H : Heap) (post : Option Value → fS → va_W → Prop) : Prop :=
  Met l y (ws_ y cc nL ret) ({ frames := fr, cells := mc, slots := ms, locals := lo }) (PcZ G F H av) (Qz G F ws H post) mc ms (FR F ws H)
theorem PcZ.blind {G : gG} {F : fS} {H : Heap} {av : List Value} (hK : ∀ (a : Array Value) (U : State) (g : JFrame) (mk : MethodId), KK G F U → KK G F (U.calling g mk a)) : FrameBlind (PcZ G F H av) := fun a U g mk h => ⟨h.1, h.2.1, hK a U g mk h.2.2⟩
theorem KK.calling {G : gG} {F : fS} (a : Array Value) (U : State) (g : JFrame) (mk : MethodId) (h : KK G F U) : KK G F (U.calling g mk a) := h.moved (s := U) (U := U.calling g mk a) (State.WarmedH.refl U) fLe.rf
theorem VV.end_ {G : gG} {A : Nat → Prop} {Fa F : fS} {ws : va_W} {Ha H : Heap} {locs : List Loc} (V : VV G A Fa F ws Ha H locs) : VV G A Fa F ws Ha H [] := ⟨V.P, V.D, ⟨V.S.1, V.S.2.1, fun _ h => nomatch h⟩, V.Z, V.N, V.le, V.ou, V.nu, V.st⟩
section ZO
variable {l : Launch} {G : gG} {F : fS} {ws : va_W} {H : Heap}
/-- a method's body from its entry -/
theorem z_of {y : MethodName} {cc : ByteArray} {nL : Nat} {ret : Option FieldType} {fr lo mc ms : Nat} {av : List Value} {post : Option Value → fS → va_W → Prop} (hp : Hp G F ws H) (hy : plainName y.cls = true ∨ plainFor y = true) (hn : (lg_sl av).length ≤ nL)
    (body : ∀ (p : Program) (e : Env) (s : State) (m : MethodId) (below : List Frame) (meth : Method) (c : Code) (ls : Array Slot), p.tables.exec = Jvm.exec → c.code = cc → meth.sig.returnType = ret → c.maxLocals = nL → (∀ w ∈ lw_all, w.before av.toArray s = true) → s.vm.findClass y.cls = some m.cls → meth.locks = false → meth.name = y.name → KK G F s → s.heap = H → VV G (FR F ws H) F F ws H H [] → lv_has ls nL (lv_args 0 av) →
      W p l e ({ frames := fr, cells := mc, slots := ms, locals := lo }) s m av.toArray below meth c H [] 0 0 (MQ below (Qz G F ws H post) av.toArray s mc ms (FR F ws H)) (F0 m 0 ls [])) : CT l G y cc nL ret fr lo mc ms av F ws H post := by
  refine (fun body => hy.elim (fun hy => Met.ofW (cc := cc) (maxL := nL) (ret := ret) hy rfl body) (fun hy => va_MetF (cc := cc) (maxL := nL) (ret := ret) hy rfl body)) ?_
  intro p e s m args below meth c s₁ B hml hv
  obtain ⟨rfl, hsz, hK⟩ := hv
  have hts := atoms_spec (ws := ws_ y cc nL ret) B.pre
  have hts : ∀ w ∈ lw_all, w.before _ s = true := fun w h => hts w (List.mem_cons_of_mem _ h)
  have hown : s.vm.findClass y.cls = some m.cls := findClass_of_methodNamed B.named
  have hin : meth.name = y.name := (name_of_methodNamed B.named B.method).1
  have hl := lv_entry av (n := nL) hn
  rw [lg_entry_eq]
  have h := body p e s m below meth c _ B.exec B.bytes B.returns hml hts hown B.notSynchronized hin hK hsz (VV.start hp) hl
  rw [← hsz] at h
  rw [← hsz]
  exact h
end ZO
section ZC
variable {p : Program} {l : Launch} {e : Env} {R : Room} {s : State} {m : MethodId} {args : Array Value} {below : List Frame} {meth : Method} {c : Code} {H : Heap} {locs : List Loc} {cells slots : Nat} {Q : State → Prop}
variable {cc : ByteArray} {pc : Nat} {ls : Array Slot} {rest st0 : List Value} {G : gG} {A : Nat → Prop} {Fa Fk F : fS} {ws wc wr wa : va_W} {Ha : Heap} {post : Option Value → fS → va_W → Prop} {mc ms : Nat}
theorem z_iret (hx : p.tables.exec = Jvm.exec) (hb : c.code = cc) {ty : FieldType} (hr : meth.sig.returnType = some ty) (hlk : meth.locks = false) (V : VV G (FR Fa wa Ha) Fa F ws Ha H locs) {v : Int} (hn : narrow ty (iV v) = iV v) (hdg : decode cc pc = .ok (.ireturn, 1)) (hq : post (some (iV v)) F ws) (hc : cells ≤ mc ∧ slots ≤ ms) :
    W p l e R s m args below meth c H locs cells slots (MQ below (Qz G Fa wa Ha post) args s mc ms (FR Fa wa Ha)) (F0 m pc ls [iV v]) :=
  W.widen hc.1 hc.2 (W.zret hx hb hr hn (fun t ht _ => ⟨_, _, _, rfl, hq, by rw [ht]; exact V.end_⟩) V.S.2.2 hdg hlk)
theorem z_lret (hx : p.tables.exec = Jvm.exec) (hb : c.code = cc) (hr : meth.sig.returnType = some .long) (hlk : meth.locks = false) (V : VV G (FR Fa wa Ha) Fa F ws Ha H locs) {v : Int} (hdg : decode cc pc = .ok (.lreturn, 1)) (hq : post (some (jV v)) F ws) (hc : cells ≤ mc ∧ slots ≤ ms) :
    W p l e R s m args below meth c H locs cells slots (MQ below (Qz G Fa wa Ha post) args s mc ms (FR Fa wa Ha)) (F0 m pc ls [jV v]) :=
  W.widen hc.1 hc.2 (W.lret hx hb hr (fun t ht _ => ⟨_, _, _, rfl, hq, by rw [ht]; exact V.end_⟩) V.S.2.2 hdg hlk)
theorem z_fret (hx : p.tables.exec = Jvm.exec) (hb : c.code = cc) (hr : meth.sig.returnType = some .float) (hlk : meth.locks = false) (V : VV G (FR Fa wa Ha) Fa F ws Ha H locs) {v : UInt32} (hdg : decode cc pc = .ok (.freturn, 1)) (hq : post (some (.float v)) F ws) (hc : cells ≤ mc ∧ slots ≤ ms) :
    W p l e R s m args below meth c H locs cells slots (MQ below (Qz G Fa wa Ha post) args s mc ms (FR Fa wa Ha)) (F0 m pc ls [.float v]) :=
  W.widen hc.1 hc.2 (W.fret hx hb hr (fun t ht _ => ⟨_, _, _, rfl, hq, by rw [ht]; exact V.end_⟩) V.S.2.2 hdg hlk)
theorem z_dret (hx : p.tables.exec = Jvm.exec) (hb : c.code = cc) (hr : meth.sig.returnType = some .double) (hlk : meth.locks = false) (V : VV G (FR Fa wa Ha) Fa F ws Ha H locs) {v : UInt64} (hdg : decode cc pc = .ok (.dreturn, 1)) (hq : post (some (.double v)) F ws) (hc : cells ≤ mc ∧ slots ≤ ms) :
    W p l e R s m args below meth c H locs cells slots (MQ below (Qz G Fa wa Ha post) args s mc ms (FR Fa wa Ha)) (F0 m pc ls [.double v]) :=
  W.widen hc.1 hc.2 (W.dret hx hb hr (fun t ht _ => ⟨_, _, _, rfl, hq, by rw [ht]; exact V.end_⟩) V.S.2.2 hdg hlk)
theorem z_vret (hx : p.tables.exec = Jvm.exec) (hb : c.code = cc) (hr : meth.sig.returnType = none) (hlk : meth.locks = false) (V : VV G (FR Fa wa Ha) Fa F ws Ha H locs) (hdg : decode cc pc = .ok (.return_, 1)) (hq : post none F ws) (hc : cells ≤ mc ∧ slots ≤ ms) :
    W p l e R s m args below meth c H locs cells slots (MQ below (Qz G Fa wa Ha post) args s mc ms (FR Fa wa Ha)) (F0 m pc ls []) :=
  W.widen hc.1 hc.2 (W.vret hx hb hr (fun t ht _ => ⟨_, _, _, rfl, hq, by rw [ht]; exact V.end_⟩) V.S.2.2 hdg hlk)
theorem z_aret (hx : p.tables.exec = Jvm.exec) (hb : c.code = cc) {rt : FieldType} (hr : meth.sig.returnType = some rt) (hlk : meth.locks = false) (V : VV G (FR Fa wa Ha) Fa F ws Ha H locs) (hrt : (∃ n, rt = .object n) ∨ ∃ t, rt = .array t) {v : Value} (hv : v = .null ∨ ∃ a, v = .ref a) (hdg : decode cc pc = .ok (.areturn, 1)) (hq : post (some v) F ws) (hc : cells ≤ mc ∧ slots ≤ ms) :
    W p l e R s m args below meth c H locs cells slots (MQ below (Qz G Fa wa Ha post) args s mc ms (FR Fa wa Ha)) (F0 m pc ls [v]) :=
  W.widen hc.1 hc.2 (W.aret hx hb hr hrt hv (fun t ht _ => ⟨_, _, _, rfl, hq, by rw [ht]; exact V.end_⟩) V.S.2.2 hdg hlk)
/-- behind a call of three bytes, of five -/
theorem z_go (V : VV G A Fa F ws Ha H locs) (isC isR : List Nat) (hC : isC.map (fun i => ws[i]?) = wc.map some) (hR : isR.map (fun i => ws[i]?) = wr.map some) (hn : va_nd isR = true) (hdis : ∀ i ∈ isR, i ∉ isC)
    {g : JFrame} {aa : Array Value} (hr : va_Run p l e R s m args below meth c H locs cells slots mc ms g rest (Qz G F wc H post aa) (FR F wc H))
    (kk : ∀ (v : Option Value) (F1 : fS) (w1 : va_W) (H1 : Heap) (locs1 : List Loc), post v F1 w1 → fLe F F1 → (∀ a, ¬ FR F wc H a → F1 a = F a) → VV G A Fa F1 (wr ++ w1) Ha H1 locs1 → W p l e R s m args below meth c H1 locs1 (cells + mc) (slots + ms) Q { g with pc := g.pc + 3, stack := v.toList ++ rest }) : W p l e R s m args below meth c H locs cells slots Q g := by
  intro T hT X
  obtain ⟨v, st₀, t, T', L, h0, X', hL, e1, e2, ⟨v', F1, w1, ho, hq, V1⟩, st⟩ := hr T hT X
  cases ho
  obtain ⟨t2, a1, b1⟩ := kk v F1 w1 T'.heap (locs ++ L) hq V1.le V1.ou (V.join isC isR hC hR hn hdis (by rw [e1]; exact V1) hL) T' rfl X'
  exact ⟨t2, st t2 a1, b1⟩
theorem z_go5 (V : VV G A Fa F ws Ha H locs) (isC isR : List Nat) (hC : isC.map (fun i => ws[i]?) = wc.map some) (hR : isR.map (fun i => ws[i]?) = wr.map some) (hn : va_nd isR = true) (hdis : ∀ i ∈ isR, i ∉ isC)
    {g : JFrame} {aa : Array Value} (hr : va_Run5 p l e R s m args below meth c H locs cells slots mc ms g rest (Qz G F wc H post aa) (FR F wc H))
    (kk : ∀ (v : Option Value) (F1 : fS) (w1 : va_W) (H1 : Heap) (locs1 : List Loc), post v F1 w1 → fLe F F1 → (∀ a, ¬ FR F wc H a → F1 a = F a) → VV G A Fa F1 (wr ++ w1) Ha H1 locs1 → W p l e R s m args below meth c H1 locs1 (cells + mc) (slots + ms) Q { g with pc := g.pc + 5, stack := v.toList ++ rest }) : W p l e R s m args below meth c H locs cells slots Q g := by
  intro T hT X
  obtain ⟨v, st₀, t, T', L, h0, X', hL, e1, e2, ⟨v', F1, w1, ho, hq, V1⟩, st⟩ := hr T hT X
  cases ho
  obtain ⟨t2, a1, b1⟩ := kk v F1 w1 T'.heap (locs ++ L) hq V1.le V1.ou (V.join isC isR hC hR hn hdis (by rw [e1]; exact V1) hL) T' rfl X'
  exact ⟨t2, st t2 a1, b1⟩
theorem z_preS (hk : KK G Fa s) (V : VV G A Fa F ws Ha H locs) (As : List Value) : PreS s H (PcZ G F H As) As := ⟨PcZ.blind KK.calling, fun _ hU hW => ⟨rfl, hU, hk.moved hW V.le⟩⟩
theorem z_preV (hk : KK G Fa s) (V : VV G A Fa F ws Ha H locs) {C : String} {b : Nat} (As : List Value) (hrc : ∃ cellB : Cell, H[b]? = some cellB ∧ cellB.vm.isStatics = false ∧ s.vm.findClass C = some cellB.cls) : PreV s H C b (PcZ G F H (.ref b :: As)) As := ⟨PcZ.blind KK.calling, hrc, fun _ hU hW => ⟨rfl, hU, hk.moved hW V.le⟩⟩
/-- a receiver's class -/
theorem z_rc (hk : KK G Fk s) {a ci : Nat} {q : vw_C} {fs : List Value} (hc : va_at G.1 CL (a, .inr (ci, fs)) H) (hq : CL[ci]? = some q) : ∃ cell : Cell, H[a]? = some cell ∧ cell.vm.isStatics = false ∧ s.vm.findClass q.1 = some cell.cls :=
  va_recv (q0 := 0) hk.K (one_P hc) hq rfl
theorem z_at (hk : KK G Fk s) (i : Nat) {q : vw_C} (hq : CL[i]? = some q) : ClassAt s q.1 (G.1.1 i) := (hk.K.1 i q hq).2
section CALLS
variable {y : MethodName} {bytes : ByteArray} {maxL nL n index : Nat} {ret : Option FieldType} {fr lo : Nat} {own C : String} {b : Nat} {As : List Value}
theorem z_callV (S : CallFix p m c cc nL s args lw_all own) (hk : KK G Fa s) (hl : ls.size = nL) (V : VV G A Fa F ws Ha H locs) (isC isR : List Nat) (hC : isC.map (fun i => ws[i]?) = wc.map some) (hR : isR.map (fun i => ws[i]?) = wr.map some) (hnC : va_nd isC = true) (hn : va_nd isR = true) (hdis : ∀ i ∈ isR, i ∉ isC)
    (hM : Hp G F wc H → CT l G y bytes maxL ret fr lo mc ms (.ref b :: As) F wc H post) (cw : CallW R s args own C index y bytes maxL ret (ws_ y bytes maxL ret) ({ frames := fr, cells := mc, slots := ms, locals := lo }) mc ms n) (hrc : ∃ cellB : Cell, H[b]? = some cellB ∧ cellB.vm.isStatics = false ∧ s.vm.findClass C = some cellB.cls)
    (hAn : As.length = n) (hst : st0 = As.reverse ++ .ref b :: rest) (hW : (rest.map fun v => v.category).sum ≤ 8) (hdg : decode cc pc = .ok (.invokevirtual index, 3)) (hf : cells + mc ≤ R.cells ∧ slots + ms ≤ R.slots)
    (kk : ∀ (v : Option Value) (F1 : fS) (w1 : va_W) (H1 : Heap) (locs1 : List Loc), post v F1 w1 → fLe F F1 → (∀ a, ¬ FR F wc H a → F1 a = F a) → VV G A Fa F1 (wr ++ w1) Ha H1 locs1 → W p l e R s m args below meth c H1 locs1 (cells + mc) (slots + ms) Q (F0 m (pc + 3) ls (v.toList ++ rest))) : W p l e R s m args below meth c H locs cells slots Q (F0 m pc ls st0) :=
  z_go V isC isR hC hR hn hdis (va_runV (g := F0 m pc ls st0) S (hM (V.hp.sub isC hnC hC)) cw (z_preV hk V As hrc) rfl hAn hl hst (lv_room (pc := pc) (m := m) (ls := ls) (rest := st0) hW) hdg hf) kk
theorem z_callS (S : CallFix p m c cc nL s args lw_all own) (hk : KK G Fa s) (hl : ls.size = nL) (V : VV G A Fa F ws Ha H locs) (isC isR : List Nat) (hC : isC.map (fun i => ws[i]?) = wc.map some) (hR : isR.map (fun i => ws[i]?) = wr.map some) (hnC : va_nd isC = true) (hn : va_nd isR = true) (hdis : ∀ i ∈ isR, i ∉ isC)
    (hM : Hp G F wc H → CT l G y bytes maxL ret fr lo mc ms As F wc H post) (cw : CallB R s args own index y bytes maxL ret (ws_ y bytes maxL ret) ({ frames := fr, cells := mc, slots := ms, locals := lo }) mc ms n ∧ (Cond.static y).before args s = true)
    (hAn : As.length = n) (hst : st0 = As.reverse ++ rest) (hW : (rest.map fun v => v.category).sum ≤ 8) (hdg : decode cc pc = .ok (.invokestatic index, 3)) (hf : cells + mc ≤ R.cells ∧ slots + ms ≤ R.slots)
    (kk : ∀ (v : Option Value) (F1 : fS) (w1 : va_W) (H1 : Heap) (locs1 : List Loc), post v F1 w1 → fLe F F1 → (∀ a, ¬ FR F wc H a → F1 a = F a) → VV G A Fa F1 (wr ++ w1) Ha H1 locs1 → W p l e R s m args below meth c H1 locs1 (cells + mc) (slots + ms) Q (F0 m (pc + 3) ls (v.toList ++ rest))) : W p l e R s m args below meth c H locs cells slots Q (F0 m pc ls st0) :=
  z_go V isC isR hC hR hn hdis (va_runS (g := F0 m pc ls st0) S (hM (V.hp.sub isC hnC hC)) cw (z_preS hk V As) rfl hAn hl hst (lv_room (pc := pc) (m := m) (ls := ls) (rest := st0) hW) hdg hf) kk
theorem z_callI (S : CallFix p m c cc nL s args lw_all own) (hk : KK G Fa s) (hl : ls.size = nL) (V : VV G A Fa F ws Ha H locs) (isC isR : List Nat) (hC : isC.map (fun i => ws[i]?) = wc.map some) (hR : isR.map (fun i => ws[i]?) = wr.map some) (hnC : va_nd isC = true) (hn : va_nd isR = true) (hdis : ∀ i ∈ isR, i ∉ isC)
    (hM : Hp G F wc H → CT l G y bytes maxL none fr lo mc ms (.ref b :: As) F wc H post) (cw : CallB R s args own index y bytes maxL none (ws_ y bytes maxL none) ({ frames := fr, cells := mc, slots := ms, locals := lo }) mc ms n ∧ y.name = "<init>" ∧ (Cond.instanceMethod y).before args s = true)
    (hAn : As.length = n) (hst : st0 = As.reverse ++ .ref b :: rest) (hW : (rest.map fun v => v.category).sum ≤ 8) (hdg : decode cc pc = .ok (.invokespecial index, 3)) (hf : cells + mc ≤ R.cells ∧ slots + ms ≤ R.slots)
    (kk : ∀ (v : Option Value) (F1 : fS) (w1 : va_W) (H1 : Heap) (locs1 : List Loc), post v F1 w1 → fLe F F1 → (∀ a, ¬ FR F wc H a → F1 a = F a) → VV G A Fa F1 (wr ++ w1) Ha H1 locs1 → W p l e R s m args below meth c H1 locs1 (cells + mc) (slots + ms) Q (F0 m (pc + 3) ls (v.toList ++ rest))) : W p l e R s m args below meth c H locs cells slots Q (F0 m pc ls st0) :=
  z_go V isC isR hC hR hn hdis (va_runI (g := F0 m pc ls st0) S (hM (V.hp.sub isC hnC hC)) cw (z_preS hk V (.ref b :: As)) rfl hAn hl hst (lv_room (pc := pc) (m := m) (ls := ls) (rest := st0) hW) hdg hf) kk
theorem z_callF {x : MethodName} {cC : ClassId} {count : Nat} (hat : ClassAt s C cC) (S : CallFix p m c cc nL s args lw_all own) (hk : KK G Fa s) (hl : ls.size = nL) (V : VV G A Fa F ws Ha H locs) (isC isR : List Nat) (hC : isC.map (fun i => ws[i]?) = wc.map some) (hR : isR.map (fun i => ws[i]?) = wr.map some) (hnC : va_nd isC = true) (hn : va_nd isR = true) (hdis : ∀ i ∈ isR, i ∉ isC)
    (hM : Hp G F wc H → CT l G y bytes maxL ret fr lo mc ms (.ref b :: As) F wc H post) (cw : va_CI R s args own C index x y bytes maxL ret (ws_ y bytes maxL ret) ({ frames := fr, cells := mc, slots := ms, locals := lo }) mc ms n) (hrc : ∃ cellB : Cell, H[b]? = some cellB ∧ cellB.vm.isStatics = false ∧ s.vm.findClass C = some cellB.cls)
    (hAn : As.length = n) (hst : st0 = As.reverse ++ .ref b :: rest) (hW : (rest.map fun v => v.category).sum ≤ 8) (hdg : decode cc pc = .ok (.invokeinterface index count, 5)) (hf : cells + mc ≤ R.cells ∧ slots + ms ≤ R.slots)
    (kk : ∀ (v : Option Value) (F1 : fS) (w1 : va_W) (H1 : Heap) (locs1 : List Loc), post v F1 w1 → fLe F F1 → (∀ a, ¬ FR F wc H a → F1 a = F a) → VV G A Fa F1 (wr ++ w1) Ha H1 locs1 → W p l e R s m args below meth c H1 locs1 (cells + mc) (slots + ms) Q (F0 m (pc + 5) ls (v.toList ++ rest))) : W p l e R s m args below meth c H locs cells slots Q (F0 m pc ls st0) :=
  z_go5 V isC isR hC hR hn hdis (va_runF (g := F0 m pc ls st0) hat S (hM (V.hp.sub isC hnC hC)) cw (z_preV hk V As hrc) rfl hAn hl hst (lv_room (pc := pc) (m := m) (ls := ls) (rest := st0) hW) hdg hf) kk
/-- private members of a nest mate -/
theorem z_callSN {host : String} (S : CallFix p m c cc nL s args lw_all own) (hk : KK G Fa s) (hl : ls.size = nL) (V : VV G A Fa F ws Ha H locs) (isC isR : List Nat) (hC : isC.map (fun i => ws[i]?) = wc.map some) (hR : isR.map (fun i => ws[i]?) = wr.map some) (hnC : va_nd isC = true) (hn : va_nd isR = true) (hdis : ∀ i ∈ isR, i ∉ isC)
    (hM : Hp G F wc H → CT l G y bytes maxL ret fr lo mc ms As F wc H post) (cw : va_CN R s args own index y host bytes maxL ret (ws_ y bytes maxL ret) ({ frames := fr, cells := mc, slots := ms, locals := lo }) mc ms n ∧ (Cond.static y).before args s = true ∧ True)
    (hAn : As.length = n) (hst : st0 = As.reverse ++ rest) (hW : (rest.map fun v => v.category).sum ≤ 8) (hdg : decode cc pc = .ok (.invokestatic index, 3)) (hf : cells + mc ≤ R.cells ∧ slots + ms ≤ R.slots)
    (kk : ∀ (v : Option Value) (F1 : fS) (w1 : va_W) (H1 : Heap) (locs1 : List Loc), post v F1 w1 → fLe F F1 → (∀ a, ¬ FR F wc H a → F1 a = F a) → VV G A Fa F1 (wr ++ w1) Ha H1 locs1 → W p l e R s m args below meth c H1 locs1 (cells + mc) (slots + ms) Q (F0 m (pc + 3) ls (v.toList ++ rest))) : W p l e R s m args below meth c H locs cells slots Q (F0 m pc ls st0) :=
  z_go V isC isR hC hR hn hdis (va_runSN (g := F0 m pc ls st0) S (hM (V.hp.sub isC hnC hC)) cw (z_preS hk V As) rfl hAn hl hst (lv_room (pc := pc) (m := m) (ls := ls) (rest := st0) hW) hdg hf) kk
theorem z_callIN {host : String} (S : CallFix p m c cc nL s args lw_all own) (hk : KK G Fa s) (hl : ls.size = nL) (V : VV G A Fa F ws Ha H locs) (isC isR : List Nat) (hC : isC.map (fun i => ws[i]?) = wc.map some) (hR : isR.map (fun i => ws[i]?) = wr.map some) (hnC : va_nd isC = true) (hn : va_nd isR = true) (hdis : ∀ i ∈ isR, i ∉ isC)
    (hM : Hp G F wc H → CT l G y bytes maxL none fr lo mc ms (.ref b :: As) F wc H post) (cw : va_CN R s args own index y host bytes maxL none (ws_ y bytes maxL none) ({ frames := fr, cells := mc, slots := ms, locals := lo }) mc ms n ∧ y.name = "<init>" ∧ (Cond.instanceMethod y).before args s = true)
    (hAn : As.length = n) (hst : st0 = As.reverse ++ .ref b :: rest) (hW : (rest.map fun v => v.category).sum ≤ 8) (hdg : decode cc pc = .ok (.invokespecial index, 3)) (hf : cells + mc ≤ R.cells ∧ slots + ms ≤ R.slots)
    (kk : ∀ (v : Option Value) (F1 : fS) (w1 : va_W) (H1 : Heap) (locs1 : List Loc), post v F1 w1 → fLe F F1 → (∀ a, ¬ FR F wc H a → F1 a = F a) → VV G A Fa F1 (wr ++ w1) Ha H1 locs1 → W p l e R s m args below meth c H1 locs1 (cells + mc) (slots + ms) Q (F0 m (pc + 3) ls (v.toList ++ rest))) : W p l e R s m args below meth c H locs cells slots Q (F0 m pc ls st0) :=
  z_go V isC isR hC hR hn hdis (va_runIN (g := F0 m pc ls st0) S (hM (V.hp.sub isC hnC hC)) cw (z_preS hk V (.ref b :: As)) rfl hAn hl hst (lv_room (pc := pc) (m := m) (ls := ls) (rest := st0) hW) hdg hf) kk
end CALLS
end ZC
