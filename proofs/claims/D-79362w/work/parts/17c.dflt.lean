/-! CALLS of default methods -/
set_option maxRecDepth 100000
theorem KK.dfu {G : gG} {F : fS} {U : State} (h : KK G F U) (i : Nat) {t : MethodName × MethodName} (hi : DFL[i]? = some t) {A : Array Value} : (Cond.landsInDefault "TranslationMemory$Sentence" t.1 t.2).before A U = true := by
  have h1 := h.df i hi
  unfold va_Nw at h1
  simp only [Cond.before, Cond.holds, Cond.value] at h1 ⊢
  exact h1
section ZDF
variable {p : Program} {l : Launch} {e : Env} {R : Room} {s : State} {m : MethodId} {args : Array Value} {below : List Frame} {meth : Method} {c : Code} {H : Heap} {locs : List Loc} {cells slots : Nat} {Q : State → Prop}
variable {cc : ByteArray} {pc : Nat} {ls : Array Slot} {rest st0 : List Value} {G : gG} {A : Nat → Prop} {Fa Fk F : fS} {ws wc wr wa : va_W} {Ha : Heap} {post : Option Value → fS → va_W → Prop} {mc ms : Nat}
variable {y x : MethodName} {bytes : ByteArray} {maxL nL n index count : Nat} {ret : Option FieldType} {fr lo : Nat} {own C owner : String} {b : Nat} {As : List Value}
abbrev zD_I (R : Room) (s : State) (args : Array Value) (own C : String) (index : Nat) (x y : MethodName) (bytes : ByteArray) (maxL : Nat) (ret : Option FieldType) (ws : List Cond) (rm : Room) (mc ms n : Nat) : Prop :=
  (rm.cells = mc ∧ rm.slots = ms ∧ rm.frames + 1 ≤ R.frames ∧ 8 + (maxL + 11) + rm.locals ≤ R.locals ∧ (∀ w ∈ ws, ∀ (a' : Array Value) (U : State), s.WarmedH U.vm → w.before a' U = true) ∧ Cond.code y bytes maxL ret ∈ ws) ∧ (Cond.initialized y.cls).before args s = true ∧
  (Cond.methodLink own index x).before args s = true ∧ (Cond.declares x).before args s = true ∧ (Cond.interfaceMethod x.cls x.cls x.name x.desc).before args s = true ∧ (Cond.landsInDefault C x y).before args s = true ∧ (Cond.instanceMethod y).before args s = true ∧ (Cond.publicMethod y).before args s = true ∧ (Cond.castable C x.cls).before args s = true ∧ (x.cls ≠ "java/lang/invoke/MethodHandle" ∧ x.cls ≠ "java/lang/invoke/VarHandle") ∧ (∀ sig, parseMethodDescriptor x.desc = some sig → n = sig.parameters.length)
abbrev zD_V (R : Room) (s : State) (args : Array Value) (own C owner : String) (index : Nat) (x y : MethodName) (bytes : ByteArray) (maxL : Nat) (ret : Option FieldType) (ws : List Cond) (rm : Room) (mc ms n : Nat) : Prop :=
  (rm.cells = mc ∧ rm.slots = ms ∧ rm.frames + 1 ≤ R.frames ∧ 8 + (maxL + 11) + rm.locals ≤ R.locals ∧ (∀ w ∈ ws, ∀ (a' : Array Value) (U : State), s.WarmedH U.vm → w.before a' U = true) ∧ Cond.code y bytes maxL ret ∈ ws) ∧ (Cond.initialized y.cls).before args s = true ∧
  (Cond.methodLink own index x).before args s = true ∧ (Cond.sameMethod x.cls owner x.name x.desc).before args s = true ∧ (Cond.declares ⟨owner, x.name, x.desc⟩).before args s = true ∧ (owner ≠ "java/lang/invoke/MethodHandle" ∧ owner ≠ "java/lang/invoke/VarHandle") ∧ (Cond.landsInDefault C x y).before args s = true ∧ (Cond.instanceMethod y).before args s = true ∧ (∀ sig, parseMethodDescriptor x.desc = some sig → n = sig.parameters.length)
theorem z_rm {y : MethodName} {bytes : ByteArray} {maxL : Nat} {ret : Option FieldType} {rm : Room} {mc ms : Nat} (ht : ∀ w ∈ lw_all, w.before args s = true) (hG : GoodIn lw_all (ws_ y bytes maxL ret)) (hrc : rm.cells = mc) (hrs : rm.slots = ms) (hR : rm.frames + 1 ≤ R.frames ∧ 8 + (maxL + 11) + rm.locals ≤ R.locals) : rm.cells = mc ∧ rm.slots = ms ∧ rm.frames + 1 ≤ R.frames ∧ 8 + (maxL + 11) + rm.locals ≤ R.locals ∧ (∀ w ∈ ws_ y bytes maxL ret, ∀ (a' : Array Value) (U : State), s.WarmedH U.vm → w.before a' U = true) ∧ Cond.code y bytes maxL ret ∈ ws_ y bytes maxL ret :=
  ⟨hrc, hrs, hR.1, hR.2, pay_in ht hG, List.mem_cons_self⟩
theorem z_len {d : String} {n : Nat} (h : (parseMethodDescriptor d).map (fun d => d.parameters.length) = some n) : ∀ sig, parseMethodDescriptor d = some sig → n = sig.parameters.length := by
  intro sig h2
  rw [h2] at h
  exact (Option.some.inj h).symm
theorem z_runFD {ws : List Cond} {rm : Room} {Pc : Array Value → State → Prop} {Qc : Array Value → State → Outcome → State → Prop} {free : Addr → Prop} {Ts : List Cond} {cC : ClassId} {g : JFrame}
    (hat : ClassAt s C cC) (S : CallFix p m c cc nL s args Ts own) (hM : Met l y ws rm Pc Qc mc ms free) (cw : zD_I R s args own C index x y bytes maxL ret ws rm mc ms n) (hp : PreV s H C b Pc As)
    (hg : g.method = m) (hn : As.length = n) (hsize : g.locals.size = nL) (hstack : g.stack = As.reverse ++ .ref b :: rest) (hW : 2 * g.monitorRoom + (rest.map fun v => v.category).sum ≤ 8) (hdg : decode cc g.pc = .ok (.invokeinterface index count, 5)) (hf : cells + mc ≤ R.cells ∧ slots + ms ≤ R.slots) :
    va_Run5 p l e R s m args below meth c H locs cells slots mc ms g rest (Qc (Value.ref b :: As).toArray) (free) := by
  obtain ⟨⟨hrc, hrs, hfr, hlo, hws, hcw⟩, hini, k1, k2, k3, k4, k5, k6, k7, k8, k9⟩ := cw
  have hK : Back l R p e below s args y 5 8 (PreOf R mc ms Pc) (PostOf Qc mc ms free) := back_of (bytes := bytes) (maxL := maxL) (ret := ret) hM hp.1 hrc hrs hfr hlo hws hcw (fun a' U hW => word_at hW (Or.inl (by first | rfl | simp [Cond.onTables, Cond.keeps, Cond.steady])) hini)
  obtain ⟨hx, hb, hml, ho, -⟩ := S
  obtain ⟨-, ⟨cellB, hcB, hoB, hclB⟩, hPc⟩ := hp
  obtain ⟨hfc, kB, hkB, -⟩ := hat
  cases hfc.symm.trans hclB
  intro T hT X
  obtain ⟨v, vm₁, ⟨U', l2, c2, s2⟩, hW₁, X', ⟨g', mk, t, L, e1, e2, hq, h1, hL, h2, h3⟩, st⟩ := X.interfaceBackD hx ho k1 k2 k3 k4 k5 k6 k7 k8 hK hfc hkB (b := b) ⟨cellB, by rw [hT]; exact hcB, rfl, hoB⟩ hg (hsize.trans hml.symm) (Steps.refl _) (argsL := As) (rest := rest) (fun sig h => hn.trans (k9 sig h)) hstack hW (by rw [hb]; exact hdg)
    (fun vm₁ hW₁ => ⟨hf.1, hf.2, hPc (T.setVm vm₁) hT hW₁⟩)
  dsimp only [Pt.U, Pt.locs, Pt.cells, Pt.slots] at X' e1 e2 h1 h2 h3 st
  subst h1; subst h2; subst h3
  exact ⟨v, (T.setVm vm₁).calling g' mk (Value.ref b :: As).toArray, t, U', L, hT, X', hL, e1, e2, hq, fun target h => st.trans h⟩
theorem z_runVD {ws : List Cond} {rm : Room} {Pc : Array Value → State → Prop} {Qc : Array Value → State → Outcome → State → Prop} {free : Addr → Prop} {Ts : List Cond} {g : JFrame}
    (S : CallFix p m c cc nL s args Ts own) (hM : Met l y ws rm Pc Qc mc ms free) (cw : zD_V R s args own C owner index x y bytes maxL ret ws rm mc ms n) (hp : PreV s H C b Pc As)
    (hg : g.method = m) (hn : As.length = n) (hsize : g.locals.size = nL) (hstack : g.stack = As.reverse ++ .ref b :: rest) (hW : 2 * g.monitorRoom + (rest.map fun v => v.category).sum ≤ 8) (hdg : decode cc g.pc = .ok (.invokevirtual index, 3)) (hf : cells + mc ≤ R.cells ∧ slots + ms ≤ R.slots) :
    va_Run p l e R s m args below meth c H locs cells slots mc ms g rest (Qc (Value.ref b :: As).toArray) (free) := by
  obtain ⟨⟨hrc, hrs, hfr, hlo, hws, hcw⟩, hini, k1, k2, k3, k4, k5, k6, k9⟩ := cw
  have hK : Back l R p e below s args y 3 8 (PreOf R mc ms Pc) (PostOf Qc mc ms free) := back_of (bytes := bytes) (maxL := maxL) (ret := ret) hM hp.1 hrc hrs hfr hlo hws hcw (fun a' U hW => word_at hW (Or.inl (by first | rfl | simp [Cond.onTables, Cond.keeps, Cond.steady])) hini)
  obtain ⟨hx, hb, hml, ho, -⟩ := S
  obtain ⟨-, ⟨cellB, hcB, hoB, hclB⟩, hPc⟩ := hp
  intro T hT X
  obtain ⟨v, vm₁, ⟨U', l2, c2, s2⟩, hW₁, X', ⟨g', mk, t, L, e1, e2, hq, h1, hL, h2, h3⟩, st⟩ := X.virtualBackUpD hx ho k1 k2 k3 k4 k5 k6 hK hclB (b := b) ⟨cellB, by rw [hT]; exact hcB, rfl, hoB⟩ hg (hsize.trans hml.symm) (Steps.refl _) (argsL := As) (rest := rest) (fun sig h => hn.trans (k9 sig h)) hstack hW (by rw [hb]; exact hdg)
    (fun vm₁ hW₁ => ⟨hf.1, hf.2, hPc (T.setVm vm₁) hT hW₁⟩)
  dsimp only [Pt.U, Pt.locs, Pt.cells, Pt.slots] at X' e1 e2 h1 h2 h3 st
  subst h1; subst h2; subst h3
  exact ⟨v, (T.setVm vm₁).calling g' mk (Value.ref b :: As).toArray, t, U', L, hT, X', hL, e1, e2, hq, fun target h => st.trans h⟩
theorem z_callFD {cC : ClassId} (hat : ClassAt s C cC) (S : CallFix p m c cc nL s args lw_all own) (hk : KK G Fa s) (hl : ls.size = nL) (V : VV G A Fa F ws Ha H locs) (isC isR : List Nat) (hC : isC.map (fun i => ws[i]?) = wc.map some) (hR : isR.map (fun i => ws[i]?) = wr.map some) (hnC : va_nd isC = true) (hn : va_nd isR = true) (hdis : ∀ i ∈ isR, i ∉ isC)
    (hM : Hp G F wc H → CT l G y bytes maxL ret fr lo mc ms (.ref b :: As) F wc H post) (cw : zD_I R s args own C index x y bytes maxL ret (ws_ y bytes maxL ret) ({ frames := fr, cells := mc, slots := ms, locals := lo }) mc ms n) (hrc : ∃ cellB : Cell, H[b]? = some cellB ∧ cellB.vm.isStatics = false ∧ s.vm.findClass C = some cellB.cls)
    (hAn : As.length = n) (hst : st0 = As.reverse ++ .ref b :: rest) (hW : (rest.map fun v => v.category).sum ≤ 8) (hdg : decode cc pc = .ok (.invokeinterface index count, 5)) (hf : cells + mc ≤ R.cells ∧ slots + ms ≤ R.slots)
    (kk : ∀ (v : Option Value) (F1 : fS) (w1 : va_W) (H1 : Heap) (locs1 : List Loc), post v F1 w1 → fLe F F1 → (∀ a, ¬ FR F wc H a → F1 a = F a) → VV G A Fa F1 (wr ++ w1) Ha H1 locs1 → W p l e R s m args below meth c H1 locs1 (cells + mc) (slots + ms) Q (F0 m (pc + 5) ls (v.toList ++ rest))) : W p l e R s m args below meth c H locs cells slots Q (F0 m pc ls st0) :=
  z_go5 V isC isR hC hR hn hdis (z_runFD (g := F0 m pc ls st0) hat S (hM (V.hp.sub isC hnC hC)) cw (z_preV hk V As hrc) rfl hAn hl hst (lv_room (pc := pc) (m := m) (ls := ls) (rest := st0) hW) hdg hf) kk
theorem z_callVD (S : CallFix p m c cc nL s args lw_all own) (hk : KK G Fa s) (hl : ls.size = nL) (V : VV G A Fa F ws Ha H locs) (isC isR : List Nat) (hC : isC.map (fun i => ws[i]?) = wc.map some) (hR : isR.map (fun i => ws[i]?) = wr.map some) (hnC : va_nd isC = true) (hn : va_nd isR = true) (hdis : ∀ i ∈ isR, i ∉ isC)
    (hM : Hp G F wc H → CT l G y bytes maxL ret fr lo mc ms (.ref b :: As) F wc H post) (cw : zD_V R s args own C owner index x y bytes maxL ret (ws_ y bytes maxL ret) ({ frames := fr, cells := mc, slots := ms, locals := lo }) mc ms n) (hrc : ∃ cellB : Cell, H[b]? = some cellB ∧ cellB.vm.isStatics = false ∧ s.vm.findClass C = some cellB.cls)
    (hAn : As.length = n) (hst : st0 = As.reverse ++ .ref b :: rest) (hW : (rest.map fun v => v.category).sum ≤ 8) (hdg : decode cc pc = .ok (.invokevirtual index, 3)) (hf : cells + mc ≤ R.cells ∧ slots + ms ≤ R.slots)
    (kk : ∀ (v : Option Value) (F1 : fS) (w1 : va_W) (H1 : Heap) (locs1 : List Loc), post v F1 w1 → fLe F F1 → (∀ a, ¬ FR F wc H a → F1 a = F a) → VV G A Fa F1 (wr ++ w1) Ha H1 locs1 → W p l e R s m args below meth c H1 locs1 (cells + mc) (slots + ms) Q (F0 m (pc + 3) ls (v.toList ++ rest))) : W p l e R s m args below meth c H locs cells slots Q (F0 m pc ls st0) :=
  z_go V isC isR hC hR hn hdis (z_runVD (g := F0 m pc ls st0) S (hM (V.hp.sub isC hnC hC)) cw (z_preV hk V As hrc) rfl hAn hl hst (lv_room (pc := pc) (m := m) (ls := ls) (rest := st0) hW) hdg hf) kk
end ZDF
