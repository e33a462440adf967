/-! SUPER CALLS of a method that a class above the superclass declares -/
set_option maxRecDepth 100000
section ZSX
variable {p : Program} {l : Launch} {e : Env} {R : Room} {s : State} {m : MethodId} {args : Array Value} {below : List Frame} {meth : Method} {c : Code} {H : Heap} {locs : List Loc} {cells slots : Nat} {Q : State → Prop}
variable {cc : ByteArray} {pc : Nat} {ls : Array Slot} {rest st0 : List Value} {G : gG} {A : Nat → Prop} {Fa Fk F : fS} {ws wc wr wa : va_W} {Ha : Heap} {post : Option Value → fS → va_W → Prop} {mc ms : Nat}
variable {y x : MethodName} {bytes : ByteArray} {maxL nL n index : Nat} {ret : Option FieldType} {fr lo : Nat} {own C owner : String} {b : Nat} {As : List Value}
abbrev zS_X (R : Room) (s : State) (args : Array Value) (own owner : String) (index : Nat) (x y : MethodName) (bytes : ByteArray) (maxL : Nat) (ret : Option FieldType) (ws : List Cond) (rm : Room) (mc ms n : Nat) : Prop :=
  (rm.cells = mc ∧ rm.slots = ms ∧ rm.frames + 1 ≤ R.frames ∧ 8 + (maxL + 11) + rm.locals ≤ R.locals ∧ (∀ w ∈ ws, ∀ (a' : Array Value) (U : State), s.WarmedH U.vm → w.before a' U = true) ∧ Cond.code y bytes maxL ret ∈ ws) ∧ (Cond.initialized y.cls).before args s = true ∧
  (Cond.methodLink own index x).before args s = true ∧ (Cond.sameMethod x.cls owner x.name x.desc).before args s = true ∧ (Cond.superclass own x.cls).before args s = true ∧ (Cond.superclass x.cls owner).before args s = true ∧ y = ⟨owner, x.name, x.desc⟩ ∧ (Cond.instanceMethod y).before args s = true ∧ (Cond.code y bytes maxL ret).before args s = true ∧ x.name ≠ "<init>" ∧ (∀ sig, parseMethodDescriptor y.desc = some sig → n = sig.parameters.length)
theorem z_runSX {ws : List Cond} {rm : Room} {Pc : Array Value → State → Prop} {Qc : Array Value → State → Outcome → State → Prop} {free : Addr → Prop} {Ts : List Cond} {cC : ClassId} {g : JFrame}
    (hat : ClassAt s C cC) (S : CallFix p m c cc nL s args Ts own) (hM : Met l y ws rm Pc Qc mc ms free) (cw : zS_X R s args own owner index x y bytes maxL ret ws rm mc ms n) (hp : PreV s H C b Pc As)
    (hg : g.method = m) (hn : As.length = n) (hsize : g.locals.size = nL) (hstack : g.stack = As.reverse ++ .ref b :: rest) (hW : 2 * g.monitorRoom + (rest.map fun v => v.category).sum ≤ 8) (hdg : decode cc g.pc = .ok (.invokespecial index, 3)) (hf : cells + mc ≤ R.cells ∧ slots + ms ≤ R.slots) :
    va_Run p l e R s m args below meth c H locs cells slots mc ms g rest (Qc (Value.ref b :: As).toArray) (free) := by
  obtain ⟨⟨hrc, hrs, hfr, hlo, hws, hcw⟩, hini, k1, k2, k3, k4, rfl, k6, k7, k8, k9⟩ := cw
  have hK : Back l R p e below s args ⟨owner, x.name, x.desc⟩ 3 8 (PreOf R mc ms Pc) (PostOf Qc mc ms free) := back_of (bytes := bytes) (maxL := maxL) (ret := ret) hM hp.1 hrc hrs hfr hlo hws hcw (fun a' U hW => word_at hW (Or.inl (by first | rfl | simp [Cond.onTables, Cond.keeps, Cond.steady])) hini)
  obtain ⟨hx, hb, hml, ho, -⟩ := S
  obtain ⟨-, ⟨cellB, hcB, hoB, hclB⟩, hPc⟩ := hp
  obtain ⟨hfc, kB, hkB, -⟩ := hat
  cases hfc.symm.trans hclB
  obtain ⟨mk, methM, hnamed, hmethM, hstM, habM⟩ := Cond.instanceMethod_spec k6
  obtain ⟨methM', cM, hmethM', -, -, -, -, -, -, hsigM⟩ := Cond.code_spec hnamed k7
  cases hmethM.symm.trans hmethM'
  obtain ⟨ps, dk, kp, hps, hdk, hkp, hsuper, -, -, hnid⟩ := Cond.superclass_spec ho k3
  obtain ⟨pt, dk2, kp2, hpt, hdk2, -, hsuper2, -, -, -⟩ := Cond.superclass_spec hps k4
  have hpm : pt = mk.cls := Option.some.inj (hpt.symm.trans (findClass_of_methodNamed hnamed))
  have hsub : s.vm.isSubclass ps mk.cls = true := by
    rw [← hpm]
    have hz0 := (Array.getElem?_eq_some_iff.mp hdk2).1
    obtain ⟨z, hz⟩ : ∃ z, s.vm.classes.size = z + 1 := ⟨s.vm.classes.size - 1, by omega⟩
    show s.vm.isSubclassAux (s.vm.classes.size + 1) ps pt = true
    rw [hz, Vm.isSubclassAux, hdk2]
    simp only [hsuper2]
    rw [Vm.isSubclassAux]
    simp
  intro T hT X
  obtain ⟨vm₁, X₁, hstep₁⟩ := X.invokespecialUp hx ho k1 k2 hnamed hmethM hstM habM k8 hdk hnid hps hsuper hsub (a := b) (cell := cellB) (by rw [hT]; exact hcB)
    (fun z h => by rw [h] at hoB; cases hoB) hkB (g := g) hg (argsL := As) (rest := rest) (hn.trans (k9 _ hsigM)) hstack (by rw [hb]; exact hdg)
  obtain ⟨v, ⟨U', l2, c2, s2⟩, X', ⟨g', mk', t, L, e1, e2, hq, h1, hL, h2, h3⟩, hsteps⟩ := hK m meth c ⟨T.setVm vm₁, locs, cells, slots⟩ { g with stack := rest } (.invokespecial index) mk (Value.ref b :: As).toArray X₁ hg (hsize.trans hml.symm) (by rw [hb]; exact hdg) hW (X₁.named hnamed) ⟨hf.1, hf.2, hPc (T.setVm vm₁) hT X₁.warmed⟩
  dsimp only [Pt.U, Pt.locs, Pt.cells, Pt.slots] at X' e1 e2 h1 h2 h3 hsteps
  subst h1; subst h2; subst h3
  exact ⟨v, (T.setVm vm₁).calling g' mk' (Value.ref b :: As).toArray, t, U', L, hT, X', hL, e1, e2, hq, fun target h => hstep₁ _ (by rw [doInvoke_state]; exact hsteps.trans h)⟩
theorem z_callSX {cC : ClassId} (hat : ClassAt s C cC) (S : CallFix p m c cc nL s args lw_all own) (hk : KK G Fa s) (hl : ls.size = nL) (V : VV G A Fa F ws Ha H locs) (isC isR : List Nat) (hC : isC.map (fun i => ws[i]?) = wc.map some) (hR : isR.map (fun i => ws[i]?) = wr.map some) (hnC : va_nd isC = true) (hn : va_nd isR = true) (hdis : ∀ i ∈ isR, i ∉ isC)
    (hM : Hp G F wc H → CT l G y bytes maxL ret fr lo mc ms (.ref b :: As) F wc H post) (cw : zS_X R s args own owner index x y bytes maxL ret (ws_ y bytes maxL ret) ({ frames := fr, cells := mc, slots := ms, locals := lo }) mc ms n) (hrc : ∃ cellB : Cell, H[b]? = some cellB ∧ cellB.vm.isStatics = false ∧ s.vm.findClass C = some cellB.cls)
    (hAn : As.length = n) (hst : st0 = As.reverse ++ .ref b :: rest) (hW : (rest.map fun v => v.category).sum ≤ 8) (hdg : decode cc pc = .ok (.invokespecial index, 3)) (hf : cells + mc ≤ R.cells ∧ slots + ms ≤ R.slots)
    (kk : ∀ (v : Option Value) (F1 : fS) (w1 : va_W) (H1 : Heap) (locs1 : List Loc), post v F1 w1 → fLe F F1 → (∀ a, ¬ FR F wc H a → F1 a = F a) → VV G A Fa F1 (wr ++ w1) Ha H1 locs1 → W p l e R s m args below meth c H1 locs1 (cells + mc) (slots + ms) Q (F0 m (pc + 3) ls (v.toList ++ rest))) : W p l e R s m args below meth c H locs cells slots Q (F0 m pc ls st0) :=
  z_go V isC isR hC hR hn hdis (z_runSX (g := F0 m pc ls st0) hat S (hM (V.hp.sub isC hnC hC)) cw (z_preV hk V As hrc) rfl hAn hl hst (lv_room (pc := pc) (m := m) (ls := ls) (rest := st0) hW) hdg hf) kk
end ZSX
