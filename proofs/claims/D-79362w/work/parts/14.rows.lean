/-! ROWS over the world: objects, arrays, statics, calls, ends -/
set_option maxRecDepth 100000
/-- a class of the list: its number, its table, its words -/
def Kls (ci : Nat) (C : String) (T : u_T) (N : Nat) (ty : Nat → FieldType) : Prop := CL[ci]? = some (C, T, N) ∧ (∀ w ∈ u_ws C T N, w ∈ lw_all) ∧ (∀ k, k < N → parseFieldDescriptor (T k).2.2.1 = some (ty k)) ∧ (∀ a, a < N → ∀ b, b < N → a ≠ b → (T a).2.1 ≠ (T b).2.1)
theorem KK.K {G : gG} {F : fS} {U : State} (h : KK G F U) : va_K G.1 CL (TYS G) U := h.1
theorem KK.N {G : gG} {F : fS} {U : State} (h : KK G F U) {w : Cond} (hw : w ∈ lw_tbl) (hk : tabK w = true) : va_Nw w U := h.2.1 w hw hk
theorem KK.I {G : gG} {F : fS} {U : State} (h : KK G F U) (i : Nat) {t : String × MethodName × MethodName} (hi : IFL[i]? = some t) : va_Fw t.1 t.2.1 t.2.2 U := h.2.2.1 t (List.mem_of_getElem? hi)
theorem KK.dw {G : gG} {F : fS} {U : State} (h : KK G F U) (i : Nat) {w : Cond} (hi : defaultWords_1[i]? = some w) : va_Nw w U := h.2.2.2.1 w (List.mem_of_getElem? hi)
theorem KK.df {G : gG} {F : fS} {U : State} (h : KK G F U) (i : Nat) {t : MethodName × MethodName} (hi : DFL[i]? = some t) : va_Nw (.landsInDefault "TranslationMemory$Sentence" t.1 t.2) U := h.2.2.2.2.1 t (List.mem_of_getElem? hi)
theorem KK.Zs {G : gG} {F : fS} {U : State} (h : KK G F U) (i : Nat) {t : String × String × String × Value} (hi : (ZL G)[i]? = some t) : zZ F t.1 t.2.1 t.2.2.1 t.2.2.2 U := h.2.2.2.2.2.2.1 t (List.mem_of_getElem? hi)
theorem KK.Sr {G : gG} {F : fS} {U : State} (h : KK G F U) (i : Nat) {t : String × Nat × String × Nat} (hi : (SL G)[i]? = some t) : vk_R t.1 t.2.1 t.2.2.1 t.2.2.2 U := h.2.2.2.2.2.2.2.2.1 t (List.mem_of_getElem? hi)
theorem KK.so {G : gG} {F : fS} {U : State} (h : KK G F U) : SO G F := h.2.2.2.2.2.2.2.2.2.2.1
theorem KK.zc {G : gG} {F : fS} {U : State} (h : KK G F U) : zC G F U := h.2.2.2.2.2.2.2.2.2.2.2.1
theorem KK.ze {G : gG} {F : fS} {U : State} (h : KK G F U) : zE G F U := h.2.2.2.2.2.2.2.2.2.2.2.2.1
theorem KK.sf {G : gG} {F : fS} {U : State} (h : KK G F U) : zV F U := h.2.2.2.2.2.2.2.2.2.2.2.2.2.1
theorem KK.nc {G : gG} {F : fS} {U : State} (h : KK G F U) (i : Nat) {t : String × String} (hi : NCL[i]? = some t) : va_Nc t.1 t.2 U := h.2.2.2.2.2.2.2.2.2.2.2.2.2.2 t (List.mem_of_getElem? hi)
theorem KK.lam {G : gG} {F : fS} {U : State} (h : KK G F U) : zLam F U := h.2.2.2.2.2.2.2.2.2.1
theorem IFL_ok : ∀ t ∈ IFL, t.2.1.cls ≠ "java/lang/invoke/MethodHandle" ∧ t.2.1.cls ≠ "java/lang/invoke/VarHandle" := by decide +kernel
theorem dfl_moved {s U : State} (hW : s.WarmedH U.vm) (t : MethodName × MethodName) (h : va_Nw (.landsInDefault "TranslationMemory$Sentence" t.1 t.2) s) : va_Nw (.landsInDefault "TranslationMemory$Sentence" t.1 t.2) U := by
  have h1 : (Cond.landsInDefault "TranslationMemory$Sentence" t.1 t.2).before #[] (s.setVm U.vm) = true := (Cond.landsInDefault_setVm (args := #[]) (args' := #[]) hW.alike (State.methodFound?_setVm hW.alike _ _ _)).trans h
  exact h1
theorem KK.moved {G : gG} {F F1 : fS} {s U : State} (hW : s.WarmedH U.vm) (hF : fLe F F1) (h : KK G F s) : KK G F1 U := by
  obtain ⟨h1, h2, h3, h4, h5, h6, h7, h8, h9, h10, h11, h12, h13, h14, h15⟩ := h
  have hA := hW.alike
  refine ⟨va_K.moved hA h1, fun w hw hk => tabK_moved hk hW (h2 w hw hk), fun t ht => va_Fw.moved (IFL_ok t ht) hA (h3 t ht), fun w hw => ?_, fun t ht => ?_, ⟨va_AO.moved hA h6.1, va_AO.moved hA h6.2⟩, fun t ht => (h7 t ht).moved hA hF, ⟨h8.1.moved hA hF, h8.2.moved hA hF⟩, fun t ht => (h9 t ht).warm hW, fun x pc i σ hm => ?_, h11.mono hF, h12.moved hA hF, h13.moved hA hF, h14.moved hA hF, fun t ht => (h15 t ht).moved hA⟩
  · have hg : ∀ w ∈ defaultWords_1, goodWord w = true := by decide +kernel
    exact word_at hW (good_of_word (hg w hw)) (h4 w hw)
  · exact dfl_moved hW t (h5 t ht)
  · obtain ⟨c, lk, h⟩ := h10 x pc i σ hm
    exact ⟨c, lk, h.moved hW hF⟩

/-- a statics' cell isn't among what may be written -/
theorem Hp.raw {G : gG} {F : fS} {ws : va_W} {H : Heap} (h : Hp G F ws H) {a : Nat} {c : Cell} (hF : F a = some (.inr (.inr c))) : H[a]? = some c ∧ ¬ FR F ws H a := by
  have h1 : H[a]? = some c := h.2.2.1 a _ hF
  refine ⟨h1, fun hf => ?_⟩
  rcases hf with (⟨k, e, hk⟩ | hk) | ⟨v, hv, hk⟩
  · have := h.2.2.2 k _ hk
    rw [hF] at this
    cases this
  · have := (Array.getElem?_eq_some_iff.mp h1).1
    omega
  · rw [hF] at hk
    cases hk
theorem zX.zq {G : gG} {F : fS} {ws : va_W} {C n d : String} {s : State} (h : Hp G F ws s.heap) (hz : zX F C n d s) : vx_Zq C n d (FR F ws s.heap) s s.heap := by
  refine ⟨?_, ?_⟩
  · rcases hz.1 with hz | ⟨t, hz⟩
    · obtain ⟨cf, kf, fi, f, a, cell, h1, h2, h3, h4, h5, h6, h7⟩ := hz
      exact Or.inl ⟨cf, kf, fi, f, a, cell, h1, h2, h3, h4, (h.raw h5).1, h6, h7, (h.raw h5).2⟩
    · obtain ⟨cf, kf, fi, f, a, cell, h1, h2, h3, h4, h5, h6, h7⟩ := hz
      exact Or.inr ⟨t, cf, kf, fi, f, a, cell, h1, h2, h3, h4, (h.raw h5).1, h6, h7, (h.raw h5).2⟩
  · obtain ⟨c, k, i, f, a, cell, h1, h2, h3, h4, h5, h6, h7, h8, h9⟩ := hz.2
    exact ⟨c, k, i, f, a, cell, h1, h2, h3, h4, (h.raw h5).1, h6, h7, h8, h9, (h.raw h5).2⟩
section ZR
variable {p : Program} {l : Launch} {e : Env} {R : Room} {s : State} {m : MethodId} {args : Array Value} {below : List Frame} {meth : Method} {c : Code} {H : Heap} {locs : List Loc} {cells slots : Nat} {Q : State → Prop}
variable {cc : ByteArray} {pc : Nat} {ls : Array Slot} {rest : List Value} {G : gG} {A : Nat → Prop} {Fa Fk F : fS} {ws : va_W} {Ha : Heap} {a : Nat}
theorem z_get (hx : p.tables.exec = Jvm.exec) (hb : c.code = cc) (hts : ∀ w ∈ lw_all, w.before args s = true) (hk : KK G Fk s) {own ref C : String} {T : u_T} {N ci index : Nat} {ty : Nat → FieldType} (hown : s.vm.findClass own = some m.cls) (K : Kls ci C T N ty) {fs : List Value} (hc : va_at G.1 CL (a, .inr (ci, fs)) H) (k : Nat) (hkN : k < N) (hlink : (Cond.fieldLink own index ref (T k).2.1 (T k).2.2.1) ∈ lw_all) (hsame : ∀ x, s.fieldFound? (T k).1 (T k).2.1 (T k).2.2.1 = some x → s.fieldFound? ref (T k).2.1 (T k).2.2.1 = some x) {v : Value} (hv : fs[k]? = some v) (hdg : decode cc pc = .ok (.getfield index, 3))
    (kk : W p l e R s m args below meth c H locs cells slots Q (F0 m (pc + 3) ls (v :: rest))) : W p l e R s m args below meth c H locs cells slots Q (F0 m pc ls (.ref a :: rest)) :=
  va_get (ws := [(a, .inr (ci, fs))]) hx hb hts K.2.1 hown hk.K (fun k q hq => by cases k with | zero => cases hq; exact hc | succ k => cases hq) 0 rfl K.1 k hkN (hts _ hlink) hsame hv hdg kk
theorem z_getN (hx : p.tables.exec = Jvm.exec) (hb : c.code = cc) (hts : ∀ w ∈ lw_all, w.before args s = true) (hk : KK G Fk s) {own ref C host : String} {T : u_T} {N ci index : Nat} {ty : Nat → FieldType} (hown : s.vm.findClass own = some m.cls) (K : Kls ci C T N ty) {fs : List Value} (hc : va_at G.1 CL (a, .inr (ci, fs)) H) (k : Nat) (hkN : k < N) (hlink : (Cond.fieldLinkNest own index ref (T k).2.1 (T k).2.2.1 host) ∈ lw_tbl) (hsame : ∀ x, s.fieldFound? (T k).1 (T k).2.1 (T k).2.2.1 = some x → s.fieldFound? ref (T k).2.1 (T k).2.2.1 = some x) {v : Value} (hv : fs[k]? = some v) (hdg : decode cc pc = .ok (.getfield index, 3))
    (kk : W p l e R s m args below meth c H locs cells slots Q (F0 m (pc + 3) ls (v :: rest))) : W p l e R s m args below meth c H locs cells slots Q (F0 m pc ls (.ref a :: rest)) :=
  va_getN (ws := [(a, .inr (ci, fs))]) hx hb hts K.2.1 hown hk.K (fun k q hq => by cases k with | zero => cases hq; exact hc | succ k => cases hq) 0 rfl K.1 k hkN (va_Nw.use rfl (hk.N hlink rfl)) hsame hv hdg kk
theorem z_put (hx : p.tables.exec = Jvm.exec) (hb : c.code = cc) (hts : ∀ w ∈ lw_all, w.before args s = true) (hk : KK G Fk s) (V : VV G A Fa F ws Ha H locs) {own ref C : String} {T : u_T} {N ci index : Nat} {ty : Nat → FieldType} (hown : s.vm.findClass own = some m.cls) (K : Kls ci C T N ty) (q0 : Nat) {fs : List Value} (he : ws[q0]? = some (a, .inr (ci, fs))) (k : Nat) (hkN : k < N) (hlink : (Cond.fieldLink own index ref (T k).2.1 (T k).2.2.1) ∈ lw_all) (hsame : ∀ x, s.fieldFound? (T k).1 (T k).2.1 (T k).2.2.1 = some x → s.fieldFound? ref (T k).2.1 (T k).2.2.1 = some x) (hfin : (T k).2.2.2 = false) {v : Value} (hn : narrow (ty k) v = v) (hfit : fits (ty k) v = true) (hl : k < fs.length) (hdg : decode cc pc = .ok (.putfield index, 3))
    (kk : ∀ (H1 : Heap) (locs1 : List Loc), VV G A Fa F (ws.set q0 (a, .inr (ci, fs.set k v))) Ha H1 locs1 → W p l e R s m args below meth c H1 locs1 cells slots Q (F0 m (pc + 3) ls rest)) : W p l e R s m args below meth c H locs cells slots Q (F0 m pc ls (v :: .ref a :: rest)) := by
  have hap := va_apart (own := own) hts K.2.1 ty K.2.2.1 K.2.2.2 hk.K K.1
  obtain ⟨r, h1, cell, q1, q2, q3, q4⟩ := V.P q0 _ he
  have hr : r = (C, T, N) := Option.some.inj (h1.symm.trans K.1)
  subst hr
  obtain ⟨hS, hfc, kC, hkC, hkind⟩ := hk.K.1 ci _ K.1
  obtain ⟨cf, kf, fi, f, hi, hsl⟩ := hS k hkN
  have hlay := hts _ (K.2.1 _ (u_in_lay hkN))
  unfold u_lay at hlay
  rw [if_neg (by rw [hfin]; decide)] at hlay
  have hst := (u_facts hfc hkC (u_lays hts K.2.1 hkN) hi).1
  have h6 := u_store hfc hkC hkind hlay hi (K.2.2.1 k hkN) hn hfit
  refine W.putK hx hb (f := f) ⟨hown, hts _ hlink, ⟨_, _, _, hsame _ hi⟩, hst⟩ (by rw [q2]; exact h6) q1 q3 (by rw [hsl]; exact k2_hasslot (q4 k hkN)) rfl rfl hdg fun H' e1 e2 e3 => ?_
  rw [hsl] at e1 ⊢
  exact kk H' _ (V.wr (e := .inr (ci, fs.set k v)) (H1 := H') he ⟨_, K.1, t_OB.to (V := updV (vp_V fs) k v) ⟨_, e1, q2, q3, t_set q4 hap hkN v⟩ (fun j _ => vp_updV_set hl v j)⟩ e2 e3 _)
theorem z_putN (hx : p.tables.exec = Jvm.exec) (hb : c.code = cc) (hts : ∀ w ∈ lw_all, w.before args s = true) (hk : KK G Fk s) (V : VV G A Fa F ws Ha H locs) {own ref C host : String} {T : u_T} {N ci index : Nat} {ty : Nat → FieldType} (hown : s.vm.findClass own = some m.cls) (K : Kls ci C T N ty) (q0 : Nat) {fs : List Value} (he : ws[q0]? = some (a, .inr (ci, fs))) (k : Nat) (hkN : k < N) (hlink : (Cond.fieldLinkNest own index ref (T k).2.1 (T k).2.2.1 host) ∈ lw_tbl) (hsame : ∀ x, s.fieldFound? (T k).1 (T k).2.1 (T k).2.2.1 = some x → s.fieldFound? ref (T k).2.1 (T k).2.2.1 = some x) (hfin : (T k).2.2.2 = false) {v : Value} (hn : narrow (ty k) v = v) (hfit : fits (ty k) v = true) (hl : k < fs.length) (hdg : decode cc pc = .ok (.putfield index, 3))
    (kk : ∀ (H1 : Heap) (locs1 : List Loc), VV G A Fa F (ws.set q0 (a, .inr (ci, fs.set k v))) Ha H1 locs1 → W p l e R s m args below meth c H1 locs1 cells slots Q (F0 m (pc + 3) ls rest)) : W p l e R s m args below meth c H locs cells slots Q (F0 m pc ls (v :: .ref a :: rest)) := by
  have hap := va_apart (own := own) hts K.2.1 ty K.2.2.1 K.2.2.2 hk.K K.1
  obtain ⟨r, h1, cell, q1, q2, q3, q4⟩ := V.P q0 _ he
  have hr : r = (C, T, N) := Option.some.inj (h1.symm.trans K.1)
  subst hr
  obtain ⟨hS, hfc, kC, hkC, hkind⟩ := hk.K.1 ci _ K.1
  obtain ⟨cf, kf, fi, f, hi, hsl⟩ := hS k hkN
  have hlay := hts _ (K.2.1 _ (u_in_lay hkN))
  unfold u_lay at hlay
  rw [if_neg (by rw [hfin]; decide)] at hlay
  have hst := (u_facts hfc hkC (u_lays hts K.2.1 hkN) hi).1
  have h6 := u_store hfc hkC hkind hlay hi (K.2.2.1 k hkN) hn hfit
  refine va_WputK hx hb (f := f) hown (va_Nw.use rfl (hk.N hlink rfl)) (hsame _ hi) hst (by rw [q2]; exact h6) q1 q3 (by rw [hsl]; exact k2_hasslot (q4 k hkN)) rfl rfl hdg fun H' e1 e2 e3 => ?_
  rw [hsl] at e1 ⊢
  exact kk H' _ (V.wr (e := .inr (ci, fs.set k v)) (H1 := H') he ⟨_, K.1, t_OB.to (V := updV (vp_V fs) k v) ⟨_, e1, q2, q3, t_set q4 hap hkN v⟩ (fun j _ => vp_updV_set hl v j)⟩ e2 e3 _)
theorem z_putF (hx : p.tables.exec = Jvm.exec) (hb : c.code = cc) (hts : ∀ w ∈ lw_all, w.before args s = true) (hk : KK G Fk s) (V : VV G A Fa F ws Ha H locs) {own ref C : String} {T : u_T} {N ci index : Nat} {ty : Nat → FieldType} (hown : s.vm.findClass own = some m.cls) (K : Kls ci C T N ty) (q0 : Nat) {fs : List Value} (he : ws[q0]? = some (a, .inr (ci, fs))) (k : Nat) (hkN : k < N) (hlink : (Cond.fieldLink own index ref (T k).2.1 (T k).2.2.1) ∈ lw_all) (hsame : ∀ x, s.fieldFound? (T k).1 (T k).2.1 (T k).2.2.1 = some x → s.fieldFound? ref (T k).2.1 (T k).2.2.1 = some x) (hfin : (T k).2.2.2 = true) (hin2 : meth.name = "<init>") (hdecl : (T k).1 = own) {v : Value} (hn : narrow (ty k) v = v) (hfit : fits (ty k) v = true) (hl : k < fs.length) (hdg : decode cc pc = .ok (.putfield index, 3))
    (kk : ∀ (H1 : Heap) (locs1 : List Loc), VV G A Fa F (ws.set q0 (a, .inr (ci, fs.set k v))) Ha H1 locs1 → W p l e R s m args below meth c H1 locs1 cells slots Q (F0 m (pc + 3) ls rest)) : W p l e R s m args below meth c H locs cells slots Q (F0 m pc ls (v :: .ref a :: rest)) := by
  have hap := va_apart (own := own) hts K.2.1 ty K.2.2.1 K.2.2.2 hk.K K.1
  obtain ⟨r, h1, cell, q1, q2, q3, q4⟩ := V.P q0 _ he
  have hr : r = (C, T, N) := Option.some.inj (h1.symm.trans K.1)
  subst hr
  obtain ⟨hS, hfc, kC, hkC, hkind⟩ := hk.K.1 ci _ K.1
  obtain ⟨cf, kf, fi, f, hi, hsl⟩ := hS k hkN
  have hlay := hts _ (K.2.1 _ (u_in_lay hkN))
  unfold u_lay at hlay
  rw [if_pos hfin] at hlay
  have hst := (u_facts hfc hkC (u_lays hts K.2.1 hkN) hi).1
  have hcf : m.cls = cf := by
    obtain ⟨_, _, c', _, _, _, -, -, hf', -, -, -, hown2, -⟩ := Cond.laysFinal_spec hlay
    have e1 : c' = cf := by have := hi.symm.trans hf'; simp at this; exact this.1.symm
    rw [hdecl] at hown2
    rw [← e1]; exact Option.some.inj (hown.symm.trans hown2)
  have h6 := u_fits hfc hkC hkind (Or.inr hlay) hi (K.2.2.1 k hkN) hn hfit
  refine W.putFinK hx hb hown (hts _ hlink) (hsame _ hi) hst hcf hin2 (by rw [q2]; exact h6) q1 q3 (by rw [hsl]; exact k2_hasslot (q4 k hkN)) rfl rfl hdg fun H' e1 e2 e3 => ?_
  rw [hsl] at e1 ⊢
  exact kk H' _ (V.wr (e := .inr (ci, fs.set k v)) (H1 := H') he ⟨_, K.1, t_OB.to (V := updV (vp_V fs) k v) ⟨_, e1, q2, q3, t_set q4 hap hkN v⟩ (fun j _ => vp_updV_set hl v j)⟩ e2 e3 _)
theorem z_new (hx : p.tables.exec = Jvm.exec) (hb : c.code = cc) (hts : ∀ w ∈ lw_all, w.before args s = true) (hk : KK G Fk s) (V : VV G A Fa F ws Ha H locs) {own C : String} {T : u_T} {N ci index : Nat} {ty : Nat → FieldType} (hown : s.vm.findClass own = some m.cls) (K : Kls ci C T N ty) (hcl : (Cond.classLink own index C) ∈ lw_all) (hinst : (Cond.instantiable C N) ∈ lw_all) (hini : (Cond.initialized C) ∈ lw_all) {fs : List Value} (hfs : ∀ j, j < N → defaultValue (ty j) = vp_V fs j) (hcells : cells + 1 ≤ R.cells) (hslots : slots + N ≤ R.slots) (hdg : decode cc pc = .ok (.new index, 3))
    (kk : ∀ (q : Nat) (H1 : Heap), VV G A Fa F (ws ++ [(q, .inr (ci, fs))]) Ha H1 locs → W p l e R s m args below meth c H1 locs (cells + 1) (slots + N) Q (F0 m (pc + 3) ls (.ref q :: rest))) : W p l e R s m args below meth c H locs cells slots Q (F0 m pc ls rest) := by
  have hKn := hk.K.1 ci _ K.1
  refine W.newcK hx hb hown (hts _ hcl) (hts _ hinst) (hts _ hini) rfl hdg hcells hslots hKn.2.1 rfl fun H1 kC hkC e1 z1 o1 => ?_
  exact kk H.size H1 (V.nw (e := .inr (ci, fs)) (H1 := H1) ⟨_, K.1, (u_born ty hts K.2.1 hKn hkC e1 K.2.2.1).to hfs⟩ z1 o1)
theorem z_gets (hx : p.tables.exec = Jvm.exec) (hb : c.code = cc) (hts : ∀ w ∈ lw_all, w.before args s = true) (V : VV G A Fa F ws Ha H locs) {C n d own ref : String} {v : Value} {index : Nat} (hZ : zZ Fa C n d v s) (hown : s.vm.findClass own = some m.cls) (hlink : (Cond.fieldLink own index ref n d) ∈ lw_all) (hsame : ∀ x, s.fieldFound? C n d = some x → s.fieldFound? ref n d = some x) (hdg : decode cc pc = .ok (.getstatic index, 3))
    (kk : W p l e R s m args below meth c H locs cells slots Q (F0 m (pc + 3) ls (v :: rest))) : W p l e R s m args below meth c H locs cells slots Q (F0 m pc ls rest) := by
  obtain ⟨cf, kf, fi, f, a, cell, h1, h2, h3, h4, h5, h6, h7⟩ := hZ
  have h8 : H[a]? = some cell := V.Z a _ (V.le _ _ h5)
  exact W.gets hx hb hown (hts _ hlink) (hsame _ h1) h2 h3 h4 h8 (fun e => by rw [e] at h6; cases h6) h7 rfl hdg kk
theorem z_getsN (hx : p.tables.exec = Jvm.exec) (hb : c.code = cc) (hk : KK G Fk s) (V : VV G A Fa F ws Ha H locs) {C n d own ref host : String} {v : Value} {index : Nat} (hZ : zZ Fa C n d v s) (hown : s.vm.findClass own = some m.cls) (hlink : (Cond.fieldLinkNest own index ref n d host) ∈ lw_tbl) (hsame : ∀ x, s.fieldFound? C n d = some x → s.fieldFound? ref n d = some x) (hdg : decode cc pc = .ok (.getstatic index, 3))
    (kk : W p l e R s m args below meth c H locs cells slots Q (F0 m (pc + 3) ls (v :: rest))) : W p l e R s m args below meth c H locs cells slots Q (F0 m pc ls rest) := by
  obtain ⟨cf, kf, fi, f, a, cell, h1, h2, h3, h4, h5, h6, h7⟩ := hZ
  have h8 : H[a]? = some cell := V.Z a _ (V.le _ _ h5)
  exact va_WgetsN hx hb hown (va_Nw.use rfl (hk.N hlink rfl)) (hsame _ h1) h2 h3 h4 h8 (fun e => by rw [e] at h6; cases h6) h7 rfl hdg kk
end ZR
