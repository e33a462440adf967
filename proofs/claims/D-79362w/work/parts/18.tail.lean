/-! owned cells with an abstract tail: w ++ t -/
set_option maxRecDepth 100000
def tIx (w t : va_W) : List Nat := (List.range t.length).map (· + w.length)
theorem tIx_get (w t : va_W) : (tIx w t).map (fun i => (w ++ t)[i]?) = t.map some := by
  apply List.ext_getElem?
  intro k
  simp only [tIx, List.getElem?_map, List.map_map]
  by_cases hk : k < t.length
  · rw [List.getElem?_range hk]
    simp [List.getElem?_append_right, hk]
  · rw [List.getElem?_eq_none (by simp; omega), List.getElem?_eq_none (by omega)]
    rfl
theorem idx_lt {w wC : va_W} {is : List Nat} (h : is.map (fun i => w[i]?) = wC.map some) : ∀ i ∈ is, i < w.length := by
  intro i hi
  obtain ⟨k, hk⟩ := List.getElem?_of_mem hi
  have h1 : (is.map (fun i => w[i]?))[k]? = some (w[i]?) := by rw [List.getElem?_map, hk]; rfl
  rw [h, List.getElem?_map] at h1
  cases hq : wC[k]? with
  | none => rw [hq] at h1; cases h1
  | some q =>
    rw [hq] at h1
    exact (List.getElem?_eq_some_iff.mp (Option.some.inj h1).symm).1
theorem idxN {w t wC : va_W} {is : List Nat} (h : is.map (fun i => w[i]?) = wC.map some) : is.map (fun i => (w ++ t)[i]?) = wC.map some := by
  rw [← h]
  exact List.map_congr_left fun i hi => List.getElem?_append_left (idx_lt h i hi)
theorem idxT {w t wC : va_W} {is : List Nat} (h : is.map (fun i => w[i]?) = wC.map some) : (is ++ tIx w t).map (fun i => (w ++ t)[i]?) = (wC ++ t).map some := by
  rw [List.map_append, idxN h, tIx_get, List.map_append]
theorem va_nd_iff : ∀ l : List Nat, va_nd l = true ↔ l.Nodup
  | [] => by simp [va_nd]
  | a :: l => by simp [va_nd, va_nd_iff l]
theorem ndT {w t wC : va_W} {is : List Nat} (h : is.map (fun i => w[i]?) = wC.map some) (hn : va_nd is = true) : va_nd (is ++ tIx w t) = true := by
  rw [va_nd_iff] at hn ⊢
  refine List.nodup_append.mpr ⟨hn, ?_, fun a ha b hb => ?_⟩
  · refine List.Pairwise.map _ (R := fun a b => a ≠ b) (fun a b hab => ?_) List.nodup_range
    omega
  · have h1 := idx_lt h a ha
    obtain ⟨k, -, rfl⟩ := List.mem_map.mp hb
    omega
theorem disT {w t wR : va_W} {isR isC : List Nat} (h : isR.map (fun i => w[i]?) = wR.map some) (hd : ∀ i ∈ isR, i ∉ isC) : ∀ i ∈ isR, i ∉ isC ++ tIx w t := by
  intro i hi hm
  rcases List.mem_append.mp hm with hm | hm
  · exact hd i hi hm
  · obtain ⟨k, -, rfl⟩ := List.mem_map.mp hm
    have := idx_lt h _ hi
    omega
theorem disT2 {w t wC : va_W} {isR isC : List Nat} (h : isC.map (fun i => w[i]?) = wC.map some) (hd : ∀ i ∈ isR, i ∉ isC) : ∀ i ∈ isR ++ tIx w t, i ∉ isC := by
  intro i hi hm
  rcases List.mem_append.mp hi with hi | hi
  · exact hd i hi hm
  · obtain ⟨k, -, rfl⟩ := List.mem_map.mp hi
    have := idx_lt h _ hm
    omega
theorem VV.perm {G : gG} {A : Nat → Prop} {F0 F : fS} {ws w1 : va_W} {H0 H : Heap} {locs : List Loc} (V : VV G A F0 F ws H0 H locs) (hp : ws.Perm w1) : VV G A F0 F w1 H0 H locs := by
  have hm : ∀ (k : Nat) (q : Nat × va_E), w1[k]? = some q → ∃ i : Nat, ws[i]? = some q := fun k q hk => List.getElem?_of_mem (hp.mem_iff.mpr (List.mem_of_getElem? hk))
  have hnd : (ws.map (·.1)).Nodup := by
    refine List.pairwise_iff_getElem.mpr fun i j hi hj hij e => ?_
    have hj' : j < ws.length := by simpa using hj
    have hi' : i < ws.length := by omega
    have := V.D.1 i j _ _ (List.getElem?_eq_getElem hi') (List.getElem?_eq_getElem hj') (by simpa using e)
    omega
  have hnd1 : (w1.map (·.1)).Nodup := (hp.map _).nodup_iff.mp hnd
  refine ⟨fun k q hk => ?_, ⟨fun i j p q hi hj e => ?_, fun k q hk => ?_⟩, V.S, V.Z, fun k q hk => ?_, V.le, V.ou, V.nu, V.st⟩
  · obtain ⟨i, hi⟩ := hm k q hk
    exact V.P i q hi
  · have hi' := (List.getElem?_eq_some_iff.mp hi).1
    have hj' := (List.getElem?_eq_some_iff.mp hj).1
    have hp9 := List.pairwise_iff_getElem.mp hnd1
    have ei : w1[i] = p := (List.getElem?_eq_some_iff.mp hi).2
    have ej : w1[j] = q := (List.getElem?_eq_some_iff.mp hj).2
    rcases Nat.lt_trichotomy i j with h | h | h
    · exact absurd (show (w1.map (·.1))[i]'(by simpa using hi') = (w1.map (·.1))[j]'(by simpa using hj') by simp [ei, ej, e]) (hp9 i j (by simpa using hi') (by simpa using hj') h)
    · exact h
    · exact absurd (show (w1.map (·.1))[j]'(by simpa using hj') = (w1.map (·.1))[i]'(by simpa using hi') by simp [ei, ej, e]) (hp9 j i (by simpa using hj') (by simpa using hi') h)
  · obtain ⟨i, hi⟩ := hm k q hk
    exact V.D.2 i q hi
  · obtain ⟨i, hi⟩ := hm k q hk
    exact V.N i q hi
/-- a new cell goes ahead of the tail -/
theorem VV.rot {G : gG} {A : Nat → Prop} {F0 F : fS} {w t : va_W} {z : Nat × va_E} {H0 H : Heap} {locs : List Loc} (V : VV G A F0 F ((w ++ t) ++ [z]) H0 H locs) : VV G A F0 F ((w ++ [z]) ++ t) H0 H locs :=
  V.perm (by rw [List.append_assoc, List.append_assoc]; exact List.Perm.append_left w List.perm_append_comm)
section ZT
variable {p : Program} {l : Launch} {e : Env} {R : Room} {s : State} {m : MethodId} {args : Array Value} {below : List Frame} {meth : Method} {c : Code} {H : Heap} {locs : List Loc} {cells slots : Nat} {Q : State → Prop}
variable {cc : ByteArray} {pc : Nat} {ls : Array Slot} {rest : List Value}
theorem z_icmp_same (hx : p.tables.exec = Jvm.exec) (hb : c.code = cc) {x : Int} {off : Int} {tgt : Nat} (hdg : decode cc pc = .ok (.if_icmp .eq off, 3)) (ht : (pc : Int) + off = (tgt : Int)) (k1 : W p l e R s m args below meth c H locs cells slots Q (F0 m tgt ls rest)) : W p l e R s m args below meth c H locs cells slots Q (F0 m pc ls (iV x :: iV x :: rest)) :=
  lv_icmp_eq hx hb hdg ht (fun _ => k1) (fun h => absurd rfl h)
theorem z_castK {G : gG} {Fk : fS} {a : Nat} (hx : p.tables.exec = Jvm.exec) (hb : c.code = cc) (hts : ∀ w ∈ lw_all, w.before args s = true) (hk : KK G Fk s) {own C nm : String} {index : Nat} (hown : s.vm.findClass own = some m.cls) (hlink : (Cond.classLink own index nm) ∈ lw_all) (hc : (Cond.castable C nm) ∈ lw_tbl) (hr : ∃ cell : Cell, H[a]? = some cell ∧ cell.vm.isStatics = false ∧ s.vm.findClass C = some cell.cls) (hdg : decode cc pc = .ok (.checkcast index, 3))
    (k : W p l e R s m args below meth c H locs cells slots Q (F0 m (pc + 3) ls (.ref a :: rest))) : W p l e R s m args below meth c H locs cells slots Q (F0 m pc ls (.ref a :: rest)) :=
  va_castY hx hb hown (hts _ hlink) (hk.N hc rfl) hr hdg k
theorem z_castE {a : Nat} (hx : p.tables.exec = Jvm.exec) (hb : c.code = cc) (hts : ∀ w ∈ lw_all, w.before args s = true) {own nm : String} {index : Nat} (hown : s.vm.findClass own = some m.cls) (hlink : (Cond.classLink own index nm) ∈ lw_all) (hr : ∃ cell : Cell, H[a]? = some cell ∧ cell.vm.isStatics = false ∧ s.vm.findClass nm = some cell.cls) (hdg : decode cc pc = .ok (.checkcast index, 3))
    (k : W p l e R s m args below meth c H locs cells slots Q (F0 m (pc + 3) ls (.ref a :: rest))) : W p l e R s m args below meth c H locs cells slots Q (F0 m pc ls (.ref a :: rest)) :=
  va_castE hx hb hown (hts _ hlink) hr hdg k
end ZT
theorem cast_obj : ∀ q ∈ CL, (Cond.castable q.1 "java/lang/Object") ∈ lw_tbl :=
  List.forall_mem_cons.mpr ⟨q3154, List.forall_mem_cons.mpr ⟨q3161, List.forall_mem_cons.mpr ⟨q3155, List.forall_mem_cons.mpr ⟨q3156, List.forall_mem_cons.mpr ⟨q3164, List.forall_mem_cons.mpr ⟨q3186, List.forall_mem_cons.mpr ⟨q3183, List.forall_mem_cons.mpr ⟨q3151, List.forall_mem_cons.mpr ⟨q3188, List.forall_mem_cons.mpr ⟨q3152, List.forall_mem_cons.mpr ⟨q3153, List.forall_mem_cons.mpr ⟨q3162, List.forall_mem_cons.mpr ⟨q3173, List.forall_mem_cons.mpr ⟨q3167, List.forall_mem_cons.mpr ⟨q3163, List.forall_mem_cons.mpr ⟨q3174, List.forall_mem_cons.mpr ⟨q3180, List.forall_mem_cons.mpr ⟨q3181, List.forall_mem_cons.mpr ⟨q3182, List.forall_mem_cons.mpr ⟨q3189, List.forall_mem_cons.mpr ⟨q3168, List.forall_mem_cons.mpr ⟨q3169, List.forall_mem_cons.mpr ⟨q3157, fun _ h => absurd h List.not_mem_nil⟩⟩⟩⟩⟩⟩⟩⟩⟩⟩⟩⟩⟩⟩⟩⟩⟩⟩⟩⟩⟩⟩⟩
/-- any object of the list's classes may lie in an array of Objects -/
theorem z_any {G : gG} {Fk : fS} {s : State} {H : Heap} {a ci : Nat} {fs : List Value} (hk : KK G Fk s) (hc : va_at G.1 CL (a, .inr (ci, fs)) H) : va_Any "java/lang/Object" s H a := by
  have hc' := hc
  obtain ⟨r, h1, -⟩ := hc'
  exact va_rAny (q0 := 0) hk.K (one_P hc) rfl h1 (fun comp c0 f1 f2 => by
    obtain ⟨c1, t1, g1, g2, g3⟩ := Cond.castable_spec (va_Nw.use (A := #[]) rfl (hk.N (cast_obj r (List.mem_of_getElem? h1)) rfl))
    cases f2.symm.trans g1
    cases f1.symm.trans g2
    exact g3)
section ROT
variable {G : gG} {A : Nat → Prop} {F0 F : fS} {w t t1 t2 t3 z : va_W} {H0 H : Heap} {locs : List Loc}
/-- new cells go ahead of one tail, of two, of three -/
theorem VV.rot1 (V : VV G A F0 F ((w ++ t) ++ z) H0 H locs) : VV G A F0 F ((w ++ z) ++ t) H0 H locs :=
  V.perm (by rw [List.append_assoc, List.append_assoc]; exact List.Perm.append_left w List.perm_append_comm)
theorem VV.rot2 (V : VV G A F0 F (((w ++ t1) ++ t2) ++ z) H0 H locs) : VV G A F0 F (((w ++ z) ++ t1) ++ t2) H0 H locs :=
  V.rot1.perm (List.Perm.append_right t2 (by rw [List.append_assoc, List.append_assoc]; exact List.Perm.append_left w List.perm_append_comm))
theorem VV.rot3 (V : VV G A F0 F ((((w ++ t1) ++ t2) ++ t3) ++ z) H0 H locs) : VV G A F0 F ((((w ++ z) ++ t1) ++ t2) ++ t3) H0 H locs :=
  V.rot1.perm (List.Perm.append_right t3 (by
    refine List.Perm.trans (l₂ := ((w ++ t1) ++ z) ++ t2) ?_ (List.Perm.append_right t2 ?_)
    · rw [List.append_assoc (w ++ t1), List.append_assoc (w ++ t1)]; exact List.Perm.append_left _ List.perm_append_comm
    · rw [List.append_assoc, List.append_assoc]; exact List.Perm.append_left w List.perm_append_comm))
/-- what came back with a tail of its own: a tail stood before it -/
theorem VV.asc (V : VV G A F0 F (w ++ (z ++ t)) H0 H locs) : VV G A F0 F ((w ++ z) ++ t) H0 H locs := by rw [List.append_assoc]; exact V
theorem VV.asc1 (V : VV G A F0 F ((w ++ t1) ++ (z ++ t)) H0 H locs) : VV G A F0 F (((w ++ z) ++ t1) ++ t) H0 H locs :=
  V.asc.perm (List.Perm.append_right t (by rw [List.append_assoc, List.append_assoc]; exact List.Perm.append_left w List.perm_append_comm))
theorem VV.asc2 (V : VV G A F0 F (((w ++ t1) ++ t2) ++ (z ++ t)) H0 H locs) : VV G A F0 F ((((w ++ z) ++ t1) ++ t2) ++ t) H0 H locs := by
  have V1 : VV G A F0 F ((((w ++ t1) ++ t2) ++ z) ++ t) H0 H locs := V.asc
  refine V1.perm (List.Perm.append_right t ?_)
  refine List.Perm.trans (l₂ := ((w ++ t1) ++ z) ++ t2) ?_ (List.Perm.append_right t2 ?_)
  · rw [List.append_assoc (w ++ t1), List.append_assoc (w ++ t1)]; exact List.Perm.append_left _ List.perm_append_comm
  · rw [List.append_assoc, List.append_assoc]; exact List.Perm.append_left w List.perm_append_comm
/-- two tails change places -/
theorem VV.swp (V : VV G A F0 F ((w ++ t1) ++ t2) H0 H locs) : VV G A F0 F ((w ++ t2) ++ t1) H0 H locs := V.rot1
end ROT
/-- an object that is frozen -/
def oR (F : fS) (x : Nat) : Prop := (∃ (ci : Nat) (fs : List Value), F x = some (.inl (ob ci fs))) ∨ fStr F x
theorem oR.mono {F F1 : fS} {x : Nat} (h : oR F x) (hF : fLe F F1) : oR F1 x := by
  rcases h with ⟨ci, fs, h⟩ | ⟨v, hv, h⟩
  · exact Or.inl ⟨ci, fs, hF _ _ h⟩
  · exact Or.inr ⟨v, hv, hF _ _ h⟩
/-- .. or owned -/
def oX (F : fS) (ex : va_W) (x : Nat) : Prop := oR F x ∨ ∃ (ci : Nat) (fs : List Value), (x, ob ci fs) ∈ ex
theorem oX.any {G : gG} {A : Nat → Prop} {F0 F Fk : fS} {ws ex : va_W} {H0 H : Heap} {locs : List Loc} {s : State} {x : Nat} (h : oX F ex x) (hk : KK G Fk s) (V : VV G A F0 F ws H0 H locs) (hs : ∀ q ∈ ex, q ∈ ws) : va_Any "java/lang/Object" s H x := by
  rcases h with (⟨ci, fs, h⟩ | ⟨v, hv, h⟩) | ⟨ci, fs, h⟩
  · exact z_any hk (V.f h)
  · obtain ⟨hh, zz, -, hc⟩ := V.fs h
    exact z_any hk hc
  · obtain ⟨k, hk2⟩ := List.getElem?_of_mem (hs _ h)
    exact z_any hk (V.w k hk2)
theorem VV.mem {G : gG} {A : Nat → Prop} {F0 F : fS} {ws : va_W} {H0 H : Heap} {locs : List Loc} (V : VV G A F0 F ws H0 H locs) {q : Nat × va_E} (h : q ∈ ws) : va_at G.1 CL q H := by
  obtain ⟨k, hk⟩ := List.getElem?_of_mem h
  exact V.w k hk
