/-! ARRAYS OF ARRAYS: new int[n][k] -/
set_option maxRecDepth 100000
theorem VV.nws {G : gG} {A : Nat → Prop} {F0 F : fS} {ws : va_W} {H0 H : Heap} {locs : List Loc} (V : VV G A F0 F ws H0 H locs) {L : va_W} {H1 : Heap} (hL : ∀ (i : Nat) (q : Nat × va_E), L[i]? = some q → q.1 = H.size + i ∧ va_at G.1 CL q H1) (z : H1.size = H.size + L.length) (o : ∀ q : Nat, q < H.size → H1[q]? = H[q]?) : VV G A F0 F (ws ++ L) H0 H1 locs := by
  have hlt : ∀ (k : Nat) (q : Nat × va_E), ws[k]? = some q → q.1 < H.size := fun k q hk => (V.P k q hk).lt
  have key : ∀ (k : Nat) (q : Nat × va_E), (ws ++ L)[k]? = some q → (k < ws.length ∧ ws[k]? = some q ∧ q.1 < H.size) ∨ (ws.length ≤ k ∧ L[k - ws.length]? = some q ∧ q.1 = H.size + (k - ws.length)) := by
    intro k q hk
    by_cases h : k < ws.length
    · rw [List.getElem?_append_left h] at hk
      exact Or.inl ⟨h, hk, hlt k q hk⟩
    · rw [List.getElem?_append_right (by omega)] at hk
      exact Or.inr ⟨by omega, hk, (hL _ q hk).1⟩
  refine ⟨(V.P.kept (fun k q hk => o q.1 (hlt k q hk))).app (fun k q hk => (hL k q hk).2), ⟨fun i j p q hi hj hpq => ?_, fun k q hk => ?_⟩, ⟨Nat.le_trans V.S.1 (by omega), fun x h1 h2 => (o x (Nat.lt_of_lt_of_le h1 V.S.1)).trans (V.S.2.1 x h1 h2), V.S.2.2⟩, fun b x hb => (V.Z b x hb).kept (o b (V.Z b x hb).lt), fun k q hk => ?_, V.le, V.ou, V.nu, V.st⟩
  · rcases key i p hi with ⟨a1, a2, a3⟩ | ⟨a1, a2, a3⟩ <;> rcases key j q hj with ⟨b1, b2, b3⟩ | ⟨b1, b2, b3⟩
    · exact V.D.1 i j p q a2 b2 hpq
    · omega
    · omega
    · omega
  · rcases key k q hk with ⟨a1, a2, a3⟩ | ⟨a1, a2, a3⟩
    · exact V.D.2 k q a2
    · exact V.nu _ (by have := V.S.1; omega)
  · rcases key k q hk with ⟨a1, a2, a3⟩ | ⟨a1, a2, a3⟩
    · exact V.N k q a2
    · cases h : F q.1 with
      | none => rfl
      | some x =>
        have := (V.Z _ _ h).lt
        omega
theorem outer_plain (c : ClassId) (N h0 : Nat) : ∀ i, (Jvm.Free.Multi.outerC c N h0 i).monitor = {} ∧ (Jvm.Free.Multi.outerC c N h0 i).hash = none
  | 0 => ⟨rfl, rfl⟩
  | i + 1 => by
    obtain ⟨a, b⟩ := outer_plain c N h0 i
    exact ⟨by simp [Jvm.Free.Multi.outerC, Cell.setSlot, a], by simp [Jvm.Free.Multi.outerC, Cell.setSlot, b]⟩
theorem outer_arrV (cA : ClassId) (n h0 : Nat) : Jvm.Free.Multi.outerC cA n h0 n = arrV cA n (fun j => .ref (h0 + 1 + j)) := by
  obtain ⟨e1, e2, e3⟩ := Jvm.Free.Multi.outerC_facts cA n h0 n
  have e4 := outer_plain cA n h0 n
  have es : (Jvm.Free.Multi.outerC cA n h0 n).slots = (arrV cA n (fun j => .ref (h0 + 1 + j))).slots := by
    apply Array.ext_getElem?
    intro j
    by_cases hj : j < n
    · rw [Jvm.Free.Multi.outerC_slot cA n h0 n j hj, arrV_read _ _ hj, if_pos hj]
    · rw [Array.getElem?_eq_none (by rw [e3]; omega), Array.getElem?_eq_none (by rw [arrV_size]; omega)]
  generalize Jvm.Free.Multi.outerC cA n h0 n = X at *
  obtain ⟨a, b, c, d, f⟩ := X
  simp only at e1 e2 e3 e4 es
  obtain ⟨e5, e6⟩ := e4
  subst e1 e2 e5 e6
  rw [es]
  rfl
theorem KK.ao {G : gG} {F : fS} {U : State} (h : KK G F U) {A : Array Value} : (Cond.arrayOver (.array .int)).before A U = true := by
  have h1 := h.N q1527 rfl
  unfold va_Nw at h1
  simp only [Cond.before, Cond.holds, Cond.value] at h1 ⊢
  exact h1
theorem z_new2 {p : Program} {l : Launch} {e : Env} {R : Room} {s : State} {m : MethodId} {args : Array Value} {below : List Frame} {meth : Method} {c : Code} {H : Heap} {locs : List Loc} {cells slots : Nat} {Q : State → Prop} {cc : ByteArray} {pc : Nat} {ls : Array Slot} {rest : List Value} {G : gG} {A : Nat → Prop} {Fa Fk F : fS} {ws : va_W} {Ha : Heap} {n k index : Nat} {zn zk : Int} {own : String} (hx : p.tables.exec = Jvm.exec) (hb : c.code = cc) (hts : ∀ w ∈ lw_all, w.before args s = true) (hk : KK G Fk s) (V : VV G A Fa F ws Ha H locs) (hown : s.vm.findClass own = some m.cls) (hlink : (Cond.classLink own index "[[I") ∈ lw_all) (hz : zn = (n : Int) ∧ zk = (k : Int) ∧ n ≤ 1000 ∧ k ≤ 1000) (hcells : cells + (1 + n) ≤ R.cells) (hslots : slots + (n + n * k) ≤ R.slots) (hdg : decode cc pc = .ok (.multianewarray index 2, 4))
    (kk : ∀ (o : Nat) (H1 : Heap), VV G A Fa F (ws ++ ((o, aM G n (fun j => some (o + 1 + j))) :: (List.range n).map (fun j => (o + 1 + j, aI G k (fun _ => 0))))) Ha H1 locs → W p l e R s m args below meth c H1 locs (cells + 1 + n) (slots + n + n * k) Q (F0 m (pc + 4) ls (.ref o :: rest))) : W p l e R s m args below meth c H locs cells slots Q (F0 m pc ls (iV zk :: iV zn :: rest)) := by
  obtain ⟨rfl, rfl, h1, h2⟩ := hz
  have en : (iZ (n : Int)).toNatClampNeg = n := iZ_cl ⟨rfl, by omega⟩
  have ek : (iZ (k : Int)).toNatClampNeg = k := iZ_cl ⟨rfl, by omega⟩
  have nn : ∀ z : Nat, z ≤ 1000 → ¬ iZ (z : Int) < 0 := fun z hz h => by
    have := (iZ_lt (a := (z : Int)) (b := 0) (by omega)).mp h
    omega
  intro T hT X
  obtain ⟨vm₁, cA, comp, hW, hfA, hfC, hO, hI, X1, step⟩ := X.multianewarray2F hx (ty := .int) hown (hts _ hlink) hk.ao (hts _ q200) (g := F0 m pc ls (iV k :: iV n :: rest)) rfl (by rw [hb]; exact hdg) (n := iZ n) (k := iZ k) (rest := rest) rfl (nn n h1) (nn k h2) (by rw [en]; omega) (by rw [ek]; simp [componentBytes]; omega) (by rw [ek]; omega) rfl rfl (by rw [en]; omega) (by rw [en, ek]; omega)
  rw [en, ek] at X1 step
  have hcA : cA = G.2.1 6 := Option.some.inj (hfA.symm.trans (hk.K.2 6 _ rfl).2)
  have hcC : comp = G.2.1 1 := Option.some.inj (hfC.symm.trans (hk.K.2 1 _ rfl).2)
  subst hcA hcC
  obtain ⟨f1, f2, -⟩ := Jvm.Free.Multi.fill_facts (T.setVm vm₁) (G.2.1 6) (G.2.1 1) n k (defaultValue .int) n
  have fi := fun (j : Nat) (hj : j < n) => Jvm.Free.Multi.fill_inner (T.setVm vm₁) (G.2.1 6) (G.2.1 1) n k (defaultValue .int) n j hj
  have fo := fun (a : Nat) (ha : a < T.heap.size) => Jvm.Free.Multi.fill_old (T.setVm vm₁) (G.2.1 6) (G.2.1 1) n k (defaultValue .int) (a := a) ha n
  have hTs : (T.setVm vm₁).heap = H := hT
  have V1 : VV G A Fa F (ws ++ ((H.size, aM G n (fun j => some (H.size + 1 + j))) :: (List.range n).map (fun j => (H.size + 1 + j, aI G k (fun _ => 0))))) Ha (Jvm.Free.Multi.fill (T.setVm vm₁) (G.2.1 6) (G.2.1 1) n k (defaultValue .int) n).heap locs := by
    refine V.nws (fun i q hi => ?_) (by rw [f1, hTs]; simp; omega) (fun q hq => by rw [fo q (by rw [hT]; exact hq), hTs])
    cases i with
    | zero =>
      cases hi
      refine ⟨rfl, ?_⟩
      show (Jvm.Free.Multi.fill (T.setVm vm₁) (G.2.1 6) (G.2.1 1) n k (defaultValue .int) n).heap[H.size]? = _
      rw [hTs] at f2
      rw [f2, outer_arrV]
      rfl
    | succ i =>
      rw [List.getElem?_cons_succ, List.getElem?_map] at hi
      have hin : i < n := by
        by_cases h : i < n
        · exact h
        · rw [List.getElem?_eq_none (by simp; omega)] at hi; cases hi
      rw [List.getElem?_range hin] at hi
      cases hi
      refine ⟨by show H.size + 1 + i = _; omega, ?_⟩
      show (Jvm.Free.Multi.fill (T.setVm vm₁) (G.2.1 6) (G.2.1 1) n k (defaultValue .int) n).heap[H.size + 1 + i]? = _
      have := fi i hin
      rw [hTs] at this
      rw [this]
      congr 1
      show Jvm.Free.Multi.innerC (G.2.1 1) k (defaultValue .int) = arrV (G.2.1 1) k (fun j => .int (iZ 0))
      unfold Jvm.Free.Multi.innerC arrV
      congr 1
      apply Array.ext_getElem?
      intro j
      simp [Array.getElem?_replicate, Array.getElem?_ofFn]
      rfl
  obtain ⟨t, b1, b2⟩ := kk H.size _ V1 _ rfl X1
  refine ⟨t, step t ?_, b2⟩
  rw [hT]
  exact b1
