/-! THE WORLD of this proof: G: class numbers, slots, array classes, addresses of the statics' objects; F: the frozen store; ws: the owned cells -/
set_option maxRecDepth 100000
abbrev gG : Type := va_G × ((Nat → ClassId) × (Nat → Nat))
def CL : List vw_C := [(RJ2, TJ2, 3), (RJ19, TJ19, 4), (RJ3, TJ3, 3), (RJ5, TJ5, 4), (RJ6, TJ6, 4), (RJ21, TJ21, 1), (RJ30, TJ30, 8), (RJ33, TJ33, 4), (RJ37, TJ37, 1), (RX1, TX1, 7), (RX2, TX2, 6), (RX4, TX4, 4), (RX10, TX10, 2), (RX6, TX6, 2), (RX5, TX5, 2), (RX11, TX11, 4), (RX14, TX14, 3), (RX16, TX16, 2), (RX17, TX17, 2), (RX18, TX18, 3), (RX8, TX8, 7), (RX9, TX9, 7), (RX3, TX3, 28)]
abbrev TYS (G : gG) : List (ClassId × FieldType) := [(G.2.1 0, .byte), (G.2.1 1, .int), (G.2.1 2, .long), (G.2.1 3, .char), (G.2.1 4, .double), (G.2.1 5, .object "java/lang/Object"), (G.2.1 6, .array .int), (G.2.1 7, .object "java/util/HashMap$Node")]
abbrev fE : Type := va_E ⊕ ((Nat × Int32) ⊕ Cell)
abbrev fS : Type := Nat → Option fE
abbrev aB (G : gG) (n : Nat) (g : Nat → Int) : va_E := .inl (G.2.1 0, n, .inl (fun j => iZ (g j)))
abbrev aI (G : gG) (n : Nat) (g : Nat → Int) : va_E := .inl (G.2.1 1, n, .inl (fun j => iZ (g j)))
abbrev aJ (G : gG) (n : Nat) (g : Nat → Int) : va_E := .inl (G.2.1 2, n, .inr (.inl (fun j => jZ (g j))))
abbrev aC (G : gG) (n : Nat) (g : Nat → Int) : va_E := .inl (G.2.1 3, n, .inl (fun j => iZ (g j)))
abbrev aD (G : gG) (n : Nat) (g : Nat → UInt64) : va_E := .inl (G.2.1 4, n, .inr (.inr (.inr (.inl g))))
abbrev aR (G : gG) (n : Nat) (g : Nat → Option Nat) : va_E := .inl (G.2.1 5, n, .inr (.inr (.inr (.inr g))))
abbrev aM (G : gG) (n : Nat) (g : Nat → Option Nat) : va_E := .inl (G.2.1 6, n, .inr (.inr (.inr (.inr g))))
abbrev aN (G : gG) (n : Nat) (g : Nat → Option Nat) : va_E := .inl (G.2.1 7, n, .inr (.inr (.inr (.inr g))))
abbrev ob (ci : Nat) (fs : List Value) : va_E := .inr (ci, fs)
abbrev iV (z : Int) : Value := .int (iZ z)
abbrev jV (z : Int) : Value := .long (jZ z)
def fat (G : gG) (a : Nat) (x : fE) (H : Heap) : Prop := match x with
  | .inl e => va_at G.1 CL (a, e) H
  | .inr (.inl (v, h)) => ∃ hh zz : Int32, ((hh = 0 ∧ zz = 0) ∨ (hh = h ∧ zz = 0) ∨ (h = 0 ∧ hh = 0 ∧ zz = 1)) ∧ va_at G.1 CL (a, .inr (4, [.ref v, iV 0, .int hh, .int zz])) H
  | .inr (.inr c) => H[a]? = some c
def Fz (G : gG) (F : fS) (H : Heap) : Prop := ∀ (a : Nat) (x : fE), F a = some x → fat G a x H
def fStr (F : fS) (a : Nat) : Prop := ∃ v h, F a = some (.inr (.inl (v, h)))
def fLe (F F' : fS) : Prop := ∀ (a : Nat) (x : fE), F a = some x → F' a = some x
theorem fLe.rf {F : fS} : fLe F F := fun _ _ h => h
theorem fLe.tr {F1 F2 F3 : fS} (h1 : fLe F1 F2) (h2 : fLe F2 F3) : fLe F1 F3 := fun a x h => h2 a x (h1 a x h)
theorem fat.kept {G : gG} {a : Nat} {x : fE} {H H1 : Heap} (h : fat G a x H) (hq : H1[a]? = H[a]?) : fat G a x H1 := by
  match x, h with
  | .inl e, h => exact va_at.kept (q := (a, e)) h hq
  | .inr (.inl (v, hv)), h =>
    obtain ⟨hh, zz, h1, h2⟩ := h
    exact ⟨hh, zz, h1, va_at.kept (q := (a, _)) h2 hq⟩
  | .inr (.inr c), h => exact hq.trans h
theorem fat.lt {G : gG} {a : Nat} {x : fE} {H : Heap} (h : fat G a x H) : a < H.size := by
  match x, h with
  | .inl e, h => exact va_at.lt (q := (a, e)) h
  | .inr (.inl (v, hv)), h =>
    obtain ⟨hh, zz, h1, h2⟩ := h
    exact va_at.lt (q := (a, _)) h2
  | .inr (.inr c), h => exact (Array.getElem?_eq_some_iff.mp h).1
/-- what a heap holds: the frozen store and the owned cells -/
def Hp (G : gG) (F : fS) (ws : va_W) (H : Heap) : Prop := va_P G.1 CL ws H ∧ va_D (fun _ => True) ws ∧ Fz G F H ∧ ∀ (k : Nat) (q : Nat × va_E), ws[k]? = some q → F q.1 = none
/-- the cells that a call may write -/
def FR (F : fS) (ws : va_W) (H : Heap) : Nat → Prop := fun q => va_A ws H.size q ∨ fStr F q
/-- inside a method: its heap H, begun at H0 with F0; it may write A alone -/
def VV (G : gG) (A : Nat → Prop) (F0 F : fS) (ws : va_W) (H0 H : Heap) (locs : List Loc) : Prop :=
  va_P G.1 CL ws H ∧ va_D A ws ∧ va_S A H0 H locs ∧ Fz G F H ∧ (∀ (k : Nat) (q : Nat × va_E), ws[k]? = some q → F q.1 = none) ∧ fLe F0 F ∧ (∀ a, ¬ A a → F a = F0 a) ∧ (∀ q, H0.size ≤ q → A q) ∧ (∀ a, fStr F0 a → A a)
section VVs
variable {G : gG} {A : Nat → Prop} {F0 F : fS} {ws : va_W} {H0 H : Heap} {locs : List Loc}
theorem VV.P (V : VV G A F0 F ws H0 H locs) : va_P G.1 CL ws H := V.1
theorem VV.D (V : VV G A F0 F ws H0 H locs) : va_D A ws := V.2.1
theorem VV.S (V : VV G A F0 F ws H0 H locs) : va_S A H0 H locs := V.2.2.1
theorem VV.Z (V : VV G A F0 F ws H0 H locs) : Fz G F H := V.2.2.2.1
theorem VV.N (V : VV G A F0 F ws H0 H locs) : ∀ (k : Nat) (q : Nat × va_E), ws[k]? = some q → F q.1 = none := V.2.2.2.2.1
theorem VV.le (V : VV G A F0 F ws H0 H locs) : fLe F0 F := V.2.2.2.2.2.1
theorem VV.ou (V : VV G A F0 F ws H0 H locs) : ∀ a, ¬ A a → F a = F0 a := V.2.2.2.2.2.2.1
theorem VV.nu (V : VV G A F0 F ws H0 H locs) : ∀ q, H0.size ≤ q → A q := V.2.2.2.2.2.2.2.1
theorem VV.st (V : VV G A F0 F ws H0 H locs) : ∀ a, fStr F0 a → A a := V.2.2.2.2.2.2.2.2
theorem VV.str (V : VV G A F0 F ws H0 H locs) {a : Nat} (h : fStr F a) : A a := by
  apply Classical.byContradiction
  intro hA
  obtain ⟨v, hv, e⟩ := h
  exact hA (V.st a ⟨v, hv, by rw [← V.ou a hA]; exact e⟩)
/-- an owned cell, a frozen one -/
theorem VV.w (V : VV G A F0 F ws H0 H locs) (k : Nat) {q : Nat × va_E} (h : ws[k]? = some q) : va_at G.1 CL q H := V.P k q h
theorem VV.f (V : VV G A F0 F ws H0 H locs) {a : Nat} {e : va_E} (h : F a = some (.inl e)) : va_at G.1 CL (a, e) H := V.Z a _ h
theorem VV.fs (V : VV G A F0 F ws H0 H locs) {a v : Nat} {h : Int32} (e : F a = some (.inr (.inl (v, h)))) : ∃ hh zz : Int32, ((hh = 0 ∧ zz = 0) ∨ (hh = h ∧ zz = 0) ∨ (h = 0 ∧ hh = 0 ∧ zz = 1)) ∧ va_at G.1 CL (a, .inr (4, [.ref v, iV 0, .int hh, .int zz])) H := V.Z a _ e
theorem VV.start (h : Hp G F ws H) : VV G (FR F ws H) F F ws H H [] :=
  ⟨h.1, ⟨h.2.1.1, fun k q hk => Or.inl (va_A.in hk)⟩, va_S.rf, h.2.2.1, h.2.2.2, fLe.rf, fun _ _ => rfl, fun _ hq => Or.inl (Or.inr hq), fun _ hq => Or.inr hq⟩
theorem VV.hp (V : VV G A F0 F ws H0 H locs) : Hp G F ws H := ⟨V.P, V.D.weaken (fun _ _ _ _ => trivial), V.Z, V.N⟩
theorem Hp.sub (h : Hp G F ws H) (isC : List Nat) {wc : va_W} (hn : va_nd isC = true) (hC : isC.map (fun i => ws[i]?) = wc.map some) : Hp G F wc H := by
  have key : ∀ (k : Nat) (q : Nat × va_E), wc[k]? = some q → ∃ i : Nat, ws[i]? = some q := by
    intro k q hq
    have h1 : (isC.map (fun i => ws[i]?))[k]? = some (some q) := by rw [hC, List.getElem?_map, hq]; rfl
    rw [List.getElem?_map] at h1
    cases hi : isC[k]? with
    | none => rw [hi] at h1; cases h1
    | some i => rw [hi] at h1; exact ⟨i, Option.some.inj h1⟩
  refine ⟨fun k q hq => ?_, h.2.1.sub isC hn hC, h.2.2.1, fun k q hq => ?_⟩
  · obtain ⟨i, hi⟩ := key k q hq
    exact h.1 i q hi
  · obtain ⟨i, hi⟩ := key k q hq
    exact h.2.2.2 i q hi
/-- other owned cells in another order, or fewer -/
theorem VV.sub (V : VV G A F0 F ws H0 H locs) (is : List Nat) {w1 : va_W} (hn : va_nd is = true) (hs : is.map (fun i => ws[i]?) = w1.map some) : VV G A F0 F w1 H0 H locs := by
  obtain ⟨h1, -, h3, h4⟩ := V.hp.sub is hn hs
  exact ⟨h1, V.D.sub is hn hs, V.S, h3, h4, V.le, V.ou, V.nu, V.st⟩
theorem VV.wr (V : VV G A F0 F ws H0 H locs) {k a : Nat} {e0 e : va_E} (he : ws[k]? = some (a, e0)) {H1 : Heap} (hc : va_at G.1 CL (a, e) H1) (z : H1.size = H.size) (oq : ∀ q : Nat, q ≠ a → H1[q]? = H[q]?) (j : Nat) : VV G A F0 F (ws.set k (a, e)) H0 H1 (locs ++ [⟨a, j⟩]) := by
  have hl := (List.getElem?_eq_some_iff.mp he).1
  have hFa : F a = none := V.N k (a, e0) he
  refine ⟨V.P.set V.D he hc oq, V.D.set he, V.S.put z oq (V.D.2 k _ he), fun b x hb => ?_, fun i q hi => ?_, V.le, V.ou, V.nu, V.st⟩
  · refine (V.Z b x hb).kept (oq b (fun e => ?_))
    rw [e, hFa] at hb
    cases hb
  · by_cases hik : i = k
    · subst hik
      rw [List.getElem?_set_self hl] at hi
      cases hi
      exact hFa
    · rw [List.getElem?_set_ne (Ne.symm hik)] at hi
      exact V.N i q hi
/-- a hashable String's hash is written -/
theorem VV.wh (V : VV G A F0 F ws H0 H locs) {a v : Nat} {h hh zz : Int32} (hF : F a = some (.inr (.inl (v, h)))) {H1 : Heap} (hq : (hh = 0 ∧ zz = 0) ∨ (hh = h ∧ zz = 0) ∨ (h = 0 ∧ hh = 0 ∧ zz = 1)) (hc : va_at G.1 CL (a, .inr (4, [.ref v, iV 0, .int hh, .int zz])) H1) (z : H1.size = H.size) (oq : ∀ q : Nat, q ≠ a → H1[q]? = H[q]?) (j : Nat) : VV G A F0 F ws H0 H1 (locs ++ [⟨a, j⟩]) := by
  have hA : A a := V.str ⟨v, h, hF⟩
  refine ⟨V.P.kept (fun k q hk => oq q.1 (fun e => ?_)), V.D, V.S.put z oq hA, fun b x hb => ?_, V.N, V.le, V.ou, V.nu, V.st⟩
  · have := V.N k q hk
    rw [e, hF] at this
    cases this
  · by_cases hba : b = a
    · subst hba
      rw [hF] at hb
      cases hb
      exact ⟨hh, zz, hq, hc⟩
    · exact (V.Z b x hb).kept (oq b hba)
theorem VV.fresh (V : VV G A F0 F ws H0 H locs) : F H.size = none := by
  cases h : F H.size with
  | none => rfl
  | some x => exact absurd (V.Z _ _ h).lt (Nat.lt_irrefl _)
theorem VV.nw (V : VV G A F0 F ws H0 H locs) {e : va_E} {H1 : Heap} (hc : va_at G.1 CL (H.size, e) H1) (z : H1.size = H.size + 1) (o : ∀ q : Nat, q < H.size → H1[q]? = H[q]?) : VV G A F0 F (ws ++ [(H.size, e)]) H0 H1 locs := by
  have one : ∀ (k : Nat) (q : Nat × va_E), ([(H.size, e)] : va_W)[k]? = some q → q = (H.size, e) := by
    intro k q hk
    have hz : k < 1 := (List.getElem?_eq_some_iff.mp hk).1
    rw [show k = 0 by omega] at hk
    cases hk
    rfl
  refine ⟨(V.P.kept (fun k q hk => o q.1 ((V.P k q hk).lt))).app (fun k q hk => by rw [one k q hk]; exact hc), V.D.push V.P rfl (V.nu _ V.S.1), ⟨Nat.le_trans V.S.1 (by omega), fun x h1 h2 => (o x (Nat.lt_of_lt_of_le h1 V.S.1)).trans (V.S.2.1 x h1 h2), V.S.2.2⟩, fun b x hb => (V.Z b x hb).kept (o b (V.Z b x hb).lt), fun k q hk => ?_, V.le, V.ou, V.nu, V.st⟩
  rcases List.mem_append.mp (List.mem_of_getElem? hk) with h | h
  · obtain ⟨i, hi⟩ := List.getElem?_of_mem h
    exact V.N i q hi
  · rw [List.mem_singleton.mp h]
    exact V.fresh
/-- behind a call -/
theorem VV.join (V : VV G A F0 F ws H0 H locs) (isC isR : List Nat) {wc wr w1 : va_W} {F1 : fS} {H1 : Heap} {L : List Loc} (hC : isC.map (fun i => ws[i]?) = wc.map some) (hR : isR.map (fun i => ws[i]?) = wr.map some) (hn : va_nd isR = true) (hdis : ∀ i ∈ isR, i ∉ isC)
    (V1 : VV G (FR F wc H) F F1 w1 H H1 []) (hL : ∀ q ∈ L, FR F wc H q.base) : VV G A F0 F1 (wr ++ w1) H0 H1 (locs ++ L) := by
  have at' : ∀ {is : List Nat} {w : va_W}, is.map (fun i => ws[i]?) = w.map some → ∀ (k : Nat) (q : Nat × va_E), w[k]? = some q → ∃ i, is[k]? = some i ∧ ws[i]? = some q := by
    intro is w hs k q hq
    have h1 : (is.map (fun i => ws[i]?))[k]? = some (some q) := by rw [hs, List.getElem?_map, hq]; rfl
    rw [List.getElem?_map] at h1
    cases hi : is[k]? with
    | none => rw [hi] at h1; cases h1
    | some i => rw [hi] at h1; exact ⟨i, rfl, Option.some.inj h1⟩
  have hFA : ∀ q, FR F wc H q → A q := by
    intro q hq
    rcases hq with (⟨k, e, hk⟩ | hq) | hq
    · obtain ⟨i, -, hi⟩ := at' hC k (q, e) hk
      exact V.D.2 i _ hi
    · exact V.nu q (Nat.le_trans V.S.1 hq)
    · exact V.str hq
  have apart : ∀ (k : Nat) (q : Nat × va_E), wr[k]? = some q → q.1 < H.size ∧ ¬ FR F wc H q.1 := by
    intro k q hq
    obtain ⟨i, h1, h2⟩ := at' hR k q hq
    have hl := (V.P i q h2).lt
    refine ⟨hl, fun h => ?_⟩
    rcases h with (⟨k2, e, h⟩ | h) | ⟨v, hv, h⟩
    · obtain ⟨j, h3, h4⟩ := at' hC k2 (q.1, e) h
      have hij := V.D.1 i j q (q.1, e) h2 h4 rfl
      subst hij
      exact hdis i (List.mem_of_getElem? h1) (List.mem_of_getElem? h3)
    · omega
    · rw [V.N i q h2] at h
      cases h
  have hPr : va_P G.1 CL wr H1 := fun k q hq => by
    obtain ⟨i, -, h2⟩ := at' hR k q hq
    obtain ⟨g1, g2⟩ := apart k q hq
    exact (V.P i q h2).kept (V1.S.2.1 q.1 g1 g2)
  refine ⟨hPr.app V1.P, va_D.app (V.D.sub isR hn hR) (V1.D.weaken (fun k q _ h => hFA q.1 h)) (fun i j x y hx hy hxy => (apart i x hx).2 (by rw [hxy]; exact V1.D.2 j y hy)), ⟨Nat.le_trans V.S.1 V1.S.1, fun q h1 h2 => ?_, fun q hq => ?_⟩, V1.Z, fun k q hk => ?_, V.le.tr V1.le, fun a ha => ?_, V.nu, V.st⟩
  · rw [V1.S.2.1 q (Nat.lt_of_lt_of_le h1 V.S.1) (fun z => h2 (hFA q z))]
    exact V.S.2.1 q h1 h2
  · rcases List.mem_append.mp hq with h | h
    · exact V.S.2.2 q h
    · exact hFA _ (hL q h)
  · rcases List.mem_append.mp (List.mem_of_getElem? hk) with h | h
    · obtain ⟨i, hi⟩ := List.getElem?_of_mem h
      obtain ⟨j, -, h2⟩ := at' hR i q hi
      rw [V1.ou q.1 (apart i q hi).2]
      exact V.N j q h2
    · obtain ⟨i, hi⟩ := List.getElem?_of_mem h
      exact V1.N i q hi
  · rw [V1.ou a (fun z => ha (hFA a z))]
    exact V.ou a ha
end VVs
/-- owned cells are frozen -/
def fAdd (F : fS) (w : List (Nat × fE)) : fS := fun a => match w.find? (fun q => q.1 == a) with
  | some q => some q.2
  | none => F a
theorem fAdd_in {F : fS} {w : List (Nat × fE)} {a : Nat} {x : fE} (hd : ∀ x y, (a, x) ∈ w → (a, y) ∈ w → x = y) (h : (a, x) ∈ w) : fAdd F w a = some x := by
  unfold fAdd
  cases hf : w.find? (fun q => q.1 == a) with
  | none =>
    have := List.find?_eq_none.mp hf (a, x) h
    simp at this
  | some q =>
    have h1 : (q.1 == a) = true := List.find?_some (p := fun q : Nat × fE => q.1 == a) hf
    have h2 := List.mem_of_find?_eq_some hf
    have h3 : q.1 = a := by simpa using h1
    obtain ⟨b, y⟩ := q
    subst h3
    exact congrArg some (hd y x h2 h)
theorem fAdd_out {F : fS} {w : List (Nat × fE)} {a : Nat} (h : ∀ x, (a, x) ∉ w) : fAdd F w a = F a := by
  unfold fAdd
  cases hf : w.find? (fun q => q.1 == a) with
  | none => rfl
  | some q =>
    have h1 : (q.1 == a) = true := List.find?_some (p := fun q : Nat × fE => q.1 == a) hf
    have h2 := List.mem_of_find?_eq_some hf
    have h3 : q.1 = a := by simpa using h1
    obtain ⟨b, y⟩ := q
    subst h3
    exact absurd h2 (h y)
/-- freeze the owned cells at isF; a String may become one that may be hashed: its entry is given by 'to' -/
theorem VV.frz {G : gG} {A : Nat → Prop} {F0 F : fS} {ws : va_W} {H0 H : Heap} {locs : List Loc} (V : VV G A F0 F ws H0 H locs) (isF isR : List Nat) {wf wr : va_W} (hF : isF.map (fun i => ws[i]?) = wf.map some) (hR : isR.map (fun i => ws[i]?) = wr.map some) (hnF : va_nd isF = true) (hnR : va_nd isR = true) (hdis : ∀ i ∈ isR, i ∉ isF) (to : Nat × va_E → fE) (hto : ∀ q ∈ wf, fat G q.1 (to q) H) :
    ∃ F', fLe F F' ∧ (∀ q ∈ wf, F' q.1 = some (to q)) ∧ (∀ a, F' a ≠ F a → A a ∧ ∃ q ∈ wf, q.1 = a) ∧ VV G A F0 F' wr H0 H locs := by
  have at' : ∀ {is : List Nat} {w : va_W}, is.map (fun i => ws[i]?) = w.map some → ∀ (k : Nat) (q : Nat × va_E), w[k]? = some q → ∃ i, is[k]? = some i ∧ ws[i]? = some q := by
    intro is w hs k q hq
    have h1 : (is.map (fun i => ws[i]?))[k]? = some (some q) := by rw [hs, List.getElem?_map, hq]; rfl
    rw [List.getElem?_map] at h1
    cases hi : is[k]? with
    | none => rw [hi] at h1; cases h1
    | some i => rw [hi] at h1; exact ⟨i, rfl, Option.some.inj h1⟩
  have hDf : va_D A wf := V.D.sub isF hnF hF
  have hNf : ∀ q ∈ wf, F q.1 = none := by
    intro q hq
    obtain ⟨k, hk⟩ := List.getElem?_of_mem hq
    obtain ⟨i, -, hi⟩ := at' hF k q hk
    exact V.N i q hi
  have hmem : ∀ a x, (a, x) ∈ wf.map (fun q => (q.1, to q)) → ∃ q ∈ wf, q.1 = a ∧ to q = x := by
    intro a x h
    obtain ⟨q, hq, e⟩ := List.mem_map.mp h
    exact ⟨q, hq, congrArg Prod.fst e, congrArg Prod.snd e⟩
  have hin : ∀ q ∈ wf, fAdd F (wf.map (fun q => (q.1, to q))) q.1 = some (to q) := by
    intro q hq
    refine fAdd_in (fun x y h1 h2 => ?_) (List.mem_map.mpr ⟨q, hq, rfl⟩)
    obtain ⟨q1, m1, e1, e2⟩ := hmem _ _ h1
    obtain ⟨q2, m2, e3, e4⟩ := hmem _ _ h2
    obtain ⟨k1, i1⟩ := List.getElem?_of_mem m1
    obtain ⟨k2, i2⟩ := List.getElem?_of_mem m2
    have := hDf.1 k1 k2 q1 q2 i1 i2 (e1.trans e3.symm)
    subst this
    cases i1.symm.trans i2
    exact e2.symm.trans e4
  have hout : ∀ a, (∀ q ∈ wf, q.1 ≠ a) → fAdd F (wf.map (fun q => (q.1, to q))) a = F a := by
    intro a h
    refine fAdd_out (fun x hx => ?_)
    obtain ⟨q, hq, e1, -⟩ := hmem _ _ hx
    exact h q hq e1
  have hle : fLe F (fAdd F (wf.map (fun q => (q.1, to q)))) := by
    intro a x hx
    rw [hout a (fun q hq e => by rw [← e, hNf q hq] at hx; cases hx)]
    exact hx
  have hne : ∀ a, fAdd F (wf.map (fun q => (q.1, to q))) a ≠ F a → A a ∧ ∃ q ∈ wf, q.1 = a := by
    intro a h
    by_cases hq : ∃ q ∈ wf, q.1 = a
    · obtain ⟨q, h1, h2⟩ := hq
      obtain ⟨k, hk⟩ := List.getElem?_of_mem h1
      exact ⟨by rw [← h2]; exact hDf.2 k q hk, q, h1, h2⟩
    · exact absurd (hout a (fun q h1 h2 => hq ⟨q, h1, h2⟩)) h
  refine ⟨_, hle, hin, hne, fun k q hq => ?_, V.D.sub isR hnR hR, V.S, fun a x hx => ?_, fun k q hq => ?_, V.le.tr hle, fun a ha => ?_, V.nu, V.st⟩
  · obtain ⟨i, -, hi⟩ := at' hR k q hq
    exact V.P i q hi
  · by_cases hq : ∃ q ∈ wf, q.1 = a
    · obtain ⟨q, h1, h2⟩ := hq
      subst h2
      rw [hin q h1] at hx
      cases hx
      exact hto q h1
    · rw [hout a (fun q h1 h2 => hq ⟨q, h1, h2⟩)] at hx
      exact V.Z a x hx
  · obtain ⟨i, h1, hi⟩ := at' hR k q hq
    rw [hout q.1 (fun q2 hq2 e => ?_)]
    · exact V.N i q hi
    · obtain ⟨k2, hk2⟩ := List.getElem?_of_mem hq2
      obtain ⟨j, h3, hj⟩ := at' hF k2 q2 hk2
      have hij := V.D.1 i j q q2 hi hj e.symm
      subst hij
      exact hdis i (List.mem_of_getElem? h1) (List.mem_of_getElem? h3)
  · rw [← V.ou a ha]
    apply Classical.byContradiction
    intro h
    exact ha (hne a h).1
