/-! KK: what a state's tables say, all through a run -/
set_option maxRecDepth 100000
def xL_iterator : MethodName := ⟨"java/util/List", "iterator", "()Ljava/util/Iterator;"⟩
def xL_add : MethodName := ⟨"java/util/List", "add", "(Ljava/lang/Object;)Z"⟩
def xL_addAt : MethodName := ⟨"java/util/List", "add", "(ILjava/lang/Object;)V"⟩
def xL_size : MethodName := ⟨"java/util/List", "size", "()I"⟩
def xL_isEmpty : MethodName := ⟨"java/util/List", "isEmpty", "()Z"⟩
def xL_get : MethodName := ⟨"java/util/List", "get", "(I)Ljava/lang/Object;"⟩
def xL_remove : MethodName := ⟨"java/util/List", "remove", "(I)Ljava/lang/Object;"⟩
def xI_hasNext : MethodName := ⟨"java/util/Iterator", "hasNext", "()Z"⟩
def xI_next : MethodName := ⟨"java/util/Iterator", "next", "()Ljava/lang/Object;"⟩
def xM_get : MethodName := ⟨"java/util/Map", "get", "(Ljava/lang/Object;)Ljava/lang/Object;"⟩
def xM_put : MethodName := ⟨"java/util/Map", "put", "(Ljava/lang/Object;Ljava/lang/Object;)Ljava/lang/Object;"⟩
def xM_size : MethodName := ⟨"java/util/Map", "size", "()I"⟩
def xW_count : MethodName := ⟨"TranslationMemory$Worded", "count", "()I"⟩
def xW_word : MethodName := ⟨"TranslationMemory$Worded", "word", "(I)Ljava/lang/String;"⟩
def IFL : List (String × MethodName × MethodName) := [(RJ2, xL_iterator, yJ2_iterator), (RJ2, xL_add, yJ2_add), (RJ2, xL_addAt, yJ2_add_3), (RJ2, xL_size, yJ2_size), (RJ2, xL_isEmpty, yJ2_isEmpty), (RJ2, xL_get, yJ2_get), (RJ2, xL_remove, yJ2_remove), (RJ19, xI_hasNext, yJ19_hasNext), (RJ19, xI_next, yJ19_next), (RJ30, xM_get, yJ30_get), (RJ30, xM_put, yJ30_put), (RJ30, xM_size, yJ30_size), (RX6, xW_count, yX6_count), (RX6, xW_word, yX6_word), (RX6, yX24_times, yX24_times), (RX6, yX24_isIn, yX24_isIn)]
def DFL : List (MethodName × MethodName) := [(⟨"TranslationMemory$Sentence", "has", "(Ljava/lang/String;)Z"⟩, yX24_has), (yX24_times, yX24_times), (⟨"TranslationMemory$Sentence", "times", "(Ljava/lang/String;)I"⟩, yX24_times), (yX24_isIn, yX24_isIn)]
def tabK : Cond → Bool
  | .fieldLinkNest _ _ _ _ _ _ => true
  | .methodLinkNest _ _ _ _ => true
  | .castable _ _ => true
  | .declares _ => true
  | .publicMethod _ => true
  | .privateMethod _ => true
  | .arrayOver _ => true
  | _ => false
theorem priv_moved {y : MethodName} {s U : State} (hW : s.WarmedH U.vm) (h : va_Nw (.privateMethod y) s) : va_Nw (.privateMethod y) U := by
  have hA := hW.alike
  have e1 : U.methodNamed? y = s.methodNamed? y := State.methodNamed?_setVm (s := s) hA y
  have e2 : U.vm.method? = s.vm.method? := funext hA.method?
  unfold va_Nw at h ⊢
  simp only [Cond.before, Cond.holds, Cond.value] at h ⊢
  rw [e1, e2]
  exact h
theorem tabK_moved {w : Cond} (hk : tabK w = true) {s U : State} (hW : s.WarmedH U.vm) (h : va_Nw w s) : va_Nw w U := by
  unfold tabK at hk
  split at hk
  · exact va_Nw.warmF hW h
  · exact va_Nw.warmM hW h
  · exact va_Nw.warmC hW h
  · exact va_Nw.warmD hW h
  · exact va_tabs rfl (rfl : (s.setVm U.vm).vm = U.vm) (by rw [Cond.publicMethod_setVm hW.alike]; exact h)
  · exact priv_moved hW h
  · have h1 := (Cond.arrayOver_setVmC (args := #[]) hW.alike _).trans h
    exact h1
  · cases hk
/-- a lambda's site: its class, how it is linked -/
def lamK (x : MethodName) (pc index : Nat) (σ : Lambda.Shape) (c : ClassId) (lk : Linked) (F : fS) (U : State) : Prop := ∃ (m : MethodId) (k : Class) (cf : ClassFile) (i0 p0 : Nat), U.methodNamed? x = some m ∧ U.vm.classes[m.cls]? = some k ∧ k.cf = some cf ∧ Lambda.shapeOf? cf index = some σ ∧ (k.callSites.find? fun y => y.1 == m.idx && y.2.1 == pc) = some (i0, p0, lk) ∧ Lambda.isMade { classPath := fun _ => none } U.vm m.cls σ c = true ∧ U.lambdaCallable σ c = true ∧
  ((∃ (a : Addr) (cell : Cell), lk = .constant a ∧ σ.captured = [] ∧ F a = some (.inr (.inr cell)) ∧ cell.cls = c ∧ cell.vm = .none ∧ cell.slots = #[]) ∨ (lk = .makes c ∧ σ.captured ≠ []))
theorem lamK.moved {x : MethodName} {pc index : Nat} {σ : Lambda.Shape} {c : ClassId} {lk : Linked} {F F1 : fS} {s U : State} (hW : s.WarmedH U.vm) (hF : fLe F F1) (h : lamK x pc index σ c lk F s) : lamK x pc index σ c lk F1 U := by
  obtain ⟨m, kc, cf, i0, p0, hm, hk, hcf, hsh, hfind, hmade, hcall, hl⟩ := h
  have hcall' : U.lambdaCallable σ c = true := by
    have hA := hW.alike
    simp only [State.lambdaCallable, hA.findClass, hA.assignable, hA.superclasses, hA.declaredIn] at hcall ⊢
    exact hcall
  obtain ⟨kc', hk', he⟩ := hW.alike.2.2 _ _ hk
  have hm' : U.methodNamed? x = some m := by
    have := State.methodNamed?_setVm (s := s) hW.alike x
    rw [hm] at this
    exact this
  refine ⟨m, kc', cf, i0, p0, hm', hk', by rw [he]; exact hcf, hsh, by rw [he]; exact hfind, Lambda.isMade_warmer hW hmade, hcall', ?_⟩
  rcases hl with ⟨a, cell, h1, h2, h3, h4⟩ | h
  · exact Or.inl ⟨a, cell, h1, h2, hF _ _ h3, h4⟩
  · exact Or.inr h
def zLam (F : fS) (U : State) : Prop := ∀ (x : MethodName) (pc index : Nat) (σ : Lambda.Shape), Cond.lambdaSite x pc index σ ∈ siteWords_1 → ∃ (c : ClassId) (lk : Linked), lamK x pc index σ c lk F U
/-- a static field, and what it holds for good -/
def zZ (F : fS) (C n d : String) (v : Value) (U : State) : Prop := ∃ (cf : ClassId) (kf : Class) (fi : Nat) (f : Field) (a : Nat) (cell : Cell), U.fieldFound? C n d = some (cf, kf, fi, f) ∧ f.isStatic = true ∧ kf.init = .initialized ∧ kf.statics = some a ∧ F a = some (.inr (.inr cell)) ∧ cell.vm.isStatics = true ∧ cell.slots[f.slot]? = some v
theorem zZ.moved {F F1 : fS} {C n d : String} {v : Value} {u U : State} (hvm : u.vm.Alike U.vm) (hF : fLe F F1) (h : zZ F C n d v u) : zZ F1 C n d v U := by
  obtain ⟨cf, kf, fi, f, a, cell, h1, h2, h3, h4, h5, h6⟩ := h
  obtain ⟨k', hi', he⟩ := State.fieldFound?_setVm hvm h1
  exact ⟨cf, k', fi, f, a, cell, hi', h2, by rw [he]; exact h3, by rw [he]; exact h4, hF _ _ h5, h6⟩
/-- where a static field lies -/
def zL (F : fS) (C n d : String) (U : State) : Prop := ∃ (c : ClassId) (k : Class) (i : Nat) (f : Field) (a : Nat) (cell : Cell), U.vm.findClass C = some c ∧ U.fieldFound? C n d = some (c, k, i, f) ∧ f.isStatic = true ∧ k.statics = some a ∧ F a = some (.inr (.inr cell)) ∧ cell.vm.isStatics = true ∧ cell.cls = c ∧ f.slot < cell.slots.size ∧ k.staticTypes[f.slot]? = some f.type
theorem zL.moved {F F1 : fS} {C n d : String} {u U : State} (hvm : u.vm.Alike U.vm) (hF : fLe F F1) (h : zL F C n d u) : zL F1 C n d U := by
  obtain ⟨c, k, i, f, a, cell, h1, h2, h3, h4, h5, h6, h7, h8, h9⟩ := h
  obtain ⟨k', hi', he⟩ := State.fieldFound?_setVm hvm h2
  exact ⟨c, k', i, f, a, cell, by rw [hvm.findClass]; exact h1, hi', h3, by rw [he]; exact h4, hF _ _ h5, h6, h7, h8, by rw [he]; exact h9⟩
/-- both statics that a throw reads: null or some reference -/
def zX (F : fS) (C n d : String) (U : State) : Prop := ((zZ F C n d .null U) ∨ ∃ t : Nat, zZ F C n d (.ref t) U) ∧ zL F C n d U
theorem zX.moved {F F1 : fS} {C n d : String} {u U : State} (hvm : u.vm.Alike U.vm) (hF : fLe F F1) (h : zX F C n d u) : zX F1 C n d U := by
  refine ⟨?_, h.2.moved hvm hF⟩
  rcases h.1 with h | ⟨t, h⟩
  · exact Or.inl (h.moved hvm hF)
  · exact Or.inr ⟨t, h.moved hvm hF⟩
/-- the statics' values: the list of (class, name, descriptor, value) -/
def ZL (G : gG) : List (String × String × String × Value) := [("java/util/ArrayList", "DEFAULTCAPACITY_EMPTY_ELEMENTDATA", "[Ljava/lang/Object;", .ref (G.2.2 0)), ("java/lang/String", "COMPACT_STRINGS", "Z", iV 1), ("TranslationMemory", "BEST_SCORE", "I", iV 100), ("java/lang/Integer$IntegerCache", "high", "I", iV 127), ("java/lang/Integer$IntegerCache", "cache", "[Ljava/lang/Integer;", .ref (G.2.2 1)), ("java/util/HashSet", "PRESENT", "Ljava/lang/Object;", .ref (G.2.2 2)), ("TranslationMemory$Move", "INSERT", "LTranslationMemory$Move;", .ref (G.2.2 10)), ("TranslationMemory$Move", "DELETE", "LTranslationMemory$Move;", .ref (G.2.2 11)), ("TranslationMemory$Move", "REPLACE", "LTranslationMemory$Move;", .ref (G.2.2 12)), ("TranslationMemory$Move", "NEAR", "LTranslationMemory$Move;", .ref (G.2.2 13)), ("TranslationMemory$Move", "KEEP", "LTranslationMemory$Move;", .ref (G.2.2 14))]
/-- String constants: (class, entry, text, address) -/
def SL (G : gG) : List (String × Nat × String × Nat) := [("TranslationMemory$Sentence", 16, "", G.2.2 20), ("TranslationMemory$Sentence", 35, " ", G.2.2 21), ("TranslationMemory$Memory", 261, "", G.2.2 20), ("TranslationMemory$Memory", 259, " ", G.2.2 21), ("java/lang/Math", 111, "integer overflow", G.2.2 22)]
/-- the statics' objects that are frozen from the start -/
def SO (G : gG) (F : fS) : Prop := F (G.2.2 0) = some (.inl (aR G 0 (fun _ => none))) ∧ (∃ h z : Int32, F (G.2.2 20) = some (.inl (ob 4 [.ref (G.2.2 23), iV 0, .int h, .int z]))) ∧ F (G.2.2 23) = some (.inl (aB G 0 (fun _ => 0))) ∧ (∃ h z : Int32, F (G.2.2 21) = some (.inl (ob 4 [.ref (G.2.2 24), iV 0, .int h, .int z]))) ∧ F (G.2.2 24) = some (.inl (aB G 1 (fun _ => 32)))
theorem SO.mono {G : gG} {F F1 : fS} (hF : fLe F F1) (h : SO G F) : SO G F1 := by
  obtain ⟨h1, ⟨a, b, h2⟩, h3, ⟨c, d, h4⟩, h5⟩ := h
  exact ⟨hF _ _ h1, ⟨a, b, hF _ _ h2⟩, hF _ _ h3, ⟨c, d, hF _ _ h4⟩, hF _ _ h5⟩
/-- the cache of Integers -/
def zC (G : gG) (F : fS) (U : State) : Prop := ∃ cell : Cell, F (G.2.2 1) = some (.inr (.inr cell)) ∧ U.isArrayOf cell (.object "java/lang/Integer") ∧ cell.vm ≠ .unknown ∧ cell.slots.size = 256 ∧ ∀ i : Nat, i < 256 → cell.slots[i]? = some (.ref (G.2.2 (1000 + i))) ∧ F (G.2.2 (1000 + i)) = some (.inl (ob 5 [iV ((i : Int) - 128)]))
theorem zC.moved {G : gG} {F F1 : fS} {u U : State} (hvm : u.vm.Alike U.vm) (hF : fLe F F1) (h : zC G F u) : zC G F1 U := by
  obtain ⟨cell, h1, h2, h3, h4, h5⟩ := h
  exact ⟨cell, hF _ _ h1, State.isArrayOf_alike hvm h2, h3, h4, fun i hi => ⟨(h5 i hi).1, hF _ _ (h5 i hi).2⟩⟩
/-- the constants of Move -/
def mvC (i : Nat) : String := match i with
  | 0 => "TranslationMemory$Move$1"
  | 1 => "TranslationMemory$Move$2"
  | 2 => "TranslationMemory$Move$3"
  | 3 => "TranslationMemory$Move$4"
  | _ => "TranslationMemory$Move$5"
def zE (G : gG) (F : fS) (U : State) : Prop := ∀ i : Nat, i < 5 → ∃ (cell : Cell) (cf : ClassId) (k : Class) (fi : Nat) (f : Field), F (G.2.2 (10 + i)) = some (.inr (.inr cell)) ∧ cell.vm = .none ∧ U.vm.findClass (mvC i) = some cell.cls ∧ U.fieldFound? "java/lang/Enum" "ordinal" "I" = some (cf, k, fi, f) ∧ f.isStatic = false ∧ cell.slots[f.slot]? = some (iV i)
theorem zE.moved {G : gG} {F F1 : fS} {u U : State} (hvm : u.vm.Alike U.vm) (hF : fLe F F1) (h : zE G F u) : zE G F1 U := by
  intro i hi
  obtain ⟨cell, cf, k, fi, f, h1, h2, h3, h4, h5, h6⟩ := h i hi
  obtain ⟨k', hi', he⟩ := State.fieldFound?_setVm hvm h4
  exact ⟨cell, cf, k', fi, f, hF _ _ h1, h2, by rw [hvm.findClass]; exact h3, hi', h5, h6⟩
/-- classes whose objects are not of another class -/
def NCL : List (String × String) := [("java/util/HashMap$Node", "java/util/HashMap$TreeNode")]
/-- a static whose value nobody asks for: null or some reference -/
def zV (F : fS) (U : State) : Prop := ∃ v : Value, zZ F "jdk/internal/util/Preconditions" "SIOOBE_FORMATTER" "Ljava/util/function/BiFunction;" v U ∧ (v = .null ∨ ∃ t : Nat, v = .ref t)
theorem zV.moved {F F1 : fS} {u U : State} (hvm : u.vm.Alike U.vm) (hF : fLe F F1) (h : zV F u) : zV F1 U := by
  obtain ⟨v, h1, h2⟩ := h
  exact ⟨v, h1.moved hvm hF, h2⟩
def KK (G : gG) (F : fS) (U : State) : Prop := va_K G.1 CL (TYS G) U ∧ (∀ w ∈ lw_tbl, tabK w = true → va_Nw w U) ∧ (∀ t ∈ IFL, va_Fw t.1 t.2.1 t.2.2 U) ∧ (∀ w ∈ defaultWords_1, va_Nw w U) ∧ (∀ t ∈ DFL, va_Nw (.landsInDefault "TranslationMemory$Sentence" t.1 t.2) U) ∧ (va_AO "java/lang/Object" U ∧ va_AO "java/util/HashMap$Node" U) ∧
  (∀ t ∈ ZL G, zZ F t.1 t.2.1 t.2.2.1 t.2.2.2 U) ∧ (zX F Bundle.tN "UNASSIGNED_STACK" Bundle.steD U ∧ zX F Bundle.tN "SUPPRESSED_SENTINEL" Bundle.listD U) ∧ (∀ t ∈ SL G, vk_R t.1 t.2.1 t.2.2.1 t.2.2.2 U) ∧ zLam F U ∧ SO G F ∧ zC G F U ∧ zE G F U ∧ zV F U ∧ (∀ t ∈ NCL, va_Nc t.1 t.2 U)
