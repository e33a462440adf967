/-! DATA: lists, texts, sentences .. over the frozen store, and lists that are owned -/
set_option maxRecDepth 100000
/-- a list of the addresses xs, owned: the object alone while it is empty, then with its array of ten -/
def LW (G : gG) (l : Nat) (xs : List Nat) (ws : va_W) : Prop := ∃ mc : Int, (xs = [] ∧ ws = [(l, ob 0 [iV mc, .ref (G.2.2 0), iV 0])]) ∨ (∃ (arr : Nat) (f : Nat → Option Nat), xs.length ≤ 10 ∧ (∀ i, i < xs.length → f i = some (xs.getD i 0)) ∧ ws = [(l, ob 0 [iV mc, .ref arr, iV (xs.length : Int)]), (arr, aR G 10 f)])
/-- a list of the addresses xs, frozen -/
def LF (G : gG) (F : fS) (l : Nat) (xs : List Nat) : Prop := ∃ (mc : Int) (arr n : Nat) (f : Nat → Option Nat), F l = some (.inl (ob 0 [iV mc, .ref arr, iV (xs.length : Int)])) ∧ F arr = some (.inl (aR G n f)) ∧ xs.length ≤ n ∧ n ≤ 10 ∧ ∀ i, i < xs.length → f i = some (xs.getD i 0)
theorem LF.mono {G : gG} {F F1 : fS} {l : Nat} {xs : List Nat} (h : LF G F l xs) (hF : fLe F F1) : LF G F1 l xs := by
  obtain ⟨mc, arr, n, f, h1, h2, h3⟩ := h
  exact ⟨mc, arr, n, f, hF _ _ h1, hF _ _ h2, h3⟩
/-- Latin-1 bytes of a text (letters below 128) -/
def BF (G : gG) (F : fS) (v : Nat) (t : List Nat) : Prop := (∀ c ∈ t, c < 128) ∧ t.length ≤ 1000 ∧ ∃ g : Nat → Int, F v = some (.inl (aB G t.length g)) ∧ ∀ i, i < t.length → g i = (t.getD i 0 : Nat)
theorem BF.mono {G : gG} {F F1 : fS} {v : Nat} {t : List Nat} (h : BF G F v t) (hF : fLe F F1) : BF G F1 v t := by
  obtain ⟨h0, h1, g, h2, h3⟩ := h
  exact ⟨h0, h1, g, hF _ _ h2, h3⟩
def jhash (t : List Nat) : Int32 := t.foldl (fun (h : Int32) (c : Nat) => 31 * h + iZ (c : Int)) 0
/-- a String that may be hashed; any String -/
def SH (G : gG) (F : fS) (a : Nat) (t : List Nat) : Prop := ∃ v : Nat, F a = some (.inr (.inl (v, jhash t))) ∧ BF G F v t
def SF (G : gG) (F : fS) (a : Nat) (t : List Nat) : Prop := SH G F a t ∨ ∃ (v : Nat) (h z : Int32), F a = some (.inl (ob 4 [.ref v, iV 0, .int h, .int z])) ∧ BF G F v t
theorem SH.mono {G : gG} {F F1 : fS} {a : Nat} {t : List Nat} (h : SH G F a t) (hF : fLe F F1) : SH G F1 a t := by
  obtain ⟨v, h1, h2⟩ := h
  exact ⟨v, hF _ _ h1, h2.mono hF⟩
theorem SF.mono {G : gG} {F F1 : fS} {a : Nat} {t : List Nat} (h : SF G F a t) (hF : fLe F F1) : SF G F1 a t := by
  rcases h with h | ⟨v, x, y, h1, h2⟩
  · exact Or.inl (h.mono hF)
  · exact Or.inr ⟨v, x, y, hF _ _ h1, h2.mono hF⟩
theorem SF.at {G : gG} {A : Nat → Prop} {F0 F : fS} {ws : va_W} {H0 H : Heap} {locs : List Loc} {a : Nat} {t : List Nat} (h : SF G F a t) (V : VV G A F0 F ws H0 H locs) : ∃ (v : Nat) (hh zz : Int32) (g : Nat → Int), va_at G.1 CL (a, ob 4 [.ref v, iV 0, .int hh, .int zz]) H ∧ F v = some (.inl (aB G t.length g)) ∧ (∀ i, i < t.length → g i = (t.getD i 0 : Nat)) ∧ (∀ c ∈ t, c < 128) ∧ t.length ≤ 1000 := by
  rcases h with ⟨v, h1, h2, h3, g, h4, h5⟩ | ⟨v, hh, zz, h1, h2, h3, g, h4, h5⟩
  · obtain ⟨hh, zz, -, hc⟩ := V.fs h1
    exact ⟨v, hh, zz, g, hc, h4, h5, h2, h3⟩
  · exact ⟨v, hh, zz, g, V.f h1, h4, h5, h2, h3⟩
theorem SO.e {G : gG} {F : fS} (h : SO G F) : SF G F (G.2.2 20) [] := by
  obtain ⟨h1, ⟨a, b, h2⟩, h3, -⟩ := h
  exact Or.inr ⟨_, a, b, h2, by simp, by simp, _, h3, fun i hi => absurd hi (Nat.not_lt_zero _)⟩
theorem SO.s {G : gG} {F : fS} (h : SO G F) : SF G F (G.2.2 21) [32] := by
  obtain ⟨h1, -, -, ⟨a, b, h2⟩, h3⟩ := h
  refine Or.inr ⟨_, a, b, h2, by simp, by simp, _, h3, fun i hi => ?_⟩
  have : i = 0 := by simp at hi; omega
  subst this; rfl
/-- a sentence's text: its words, a blank between two -/
def txt : List (List Nat) → List Nat
  | [] => []
  | [w] => w
  | w :: l => w ++ 32 :: txt l
