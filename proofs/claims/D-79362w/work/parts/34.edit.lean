/-! The editor (printed by gen/x34.py) -/
set_option maxRecDepth 100000
set_option maxHeartbeats 4000000 in
theorem ct_nt_X16 (l : Launch) (G : gG) {F : fS} {Ha : Heap} (a : Nat) (x y : Int) (h : F a = some (.inl (ob 17 [iV x, iV y]))) (hp : Hp G F [] Ha) : CT l G yX16_nextTo cX16_nextTo 1 (some .int) 2 32 0 0 [.ref a] F [] Ha (fun rv F' w' => rv = some (iV y) ∧ F = F' ∧ w' = []) := by
  refine z_of hp (Or.inl (by decide)) (Nat.le_of_ble_eq_true rfl) ?_
  intro p e s m below meth c ls hx hb hr hml hts hown hlk hnm hk hsH V hl
  have hl : lv_has ls 1 [(0, .ref a)] := hl
  refine lv_aload_n hx hb dX16_nextTo_0 rfl (lv_at hl 0 rfl) ?_
  refine z_callSX (owner := "TranslationMemory$Step") (z_at hk 17 rfl) ⟨hx, hb, hml, hown, hts⟩ hk hl.1 V (wc := []) (wr := []) [] [] rfl rfl rfl rfl (by decide) (As := []) (rest := []) (fun hp => ct_nextTo_X16 l G a x y h hp) ⟨z_rm hts (lw_meth q1726) rfl rfl ⟨Nat.le_of_ble_eq_true rfl, Nat.le_of_ble_eq_true rfl⟩, hts _ q115, hts _ q1723, hts _ q1724, hts _ q1667, hts _ q1712, rfl, hts _ q1716, hts _ q1726, by decide, z_len (n := 0) (by decide +kernel)⟩ (z_rc hk (V.f h) (q := (RX16, TX16, 2)) rfl) rfl rfl (Nat.le_of_ble_eq_true rfl) dX16_nextTo_1 ⟨Nat.le_of_ble_eq_true rfl, Nat.le_of_ble_eq_true rfl⟩ (fun v F1 w1 H locs hq hle hou V => ?_)
  obtain ⟨rfl, rfl, rfl⟩ := hq
  refine W.eq (g2 := F0 m 4 ls [iV (y + 1)]) rfl ?_
  have V : VV G _ _ F [] _ _ _ := V
  refine lv_iconst (v := iZ 1) hx hb dX16_nextTo_4 rfl ?_
  refine z_isub hx hb dX16_nextTo_5 ?_
  exact z_iret hx hb hr hlk V rfl dX16_nextTo_6 ⟨by rw [show y + 1 - 1 = y by omega], rfl, rfl⟩ ⟨Nat.le_of_ble_eq_true rfl, Nat.le_of_ble_eq_true rfl⟩
set_option maxHeartbeats 4000000 in
theorem ct_nf_X17 (l : Launch) (G : gG) {F : fS} {Ha : Heap} (a : Nat) (x y : Int) (h : F a = some (.inl (ob 18 [iV x, iV y]))) (hp : Hp G F [] Ha) : CT l G yX17_nextFrom cX17_nextFrom 1 (some .int) 2 32 0 0 [.ref a] F [] Ha (fun rv F' w' => rv = some (iV x) ∧ F = F' ∧ w' = []) := by
  refine z_of hp (Or.inl (by decide)) (Nat.le_of_ble_eq_true rfl) ?_
  intro p e s m below meth c ls hx hb hr hml hts hown hlk hnm hk hsH V hl
  have hl : lv_has ls 1 [(0, .ref a)] := hl
  refine lv_aload_n hx hb dX17_nextFrom_0 rfl (lv_at hl 0 rfl) ?_
  refine z_callSX (owner := "TranslationMemory$Step") (z_at hk 18 rfl) ⟨hx, hb, hml, hown, hts⟩ hk hl.1 V (wc := []) (wr := []) [] [] rfl rfl rfl rfl (by decide) (As := []) (rest := []) (fun hp => ct_nextFrom_X17 l G a x y h hp) ⟨z_rm hts (lw_meth q1713) rfl rfl ⟨Nat.le_of_ble_eq_true rfl, Nat.le_of_ble_eq_true rfl⟩, hts _ q115, hts _ q1709, hts _ q1710, hts _ q1676, hts _ q1712, rfl, hts _ q1703, hts _ q1713, by decide, z_len (n := 0) (by decide +kernel)⟩ (z_rc hk (V.f h) (q := (RX17, TX17, 2)) rfl) rfl rfl (Nat.le_of_ble_eq_true rfl) dX17_nextFrom_1 ⟨Nat.le_of_ble_eq_true rfl, Nat.le_of_ble_eq_true rfl⟩ (fun v F1 w1 H locs hq hle hou V => ?_)
  obtain ⟨rfl, rfl, rfl⟩ := hq
  refine W.eq (g2 := F0 m 4 ls [iV (x + 1)]) rfl ?_
  have V : VV G _ _ F [] _ _ _ := V
  refine lv_iconst (v := iZ 1) hx hb dX17_nextFrom_4 rfl ?_
  refine z_isub hx hb dX17_nextFrom_5 ?_
  exact z_iret hx hb hr hlk V rfl dX17_nextFrom_6 ⟨by rw [show x + 1 - 1 = x by omega], rfl, rfl⟩ ⟨Nat.le_of_ble_eq_true rfl, Nat.le_of_ble_eq_true rfl⟩
/-- the least cost of an edit -/
def lev (c : Nat → Int) : List (List Nat) → List (List Nat) → Int
  | [], [] => 0
  | _ :: s, [] => c 1 + lev c s []
  | [], _ :: q => c 0 + lev c [] q
  | x :: s, y :: q => min (min (mvCost c (moveOf x y) + lev c s q) (c 1 + lev c s (y :: q))) (c 0 + lev c (x :: s) q)
termination_by s q => s.length + q.length
theorem moveOf_B (x y : List Nat) : moveOf x y = 2 ∨ moveOf x y = 3 ∨ moveOf x y = 4 := by
  unfold moveOf
  split
  · exact Or.inr (Or.inr rfl)
  · split
    · exact Or.inr (Or.inl rfl)
    · exact Or.inl rfl
theorem mvCost_B {c : Nat → Int} (hc : ∀ i, i < 4 → 1 ≤ c i ∧ c i ≤ 9) (k : Nat) : 0 ≤ mvCost c k ∧ mvCost c k ≤ 9 := by
  unfold mvCost
  split
  · have := hc k (by omega); omega
  · omega
theorem lev_B {c : Nat → Int} (hc : ∀ i, i < 4 → 1 ≤ c i ∧ c i ≤ 9) : ∀ (n : Nat) (s q : List (List Nat)), s.length + q.length ≤ n → 0 ≤ lev c s q ∧ lev c s q ≤ 9 * (n : Int) := by
  intro n
  have h0 := hc 0 (by omega)
  have h1 := hc 1 (by omega)
  induction n with
  | zero =>
    intro s q h
    have a : s = [] := List.length_eq_zero_iff.mp (by omega)
    have b : q = [] := List.length_eq_zero_iff.mp (by omega)
    subst a b
    rw [lev]
    omega
  | succ n ih =>
    intro s q h
    cases s with
    | nil =>
      cases q with
      | nil => rw [lev]; omega
      | cons y q =>
        have := ih [] q (by simp at h ⊢; omega)
        rw [lev]
        omega
    | cons x s =>
      cases q with
      | nil =>
        have := ih s [] (by simp at h ⊢; omega)
        rw [lev]
        omega
      | cons y q =>
        have m := mvCost_B hc (moveOf x y)
        have a := ih s q (by simp at h ⊢; omega)
        have b := ih s (y :: q) (by simp at h ⊢; omega)
        have d := ih (x :: s) q (by simp at h ⊢; omega)
        rw [lev]
        omega
/-- the editor's rows -/
def rws (G : gG) (o k n : Nat) (g : Nat → Nat → Int) : va_W := (List.range n).map (fun j => (o + 1 + j, aI G k (g j)))
theorem rws_get {G : gG} {o k n i : Nat} {g : Nat → Nat → Int} (h : i < n) : (rws G o k n g)[i]? = some (o + 1 + i, aI G k (g i)) := by
  unfold rws
  rw [List.getElem?_map, List.getElem?_range h]
  rfl
theorem rws_set {G : gG} {o k n i : Nat} {g : Nat → Nat → Int} (h : i < n) (f : Nat → Int) : (rws G o k n g).set i (o + 1 + i, aI G k f) = rws G o k n (fun j => if j = i then f else g j) := by
  apply List.ext_getElem?
  intro j
  rw [List.getElem?_set]
  by_cases e : i = j
  · subst e
    rw [if_pos rfl, if_pos (by unfold rws; simpa using h), rws_get h, if_pos rfl]
  · rw [if_neg e]
    by_cases hj : j < n
    · rw [rws_get hj, rws_get hj, if_neg (fun x => e x.symm)]
    · rw [List.getElem?_eq_none (by unfold rws; simp; omega), List.getElem?_eq_none (by unfold rws; simp; omega)]
