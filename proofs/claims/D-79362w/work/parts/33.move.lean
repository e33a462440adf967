/-! Moves, pieces, sets (printed by gen/x33.py) -/
set_option maxRecDepth 100000
/-- the move from a word to a word: 2 replace, 3 near, 4 keep; what a move costs -/
def moveOf (x y : List Nat) : Nat := if x = y then 4 else if nearB x y then 3 else 2
def mvCost (c : Nat → Int) (k : Nat) : Int := if k < 4 then c k else 0
theorem mv_rc {G : gG} {Fk F0 F : fS} {s : State} {A : Nat → Prop} {ws : va_W} {H0 H : Heap} {locs : List Loc} (hk : KK G Fk s) (V : VV G A Fk F ws H0 H locs) (i : Nat) (hi : i < 5) : ∃ cell : Cell, H[G.2.2 (10 + i)]? = some cell ∧ cell.vm.isStatics = false ∧ s.vm.findClass (mvC i) = some cell.cls := by
  obtain ⟨cell, cf, k, fi, f, h1, h2, h3, -⟩ := hk.ze i hi
  exact ⟨cell, V.Z _ _ (V.le _ _ h1), by rw [h2]; rfl, h3⟩
set_option maxHeartbeats 4000000 in
theorem ct_mv0 (l : Launch) (G : gG) {F : fS} {Ha : Heap} (b cs : Nat) (c9 : Nat → Int) (hc : F cs = some (.inl (aI G 4 c9))) (hp : Hp G F [] Ha) : CT l G yX19_cost cX19_cost 2 (some .int) 1 12 0 0 [.ref b, .ref cs] F [] Ha (fun rv F' w' => rv = some (iV (mvCost c9 0)) ∧ F = F' ∧ w' = []) := by
  refine z_of hp (Or.inl (by decide)) (Nat.le_of_ble_eq_true rfl) ?_
  intro p e s m below meth c ls hx hb hr hml hts hown hlk hnm hk hsH V hl
  have hl : lv_has ls 2 [(0, .ref b), (1, .ref cs)] := hl
  refine lv_aload_n hx hb dX19_cost_0 rfl (lv_at hl 1 rfl) ?_
  refine lv_iconst (v := iZ 0) hx hb dX19_cost_1 rfl ?_
  refine z_iald hx hb hk (V.f hc) 0 (by omega) dX19_cost_2 ?_
  rw [show c9 0 = c9 0 from rfl]
  exact z_iret hx hb hr hlk V rfl dX19_cost_3 ⟨rfl, rfl, rfl⟩ ⟨Nat.le_of_ble_eq_true rfl, Nat.le_of_ble_eq_true rfl⟩
set_option maxHeartbeats 4000000 in
theorem ct_mv1 (l : Launch) (G : gG) {F : fS} {Ha : Heap} (b cs : Nat) (c9 : Nat → Int) (hc : F cs = some (.inl (aI G 4 c9))) (hp : Hp G F [] Ha) : CT l G yX20_cost cX20_cost 2 (some .int) 1 12 0 0 [.ref b, .ref cs] F [] Ha (fun rv F' w' => rv = some (iV (mvCost c9 1)) ∧ F = F' ∧ w' = []) := by
  refine z_of hp (Or.inl (by decide)) (Nat.le_of_ble_eq_true rfl) ?_
  intro p e s m below meth c ls hx hb hr hml hts hown hlk hnm hk hsH V hl
  have hl : lv_has ls 2 [(0, .ref b), (1, .ref cs)] := hl
  refine lv_aload_n hx hb dX20_cost_0 rfl (lv_at hl 1 rfl) ?_
  refine lv_iconst (v := iZ 1) hx hb dX20_cost_1 rfl ?_
  refine z_iald hx hb hk (V.f hc) 1 (by omega) dX20_cost_2 ?_
  rw [show c9 1 = c9 1 from rfl]
  exact z_iret hx hb hr hlk V rfl dX20_cost_3 ⟨rfl, rfl, rfl⟩ ⟨Nat.le_of_ble_eq_true rfl, Nat.le_of_ble_eq_true rfl⟩
set_option maxHeartbeats 4000000 in
theorem ct_mv2 (l : Launch) (G : gG) {F : fS} {Ha : Heap} (b cs : Nat) (c9 : Nat → Int) (hc : F cs = some (.inl (aI G 4 c9))) (hp : Hp G F [] Ha) : CT l G yX21_cost cX21_cost 2 (some .int) 1 12 0 0 [.ref b, .ref cs] F [] Ha (fun rv F' w' => rv = some (iV (mvCost c9 2)) ∧ F = F' ∧ w' = []) := by
  refine z_of hp (Or.inl (by decide)) (Nat.le_of_ble_eq_true rfl) ?_
  intro p e s m below meth c ls hx hb hr hml hts hown hlk hnm hk hsH V hl
  have hl : lv_has ls 2 [(0, .ref b), (1, .ref cs)] := hl
  refine lv_aload_n hx hb dX21_cost_0 rfl (lv_at hl 1 rfl) ?_
  refine lv_iconst (v := iZ 2) hx hb dX21_cost_1 rfl ?_
  refine z_iald hx hb hk (V.f hc) 2 (by omega) dX21_cost_2 ?_
  rw [show c9 2 = c9 2 from rfl]
  exact z_iret hx hb hr hlk V rfl dX21_cost_3 ⟨rfl, rfl, rfl⟩ ⟨Nat.le_of_ble_eq_true rfl, Nat.le_of_ble_eq_true rfl⟩
set_option maxHeartbeats 4000000 in
theorem ct_mv3 (l : Launch) (G : gG) {F : fS} {Ha : Heap} (b cs : Nat) (c9 : Nat → Int) (hc : F cs = some (.inl (aI G 4 c9))) (hp : Hp G F [] Ha) : CT l G yX22_cost cX22_cost 2 (some .int) 1 12 0 0 [.ref b, .ref cs] F [] Ha (fun rv F' w' => rv = some (iV (mvCost c9 3)) ∧ F = F' ∧ w' = []) := by
  refine z_of hp (Or.inl (by decide)) (Nat.le_of_ble_eq_true rfl) ?_
  intro p e s m below meth c ls hx hb hr hml hts hown hlk hnm hk hsH V hl
  have hl : lv_has ls 2 [(0, .ref b), (1, .ref cs)] := hl
  refine lv_aload_n hx hb dX22_cost_0 rfl (lv_at hl 1 rfl) ?_
  refine lv_iconst (v := iZ 3) hx hb dX22_cost_1 rfl ?_
  refine z_iald hx hb hk (V.f hc) 3 (by omega) dX22_cost_2 ?_
  rw [show c9 3 = c9 3 from rfl]
  exact z_iret hx hb hr hlk V rfl dX22_cost_3 ⟨rfl, rfl, rfl⟩ ⟨Nat.le_of_ble_eq_true rfl, Nat.le_of_ble_eq_true rfl⟩
set_option maxHeartbeats 4000000 in
theorem ct_mv4 (l : Launch) (G : gG) {F : fS} {Ha : Heap} (b cs : Nat) (c9 : Nat → Int) (hc : F cs = some (.inl (aI G 4 c9))) (hp : Hp G F [] Ha) : CT l G yX23_cost cX23_cost 2 (some .int) 1 12 0 0 [.ref b, .ref cs] F [] Ha (fun rv F' w' => rv = some (iV (mvCost c9 4)) ∧ F = F' ∧ w' = []) := by
  refine z_of hp (Or.inl (by decide)) (Nat.le_of_ble_eq_true rfl) ?_
  intro p e s m below meth c ls hx hb hr hml hts hown hlk hnm hk hsH V hl
  have hl : lv_has ls 2 [(0, .ref b), (1, .ref cs)] := hl
  refine lv_iconst (v := iZ 0) hx hb dX23_cost_0 rfl ?_
  exact z_iret hx hb hr hlk V rfl dX23_cost_1 ⟨rfl, rfl, rfl⟩ ⟨Nat.le_of_ble_eq_true rfl, Nat.le_of_ble_eq_true rfl⟩
set_option maxHeartbeats 4000000 in
theorem ct_between (l : Launch) (G : gG) {F : fS} {Ha : Heap} (a b : Nat) (x y : List Nat) (h : SH G F a x) (h2 : SH G F b y) (hp : Hp G F [] Ha) : CT l G yX12_between cX12_between 2 (some (.object "TranslationMemory$Move")) 6 120 0 0 [.ref a, .ref b] F [] Ha (fun rv F' w' => rv = some (.ref (G.2.2 (10 + moveOf x y))) ∧ F = F' ∧ w' = []) := by
  refine z_of hp (Or.inl (by decide)) (Nat.le_of_ble_eq_true rfl) ?_
  intro p e s m below meth c ls hx hb hr hml hts hown hlk hnm hk hsH V hl
  have hl : lv_has ls 2 [(0, .ref a), (1, .ref b)] := hl
  refine lv_aload_n hx hb dX12_between_0 rfl (lv_at hl 0 rfl) ?_
  refine lv_aload_n hx hb dX12_between_1 rfl (lv_at hl 1 rfl) ?_
  refine z_callV ⟨hx, hb, hml, hown, hts⟩ hk hl.1 V (wc := []) (wr := []) [] [] rfl rfl rfl rfl (by decide) (As := [.ref b]) (rest := []) (fun hp => ct_S_equals l G a b x y (Or.inl h) (Or.inl h2) hp) (cwV 1 hts (lw_V q1538 q1098 q1099 q81 q1100) rfl rfl rfl (by decide +kernel) ⟨Nat.le_of_ble_eq_true rfl, Nat.le_of_ble_eq_true rfl⟩) (z_rc hk (Classical.choose_spec ((SF.at4 (Or.inl h)) V)) (q := (RJ6, TJ6, 4)) rfl) rfl rfl (Nat.le_of_ble_eq_true rfl) dX12_between_2 ⟨Nat.le_of_ble_eq_true rfl, Nat.le_of_ble_eq_true rfl⟩ (fun v F1 w1 H locs hq hle hou V => ?_)
  obtain ⟨rfl, rfl, rfl⟩ := hq
  refine W.eq (g2 := F0 m 5 ls [iV (bZ (decide (x = y)))]) rfl ?_
  have V : VV G _ _ F [] _ _ _ := V
  have hbz := bZ_cases (decide (x = y))
  refine z_if_eq (tgt := 14) hx hb (by omega) dX12_between_5 (by decide) (fun c5 => ?_) (fun c5 => ?_)
  · skip
    have hne := of_decide_eq_false (hbz.resolve_left (by omega)).1
    refine lv_aload_n hx hb dX12_between_14 rfl (lv_at hl 0 rfl) ?_
    refine lv_aload_n hx hb dX12_between_15 rfl (lv_at hl 1 rfl) ?_
    refine z_callSN ⟨hx, hb, hml, hown, hts⟩ hk hl.1 V (wc := []) (wr := []) [] [] rfl rfl rfl rfl (by decide) (As := [.ref a, .ref b]) (rest := []) (fun hp => ct_areNear l G a b x y h h2 hp) ⟨va_cnB (host := "TranslationMemory") 2 hts (lw_meth q1543) rfl rfl rfl (hk.N q1541 rfl) (hts _ q73) (by decide +kernel) ⟨Nat.le_of_ble_eq_true rfl, Nat.le_of_ble_eq_true rfl⟩, hts _ q1542, trivial⟩ rfl rfl (Nat.le_of_ble_eq_true rfl) dX12_between_16 ⟨Nat.le_of_ble_eq_true rfl, Nat.le_of_ble_eq_true rfl⟩ (fun v F1 w1 H locs hq hle hou V => ?_)
    obtain ⟨rfl, rfl, rfl⟩ := hq
    refine W.eq (g2 := F0 m 19 ls [iV (bZ (nearB x y))]) rfl ?_
    have V : VV G _ _ F [] _ _ _ := V
    have hbz2 := bZ_cases (nearB x y)
    refine z_if_eq (tgt := 28) hx hb (by omega) dX12_between_19 (by decide) (fun c19 => ?_) (fun c19 => ?_)
    · skip
      refine z_gets hx hb hts V (hk.Zs 8 rfl) hown q1547 (fun _ h => h) dX12_between_28 ?_
      exact z_aret hx hb hr hlk V (Or.inl ⟨_, rfl⟩) (Or.inr ⟨_, rfl⟩) dX12_between_31 ⟨by unfold moveOf; rw [if_neg hne, if_neg (by simp [(hbz2.resolve_left (by omega)).1])], rfl, rfl⟩ ⟨Nat.le_of_ble_eq_true rfl, Nat.le_of_ble_eq_true rfl⟩
    · skip
      refine z_gets hx hb hts V (hk.Zs 9 rfl) hown q1545 (fun _ h => h) dX12_between_22 ?_
      refine lv_goto (tgt := 31) hx hb dX12_between_25 (by decide) ?_
      exact z_aret hx hb hr hlk V (Or.inl ⟨_, rfl⟩) (Or.inr ⟨_, rfl⟩) dX12_between_31 ⟨by unfold moveOf; rw [if_neg hne, if_pos (hbz2.resolve_right (by omega)).1], rfl, rfl⟩ ⟨Nat.le_of_ble_eq_true rfl, Nat.le_of_ble_eq_true rfl⟩
  · skip
    have he := of_decide_eq_true (hbz.resolve_right (by omega)).1
    refine z_gets hx hb hts V (hk.Zs 10 rfl) hown q1539 (fun _ h => h) dX12_between_8 ?_
    refine lv_goto (tgt := 31) hx hb dX12_between_11 (by decide) ?_
    exact z_aret hx hb hr hlk V (Or.inl ⟨_, rfl⟩) (Or.inr ⟨_, rfl⟩) dX12_between_31 ⟨by unfold moveOf; rw [if_pos he], rfl, rfl⟩ ⟨Nat.le_of_ble_eq_true rfl, Nat.le_of_ble_eq_true rfl⟩
set_option maxHeartbeats 4000000 in
theorem ct_Pc_init (l : Launch) (G : gG) {F : fS} {Ha : Heap} (a : Nat) (x y z : Int) (hp : Hp G F [(a, ob 19 [iV 0, iV 0, iV 0])] Ha) : CT l G yX18_init cX18_init 4 none 1 40 0 0 [.ref a, iV x, iV y, iV z] F [(a, ob 19 [iV 0, iV 0, iV 0])] Ha (fun rv F' w' => rv = none ∧ F = F' ∧ w' = [(a, ob 19 [iV x, iV y, iV z])]) := by
  refine z_of hp (Or.inl (by decide)) (Nat.le_of_ble_eq_true rfl) ?_
  intro p e s m below meth c ls hx hb hr hml hts hown hlk hnm hk hsH V hl
  have hl : lv_has ls 4 [(0, .ref a), (1, iV x), (2, iV y), (3, iV z)] := hl
  refine lv_aload_n hx hb dX18_init_0 rfl (lv_at hl 0 rfl) ?_
  refine W.objInit hx hb hown (hts _ q2493) (hts _ q138) (hts _ q139) rfl (by rw [hml]; exact hl.1) rfl dX18_init_1 (Nat.le_of_ble_eq_true rfl) (Nat.le_of_ble_eq_true rfl) ?_
  refine W.eq (g2 := F0 m 4 ls []) rfl ?_
  refine lv_aload_n hx hb dX18_init_4 rfl (lv_at hl 0 rfl) ?_
  refine lv_iload_n hx hb dX18_init_5 rfl (lv_at hl 1 rfl) ?_
  refine z_putF hx hb hts hk V hown K_X18 0 rfl 0 (by decide) q2494 (fun _ h => h) rfl hnm rfl rfl rfl (Nat.le_of_ble_eq_true rfl) dX18_init_6 (fun H locs V => ?_)
  have V : VV G _ _ F [(a, ob 19 [iV x, iV 0, iV 0])] _ _ _ := V
  refine lv_aload_n hx hb dX18_init_9 rfl (lv_at hl 0 rfl) ?_
  refine lv_iload_n hx hb dX18_init_10 rfl (lv_at hl 2 rfl) ?_
  refine z_putF hx hb hts hk V hown K_X18 0 rfl 1 (by decide) q2497 (fun _ h => h) rfl hnm rfl rfl rfl (Nat.le_of_ble_eq_true rfl) dX18_init_11 (fun H locs V => ?_)
  have V : VV G _ _ F [(a, ob 19 [iV x, iV y, iV 0])] _ _ _ := V
  refine lv_aload_n hx hb dX18_init_14 rfl (lv_at hl 0 rfl) ?_
  refine lv_iload_n hx hb dX18_init_15 rfl (lv_at hl 3 rfl) ?_
  refine z_putF hx hb hts hk V hown K_X18 0 rfl 2 (by decide) q2499 (fun _ h => h) rfl hnm rfl rfl rfl (Nat.le_of_ble_eq_true rfl) dX18_init_16 (fun H locs V => ?_)
  have V : VV G _ _ F [(a, ob 19 [iV x, iV y, iV z])] _ _ _ := V
  exact z_vret hx hb hr hlk V dX18_init_19 ⟨rfl, rfl, rfl⟩ ⟨Nat.le_of_ble_eq_true rfl, Nat.le_of_ble_eq_true rfl⟩
set_option maxHeartbeats 4000000 in
theorem ct_Pc_isGap (l : Launch) (G : gG) {F : fS} {Ha : Heap} (a : Nat) (x y z : Int) (h : F a = some (.inl (ob 19 [iV x, iV y, iV z]))) (hx9 : -1 ≤ x ∧ x ≤ 100) (hp : Hp G F [] Ha) : CT l G yX18_isGap cX18_isGap 1 (some .boolean) 1 12 0 0 [.ref a] F [] Ha (fun rv F' w' => rv = some (iV (bZ (decide (x = -1)))) ∧ F = F' ∧ w' = []) := by
  refine z_of hp (Or.inl (by decide)) (Nat.le_of_ble_eq_true rfl) ?_
  intro p e s m below meth c ls hx hb hr hml hts hown hlk hnm hk hsH V hl
  have hl : lv_has ls 1 [(0, .ref a)] := hl
  refine lv_aload_n hx hb dX18_isGap_0 rfl (lv_at hl 0 rfl) ?_
  refine z_get hx hb hts hk hown K_X18 (V.f h) 0 (by decide) q2494 (fun _ h => h) rfl dX18_isGap_1 ?_
  refine lv_iconst (v := iZ (-1)) hx hb dX18_isGap_4 rfl ?_
  refine z_icmp_ne (tgt := 12) hx hb (by omega) dX18_isGap_5 (by decide) (fun c5 => ?_) (fun c5 => ?_)
  · skip
    refine lv_iconst (v := iZ 0) hx hb dX18_isGap_12 rfl ?_
    exact z_iret hx hb hr hlk V rfl dX18_isGap_13 ⟨by rw [decide_eq_false (by omega)]; rfl, rfl, rfl⟩ ⟨Nat.le_of_ble_eq_true rfl, Nat.le_of_ble_eq_true rfl⟩
  · skip
    refine lv_iconst (v := iZ 1) hx hb dX18_isGap_8 rfl ?_
    refine lv_goto (tgt := 13) hx hb dX18_isGap_9 (by decide) ?_
    exact z_iret hx hb hr hlk V rfl dX18_isGap_13 ⟨by rw [decide_eq_true (by omega)]; rfl, rfl, rfl⟩ ⟨Nat.le_of_ble_eq_true rfl, Nat.le_of_ble_eq_true rfl⟩
set_option maxHeartbeats 4000000 in
theorem ct_M_set (l : Launch) (G : gG) {F : fS} {Ha : Heap} (a : Nat) (me : Me) (h : MEF G F a me) (b : Nat) (t0 : Tm) (h2 : TMF G F b t0) (bb : Bool) (hp : Hp G F [] Ha) : CT l G yX2_set cX2_set 7 (some .int) 9 183 0 0 [.ref a, .ref b, iV (bZ bb)] F [] Ha (fun rv F' w' => rv = some (iV (setB (fun i => (if bb then brk t0 (me.1.getD i ([], [], false, 0)) else conc t0 (me.1.getD i ([], [], false, 0)))) me.1.length : Nat)) ∧ F = F' ∧ w' = []) := by
  refine z_of hp (Or.inl (by decide)) (Nat.le_of_ble_eq_true rfl) ?_
  intro p e s m below meth c ls hx hb hr hml hts hown hlk hnm hk hsH V hl
  have hl : lv_has ls 7 [(0, .ref a), (1, .ref b), (2, iV (bZ bb))] := hl
  have ht := h2
  obtain ⟨lp, lt, cs, ps, js, as, ts, m1, m2, m3, m4, m5, m6, m7, m8, m9, m10, m11, m12, m13⟩ := h
  have lP := m2.len
  have lT := m5.len
  refine lv_iconst (v := iZ 0) hx hb dX2_set_0 rfl ?_
  refine lv_istore_n (lv' := [(3, iV 0), (0, .ref a), (1, .ref b), (2, iV (bZ bb))]) hx hb dX2_set_1 rfl hl (by decide) rfl (fun ls hl => ?_)
  refine lv_iconst (v := iZ 0) hx hb dX2_set_2 rfl ?_
  refine lv_istore (lv' := [(4, iV 0), (3, iV 0), (0, .ref a), (1, .ref b), (2, iV (bZ bb))]) hx hb dX2_set_3 hl (by decide) rfl (fun ls hl => ?_)
  have loop : ∀ (n : Nat) (i : Nat) (H : Heap) (locs : List Loc) (ls : Array Slot), me.1.length - i < n → (i ≤ me.1.length) → VV G (FR F [] Ha) F F [] Ha H locs → lv_has ls 7 [(0, .ref a), (1, .ref b), (2, iV (bZ bb)), (3, iV (setB (fun i => (if bb then brk t0 (me.1.getD i ([], [], false, 0)) else conc t0 (me.1.getD i ([], [], false, 0)))) i : Nat)), (4, iV (i : Nat))] → W p l e ({ frames := 9, cells := 0, slots := 0, locals := 183 } : Room) s m [.ref a, .ref b, iV (bZ bb)].toArray below meth c H locs 0 0 (MQ below (Qz G F [] Ha (fun rv F' w' => rv = some (iV (setB (fun i => (if bb then brk t0 (me.1.getD i ([], [], false, 0)) else conc t0 (me.1.getD i ([], [], false, 0)))) me.1.length : Nat)) ∧ F = F' ∧ w' = [])) [.ref a, .ref b, iV (bZ bb)].toArray s 0 0 (FR F [] Ha)) (F0 m 5 ls []) := by
    intro n
    induction n with
    | zero => intro i H locs ls hm9; exact absurd hm9 (Nat.not_lt_zero _)
    | succ n ih_loop =>
      intro i H locs ls hm9 hi V hl
      refine lv_iload hx hb dX2_set_5 (lv_at hl 4 rfl) ?_
      refine lv_aload_n hx hb dX2_set_7 rfl (lv_at hl 0 rfl) ?_
      refine z_get hx hb hts hk hown K_X2 (V.f m1) 0 (by decide) q175 (fun _ h => h) rfl dX2_set_8 ?_
      refine z_callF (z_at hk 0 rfl) ⟨hx, hb, hml, hown, hts⟩ hk hl.1 V (wc := []) (wr := []) [] [] rfl rfl rfl rfl (by decide) (As := []) (rest := [iV (i : Nat)]) (fun hp => ct_AL_size l G lp as m2 hp) (va_cwF 0 hts (lw_app (lw_in4 q1134 q550 q552 q77) (lw_meth q554)) rfl rfl rfl (hk.I 3 rfl) (by decide +kernel) ⟨Nat.le_of_ble_eq_true rfl, Nat.le_of_ble_eq_true rfl⟩) (z_rc hk (Classical.choose_spec (m2.at V)) (q := (RJ2, TJ2, 3)) rfl) rfl rfl (Nat.le_of_ble_eq_true rfl) dX2_set_11 ⟨Nat.le_of_ble_eq_true rfl, Nat.le_of_ble_eq_true rfl⟩ (fun v F1 w1 H locs hq hle hou V => ?_)
      obtain ⟨rfl, rfl, rfl⟩ := hq
      refine W.eq (g2 := F0 m 16 ls [iV (as.length : Nat), iV (i : Nat)]) rfl ?_
      have V : VV G _ _ F [] _ _ _ := V
      have hsl := setB_lt (fun i => (if bb then brk t0 (me.1.getD i ([], [], false, 0)) else conc t0 (me.1.getD i ([], [], false, 0)))) i
      refine z_icmp_ge (tgt := 78) hx hb (by omega) dX2_set_16 (by decide) (fun c16 => ?_) (fun c16 => ?_)
      · skip
        refine lv_iload_n hx hb dX2_set_78 rfl (lv_at hl 3 rfl) ?_
        exact z_iret hx hb hr hlk V rfl dX2_set_79 ⟨by rw [show i = me.1.length by omega], rfl, rfl⟩ ⟨Nat.le_of_ble_eq_true rfl, Nat.le_of_ble_eq_true rfl⟩
      · skip
        have hti := m4 i (by omega)
        have hbb := bZ_cases bb
        refine lv_aload_n hx hb dX2_set_19 rfl (lv_at hl 0 rfl) ?_
        refine z_get hx hb hts hk hown K_X2 (V.f m1) 0 (by decide) q175 (fun _ h => h) rfl dX2_set_20 ?_
        refine lv_iload hx hb dX2_set_23 (lv_at hl 4 rfl) ?_
        refine z_callF (z_at hk 0 rfl) ⟨hx, hb, hml, hown, hts⟩ hk hl.1 V (wc := []) (wr := []) [] [] rfl rfl rfl rfl (by decide) (As := [iV (i : Nat)]) (rest := []) (fun hp => ct_AL_get l G lp as m2 i (by omega) hp) (va_cwF 1 hts (lw_app (lw_in4 q1140 q1143 q1145 q77) (lw_meth q1147)) rfl rfl rfl (hk.I 5 rfl) (by decide +kernel) ⟨Nat.le_of_ble_eq_true rfl, Nat.le_of_ble_eq_true rfl⟩) (z_rc hk (Classical.choose_spec (m2.at V)) (q := (RJ2, TJ2, 3)) rfl) rfl rfl (Nat.le_of_ble_eq_true rfl) dX2_set_25 ⟨Nat.le_of_ble_eq_true rfl, Nat.le_of_ble_eq_true rfl⟩ (fun v F1 w1 H locs hq hle hou V => ?_)
        obtain ⟨rfl, rfl, rfl⟩ := hq
        refine W.eq (g2 := F0 m 30 ls [.ref (as.getD i 0)]) rfl ?_
        have V : VV G _ _ F [] _ _ _ := V
        refine z_castE hx hb hts hown q420 (z_rc hk (Classical.choose_spec (hti.at V)) (q := (RX4, TX4, 4)) rfl) dX2_set_30 ?_
        refine lv_astore (lv' := [(5, .ref (as.getD i 0)), (0, .ref a), (1, .ref b), (2, iV (bZ bb)), (3, iV (setB (fun i => (if bb then brk t0 (me.1.getD i ([], [], false, 0)) else conc t0 (me.1.getD i ([], [], false, 0)))) i : Nat)), (4, iV (i : Nat))]) hx hb dX2_set_33 hl (by decide) rfl (fun ls hl => ?_)
        refine lv_iload_n hx hb dX2_set_35 rfl (lv_at hl 3 rfl) ?_
        refine z_if_eq (tgt := 48) hx hb (by omega) dX2_set_36 (by decide) (fun c36 => ?_) (fun c36 => ?_)
        · skip
          refine lv_aload_n hx hb dX2_set_48 rfl (lv_at hl 2 rfl) ?_
          refine lv_aload hx hb dX2_set_49 (lv_at hl 0 rfl) ?_
          refine z_callV ⟨hx, hb, hml, hown, hts⟩ hk hl.1 V (wc := []) (wr := []) [] [] rfl rfl rfl rfl (by decide) (As := [.ref (as.getD i 0)]) (rest := []) (fun hp => ct_T_concerns l G b (as.getD i 0) t0 (me.1.getD i ([], [], false, 0)) ht hti hp) (cwV 1 hts (lw_V q1440 q1161 q1162 q111 q1163) rfl rfl rfl (by decide +kernel) ⟨Nat.le_of_ble_eq_true rfl, Nat.le_of_ble_eq_true rfl⟩) (z_rc hk (Classical.choose_spec (ht.at V)) (q := (RX10, TX10, 2)) rfl) rfl rfl (Nat.le_of_ble_eq_true rfl) dX2_set_51 ⟨Nat.le_of_ble_eq_true rfl, Nat.le_of_ble_eq_true rfl⟩ (fun v F1 w1 H locs hq hle hou V => ?_)
          obtain ⟨rfl, rfl, rfl⟩ := hq
          refine W.eq (g2 := F0 m 54 ls [iV (bZ (conc t0 (me.1.getD i ([], [], false, 0))))]) rfl ?_
          have V : VV G _ _ F [] _ _ _ := V
          refine lv_istore (lv' := [(6, iV (bZ (conc t0 (me.1.getD i ([], [], false, 0))))), (5, .ref (as.getD i 0)), (0, .ref a), (1, .ref b), (2, iV (bZ bb)), (3, iV (setB (fun i => (if bb then brk t0 (me.1.getD i ([], [], false, 0)) else conc t0 (me.1.getD i ([], [], false, 0)))) i : Nat)), (4, iV (i : Nat))]) hx hb dX2_set_54 hl (by decide) rfl (fun ls hl => ?_)
          refine lv_iload_n hx hb dX2_set_56 rfl (lv_at hl 5 rfl) ?_
          refine lv_iload hx hb dX2_set_57 (lv_at hl 0 rfl) ?_
          have hbz := bZ_cases (conc t0 (me.1.getD i ([], [], false, 0)))
          have hpi : (fun i => (if bb then brk t0 (me.1.getD i ([], [], false, 0)) else conc t0 (me.1.getD i ([], [], false, 0)))) i = conc t0 (me.1.getD i ([], [], false, 0)) := if_neg (by simp [(hbb.resolve_left (by omega)).1])
          refine z_if_eq (tgt := 69) hx hb (by omega) dX2_set_59 (by decide) (fun c59 => ?_) (fun c59 => ?_)
          · skip
            refine lv_iconst (v := iZ 0) hx hb dX2_set_69 rfl ?_
            refine z_or (a := setB (fun i => (if bb then brk t0 (me.1.getD i ([], [], false, 0)) else conc t0 (me.1.getD i ([], [], false, 0)))) i) (b := 0) hx hb dX2_set_70 ?_
            rw [Nat.or_zero, ← setB_f (p := (fun i => (if bb then brk t0 (me.1.getD i ([], [], false, 0)) else conc t0 (me.1.getD i ([], [], false, 0))))) (hpi.trans (hbz.resolve_left (by omega)).1)]
            refine lv_istore_n (lv' := [(3, iV (setB (fun i => (if bb then brk t0 (me.1.getD i ([], [], false, 0)) else conc t0 (me.1.getD i ([], [], false, 0)))) (i + 1) : Nat)), (6, iV (bZ (conc t0 (me.1.getD i ([], [], false, 0))))), (5, .ref (as.getD i 0)), (0, .ref a), (1, .ref b), (2, iV (bZ bb)), (4, iV (i : Nat))]) hx hb dX2_set_71 rfl hl (by decide) rfl (fun ls hl => ?_)
            refine lv_iinc (v := iZ ((i : Nat) + 1)) (lv' := [(4, iV ((i : Nat) + 1)), (3, iV (setB (fun i => (if bb then brk t0 (me.1.getD i ([], [], false, 0)) else conc t0 (me.1.getD i ([], [], false, 0)))) (i + 1) : Nat)), (6, iV (bZ (conc t0 (me.1.getD i ([], [], false, 0))))), (5, .ref (as.getD i 0)), (0, .ref a), (1, .ref b), (2, iV (bZ bb))]) hx hb dX2_set_72 hl (k := 6) rfl (iZ_add _ _) (by decide) rfl (fun ls hl => ?_)
            refine lv_goto (tgt := 5) hx hb dX2_set_75 (by decide) ?_
            exact ih_loop (i + 1) _ _ _ (by omega) (by omega) V (lv_sub hl [4, 5, 6, 1, 0] rfl)
          · skip
            refine lv_iconst (v := iZ 1) hx hb dX2_set_62 rfl ?_
            refine lv_iload hx hb dX2_set_63 (lv_at hl 6 rfl) ?_
            refine z_shl1 hx hb (by omega) dX2_set_65 ?_
            refine lv_goto (tgt := 70) hx hb dX2_set_66 (by decide) ?_
            refine z_or (a := setB (fun i => (if bb then brk t0 (me.1.getD i ([], [], false, 0)) else conc t0 (me.1.getD i ([], [], false, 0)))) i) (b := 2 ^ i) hx hb dX2_set_70 ?_
            rw [or_pow hsl, ← setB_t (p := (fun i => (if bb then brk t0 (me.1.getD i ([], [], false, 0)) else conc t0 (me.1.getD i ([], [], false, 0))))) (hpi.trans (hbz.resolve_right (by omega)).1)]
            refine lv_istore_n (lv' := [(3, iV (setB (fun i => (if bb then brk t0 (me.1.getD i ([], [], false, 0)) else conc t0 (me.1.getD i ([], [], false, 0)))) (i + 1) : Nat)), (6, iV (bZ (conc t0 (me.1.getD i ([], [], false, 0))))), (5, .ref (as.getD i 0)), (0, .ref a), (1, .ref b), (2, iV (bZ bb)), (4, iV (i : Nat))]) hx hb dX2_set_71 rfl hl (by decide) rfl (fun ls hl => ?_)
            refine lv_iinc (v := iZ ((i : Nat) + 1)) (lv' := [(4, iV ((i : Nat) + 1)), (3, iV (setB (fun i => (if bb then brk t0 (me.1.getD i ([], [], false, 0)) else conc t0 (me.1.getD i ([], [], false, 0)))) (i + 1) : Nat)), (6, iV (bZ (conc t0 (me.1.getD i ([], [], false, 0))))), (5, .ref (as.getD i 0)), (0, .ref a), (1, .ref b), (2, iV (bZ bb))]) hx hb dX2_set_72 hl (k := 6) rfl (iZ_add _ _) (by decide) rfl (fun ls hl => ?_)
            refine lv_goto (tgt := 5) hx hb dX2_set_75 (by decide) ?_
            exact ih_loop (i + 1) _ _ _ (by omega) (by omega) V (lv_sub hl [4, 5, 6, 1, 0] rfl)
        · skip
          refine lv_aload_n hx hb dX2_set_39 rfl (lv_at hl 2 rfl) ?_
          refine lv_aload hx hb dX2_set_40 (lv_at hl 0 rfl) ?_
          refine z_callV ⟨hx, hb, hml, hown, hts⟩ hk hl.1 V (wc := []) (wr := []) [] [] rfl rfl rfl rfl (by decide) (As := [.ref (as.getD i 0)]) (rest := []) (fun hp => ct_T_isBrokenBy l G b (as.getD i 0) t0 (me.1.getD i ([], [], false, 0)) ht hti hp) (cwV 1 hts (lw_V q1156 q1157 q1158 q111 q1159) rfl rfl rfl (by decide +kernel) ⟨Nat.le_of_ble_eq_true rfl, Nat.le_of_ble_eq_true rfl⟩) (z_rc hk (Classical.choose_spec (ht.at V)) (q := (RX10, TX10, 2)) rfl) rfl rfl (Nat.le_of_ble_eq_true rfl) dX2_set_42 ⟨Nat.le_of_ble_eq_true rfl, Nat.le_of_ble_eq_true rfl⟩ (fun v F1 w1 H locs hq hle hou V => ?_)
          obtain ⟨rfl, rfl, rfl⟩ := hq
          refine W.eq (g2 := F0 m 45 ls [iV (bZ (brk t0 (me.1.getD i ([], [], false, 0))))]) rfl ?_
          have V : VV G _ _ F [] _ _ _ := V
          refine lv_goto (tgt := 54) hx hb dX2_set_45 (by decide) ?_
          refine lv_istore (lv' := [(6, iV (bZ (brk t0 (me.1.getD i ([], [], false, 0))))), (5, .ref (as.getD i 0)), (0, .ref a), (1, .ref b), (2, iV (bZ bb)), (3, iV (setB (fun i => (if bb then brk t0 (me.1.getD i ([], [], false, 0)) else conc t0 (me.1.getD i ([], [], false, 0)))) i : Nat)), (4, iV (i : Nat))]) hx hb dX2_set_54 hl (by decide) rfl (fun ls hl => ?_)
          refine lv_iload_n hx hb dX2_set_56 rfl (lv_at hl 5 rfl) ?_
          refine lv_iload hx hb dX2_set_57 (lv_at hl 0 rfl) ?_
          have hbz := bZ_cases (brk t0 (me.1.getD i ([], [], false, 0)))
          have hpi : (fun i => (if bb then brk t0 (me.1.getD i ([], [], false, 0)) else conc t0 (me.1.getD i ([], [], false, 0)))) i = brk t0 (me.1.getD i ([], [], false, 0)) := if_pos (hbb.resolve_right (by omega)).1
          refine z_if_eq (tgt := 69) hx hb (by omega) dX2_set_59 (by decide) (fun c59 => ?_) (fun c59 => ?_)
          · skip
            refine lv_iconst (v := iZ 0) hx hb dX2_set_69 rfl ?_
            refine z_or (a := setB (fun i => (if bb then brk t0 (me.1.getD i ([], [], false, 0)) else conc t0 (me.1.getD i ([], [], false, 0)))) i) (b := 0) hx hb dX2_set_70 ?_
            rw [Nat.or_zero, ← setB_f (p := (fun i => (if bb then brk t0 (me.1.getD i ([], [], false, 0)) else conc t0 (me.1.getD i ([], [], false, 0))))) (hpi.trans (hbz.resolve_left (by omega)).1)]
            refine lv_istore_n (lv' := [(3, iV (setB (fun i => (if bb then brk t0 (me.1.getD i ([], [], false, 0)) else conc t0 (me.1.getD i ([], [], false, 0)))) (i + 1) : Nat)), (6, iV (bZ (brk t0 (me.1.getD i ([], [], false, 0))))), (5, .ref (as.getD i 0)), (0, .ref a), (1, .ref b), (2, iV (bZ bb)), (4, iV (i : Nat))]) hx hb dX2_set_71 rfl hl (by decide) rfl (fun ls hl => ?_)
            refine lv_iinc (v := iZ ((i : Nat) + 1)) (lv' := [(4, iV ((i : Nat) + 1)), (3, iV (setB (fun i => (if bb then brk t0 (me.1.getD i ([], [], false, 0)) else conc t0 (me.1.getD i ([], [], false, 0)))) (i + 1) : Nat)), (6, iV (bZ (brk t0 (me.1.getD i ([], [], false, 0))))), (5, .ref (as.getD i 0)), (0, .ref a), (1, .ref b), (2, iV (bZ bb))]) hx hb dX2_set_72 hl (k := 6) rfl (iZ_add _ _) (by decide) rfl (fun ls hl => ?_)
            refine lv_goto (tgt := 5) hx hb dX2_set_75 (by decide) ?_
            exact ih_loop (i + 1) _ _ _ (by omega) (by omega) V (lv_sub hl [4, 5, 6, 1, 0] rfl)
          · skip
            refine lv_iconst (v := iZ 1) hx hb dX2_set_62 rfl ?_
            refine lv_iload hx hb dX2_set_63 (lv_at hl 6 rfl) ?_
            refine z_shl1 hx hb (by omega) dX2_set_65 ?_
            refine lv_goto (tgt := 70) hx hb dX2_set_66 (by decide) ?_
            refine z_or (a := setB (fun i => (if bb then brk t0 (me.1.getD i ([], [], false, 0)) else conc t0 (me.1.getD i ([], [], false, 0)))) i) (b := 2 ^ i) hx hb dX2_set_70 ?_
            rw [or_pow hsl, ← setB_t (p := (fun i => (if bb then brk t0 (me.1.getD i ([], [], false, 0)) else conc t0 (me.1.getD i ([], [], false, 0))))) (hpi.trans (hbz.resolve_right (by omega)).1)]
            refine lv_istore_n (lv' := [(3, iV (setB (fun i => (if bb then brk t0 (me.1.getD i ([], [], false, 0)) else conc t0 (me.1.getD i ([], [], false, 0)))) (i + 1) : Nat)), (6, iV (bZ (brk t0 (me.1.getD i ([], [], false, 0))))), (5, .ref (as.getD i 0)), (0, .ref a), (1, .ref b), (2, iV (bZ bb)), (4, iV (i : Nat))]) hx hb dX2_set_71 rfl hl (by decide) rfl (fun ls hl => ?_)
            refine lv_iinc (v := iZ ((i : Nat) + 1)) (lv' := [(4, iV ((i : Nat) + 1)), (3, iV (setB (fun i => (if bb then brk t0 (me.1.getD i ([], [], false, 0)) else conc t0 (me.1.getD i ([], [], false, 0)))) (i + 1) : Nat)), (6, iV (bZ (brk t0 (me.1.getD i ([], [], false, 0))))), (5, .ref (as.getD i 0)), (0, .ref a), (1, .ref b), (2, iV (bZ bb))]) hx hb dX2_set_72 hl (k := 6) rfl (iZ_add _ _) (by decide) rfl (fun ls hl => ?_)
            refine lv_goto (tgt := 5) hx hb dX2_set_75 (by decide) ?_
            exact ih_loop (i + 1) _ _ _ (by omega) (by omega) V (lv_sub hl [4, 5, 6, 1, 0] rfl)
  exact loop _ 0 _ _ _ (Nat.lt_succ_self _) (Nat.zero_le _) V (lv_sub hl [2, 3, 4, 1, 0] rfl)
set_option maxHeartbeats 4000000 in
theorem ct_St0_X14 (l : Launch) (G : gG) {F : fS} {Ha : Heap} (a : Nat) (x y : Int) (hp : Hp G F [(a, ob 16 [iV 0, iV 0, .null])] Ha) : CT l G yX13_init cX13_init 3 none 1 40 0 0 [.ref a, iV x, iV y] F [(a, ob 16 [iV 0, iV 0, .null])] Ha (fun rv F' w' => rv = none ∧ F = F' ∧ w' = [(a, ob 16 [iV x, iV y, .null])]) := by
  refine z_of hp (Or.inl (by decide)) (Nat.le_of_ble_eq_true rfl) ?_
  intro p e s m below meth c ls hx hb hr hml hts hown hlk hnm hk hsH V hl
  have hl : lv_has ls 3 [(0, .ref a), (1, iV x), (2, iV y)] := hl
  refine lv_aload_n hx hb dX13_init_0 rfl (lv_at hl 0 rfl) ?_
  refine W.objInit hx hb hown (hts _ q1643) (hts _ q138) (hts _ q139) rfl (by rw [hml]; exact hl.1) rfl dX13_init_1 (Nat.le_of_ble_eq_true rfl) (Nat.le_of_ble_eq_true rfl) ?_
  refine W.eq (g2 := F0 m 4 ls []) rfl ?_
  refine lv_aload_n hx hb dX13_init_4 rfl (lv_at hl 0 rfl) ?_
  refine lv_iload_n hx hb dX13_init_5 rfl (lv_at hl 1 rfl) ?_
  refine z_putF hx hb hts hk V hown K_X14 0 rfl 0 (by decide) q1645 (fun _ h => h) rfl hnm rfl rfl rfl (Nat.le_of_ble_eq_true rfl) dX13_init_6 (fun H locs V => ?_)
  have V : VV G _ _ F [(a, ob 16 [iV x, iV 0, .null])] _ _ _ := V
  refine lv_aload_n hx hb dX13_init_9 rfl (lv_at hl 0 rfl) ?_
  refine lv_iload_n hx hb dX13_init_10 rfl (lv_at hl 2 rfl) ?_
  refine z_putF hx hb hts hk V hown K_X14 0 rfl 1 (by decide) q1646 (fun _ h => h) rfl hnm rfl rfl rfl (Nat.le_of_ble_eq_true rfl) dX13_init_11 (fun H locs V => ?_)
  have V : VV G _ _ F [(a, ob 16 [iV x, iV y, .null])] _ _ _ := V
  exact z_vret hx hb hr hlk V dX13_init_14 ⟨rfl, rfl, rfl⟩ ⟨Nat.le_of_ble_eq_true rfl, Nat.le_of_ble_eq_true rfl⟩
set_option maxHeartbeats 4000000 in
theorem ct_St0_X16 (l : Launch) (G : gG) {F : fS} {Ha : Heap} (a : Nat) (x y : Int) (hp : Hp G F [(a, ob 17 [iV 0, iV 0])] Ha) : CT l G yX13_init cX13_init 3 none 1 40 0 0 [.ref a, iV x, iV y] F [(a, ob 17 [iV 0, iV 0])] Ha (fun rv F' w' => rv = none ∧ F = F' ∧ w' = [(a, ob 17 [iV x, iV y])]) := by
  refine z_of hp (Or.inl (by decide)) (Nat.le_of_ble_eq_true rfl) ?_
  intro p e s m below meth c ls hx hb hr hml hts hown hlk hnm hk hsH V hl
  have hl : lv_has ls 3 [(0, .ref a), (1, iV x), (2, iV y)] := hl
  refine lv_aload_n hx hb dX13_init_0 rfl (lv_at hl 0 rfl) ?_
  refine W.objInit hx hb hown (hts _ q1643) (hts _ q138) (hts _ q139) rfl (by rw [hml]; exact hl.1) rfl dX13_init_1 (Nat.le_of_ble_eq_true rfl) (Nat.le_of_ble_eq_true rfl) ?_
  refine W.eq (g2 := F0 m 4 ls []) rfl ?_
  refine lv_aload_n hx hb dX13_init_4 rfl (lv_at hl 0 rfl) ?_
  refine lv_iload_n hx hb dX13_init_5 rfl (lv_at hl 1 rfl) ?_
  refine z_putF hx hb hts hk V hown K_X16 0 rfl 0 (by decide) q1645 (fun _ h => h) rfl hnm rfl rfl rfl (Nat.le_of_ble_eq_true rfl) dX13_init_6 (fun H locs V => ?_)
  have V : VV G _ _ F [(a, ob 17 [iV x, iV 0])] _ _ _ := V
  refine lv_aload_n hx hb dX13_init_9 rfl (lv_at hl 0 rfl) ?_
  refine lv_iload_n hx hb dX13_init_10 rfl (lv_at hl 2 rfl) ?_
  refine z_putF hx hb hts hk V hown K_X16 0 rfl 1 (by decide) q1646 (fun _ h => h) rfl hnm rfl rfl rfl (Nat.le_of_ble_eq_true rfl) dX13_init_11 (fun H locs V => ?_)
  have V : VV G _ _ F [(a, ob 17 [iV x, iV y])] _ _ _ := V
  exact z_vret hx hb hr hlk V dX13_init_14 ⟨rfl, rfl, rfl⟩ ⟨Nat.le_of_ble_eq_true rfl, Nat.le_of_ble_eq_true rfl⟩
set_option maxHeartbeats 4000000 in
theorem ct_St0_X17 (l : Launch) (G : gG) {F : fS} {Ha : Heap} (a : Nat) (x y : Int) (hp : Hp G F [(a, ob 18 [iV 0, iV 0])] Ha) : CT l G yX13_init cX13_init 3 none 1 40 0 0 [.ref a, iV x, iV y] F [(a, ob 18 [iV 0, iV 0])] Ha (fun rv F' w' => rv = none ∧ F = F' ∧ w' = [(a, ob 18 [iV x, iV y])]) := by
  refine z_of hp (Or.inl (by decide)) (Nat.le_of_ble_eq_true rfl) ?_
  intro p e s m below meth c ls hx hb hr hml hts hown hlk hnm hk hsH V hl
  have hl : lv_has ls 3 [(0, .ref a), (1, iV x), (2, iV y)] := hl
  refine lv_aload_n hx hb dX13_init_0 rfl (lv_at hl 0 rfl) ?_
  refine W.objInit hx hb hown (hts _ q1643) (hts _ q138) (hts _ q139) rfl (by rw [hml]; exact hl.1) rfl dX13_init_1 (Nat.le_of_ble_eq_true rfl) (Nat.le_of_ble_eq_true rfl) ?_
  refine W.eq (g2 := F0 m 4 ls []) rfl ?_
  refine lv_aload_n hx hb dX13_init_4 rfl (lv_at hl 0 rfl) ?_
  refine lv_iload_n hx hb dX13_init_5 rfl (lv_at hl 1 rfl) ?_
  refine z_putF hx hb hts hk V hown K_X17 0 rfl 0 (by decide) q1645 (fun _ h => h) rfl hnm rfl rfl rfl (Nat.le_of_ble_eq_true rfl) dX13_init_6 (fun H locs V => ?_)
  have V : VV G _ _ F [(a, ob 18 [iV x, iV 0])] _ _ _ := V
  refine lv_aload_n hx hb dX13_init_9 rfl (lv_at hl 0 rfl) ?_
  refine lv_iload_n hx hb dX13_init_10 rfl (lv_at hl 2 rfl) ?_
  refine z_putF hx hb hts hk V hown K_X17 0 rfl 1 (by decide) q1646 (fun _ h => h) rfl hnm rfl rfl rfl (Nat.le_of_ble_eq_true rfl) dX13_init_11 (fun H locs V => ?_)
  have V : VV G _ _ F [(a, ob 18 [iV x, iV y])] _ _ _ := V
  exact z_vret hx hb hr hlk V dX13_init_14 ⟨rfl, rfl, rfl⟩ ⟨Nat.le_of_ble_eq_true rfl, Nat.le_of_ble_eq_true rfl⟩
set_option maxHeartbeats 4000000 in
theorem ct_St1_X16 (l : Launch) (G : gG) {F : fS} {Ha : Heap} (a : Nat) (x y : Int) (hp : Hp G F [(a, ob 17 [iV 0, iV 0])] Ha) : CT l G yX15_init cX15_init 3 none 2 62 0 0 [.ref a, iV x, iV y] F [(a, ob 17 [iV 0, iV 0])] Ha (fun rv F' w' => rv = none ∧ F = F' ∧ w' = [(a, ob 17 [iV x, iV y])]) := by
  refine z_of hp (Or.inl (by decide)) (Nat.le_of_ble_eq_true rfl) ?_
  intro p e s m below meth c ls hx hb hr hml hts hown hlk hnm hk hsH V hl
  have hl : lv_has ls 3 [(0, .ref a), (1, iV x), (2, iV y)] := hl
  refine lv_aload_n hx hb dX15_init_0 rfl (lv_at hl 0 rfl) ?_
  refine lv_iload_n hx hb dX15_init_1 rfl (lv_at hl 1 rfl) ?_
  refine lv_iload_n hx hb dX15_init_2 rfl (lv_at hl 2 rfl) ?_
  refine z_callI ⟨hx, hb, hml, hown, hts⟩ hk hl.1 V (wc := [(a, ob 17 [iV 0, iV 0])]) (wr := []) [0] [] rfl rfl rfl rfl (by decide) (As := [iV x, iV y]) (rest := []) (fun hp => ct_St0_X16 l G a x y hp) (cwI 2 hts (lw_meth q1642) rfl rfl rfl (hts _ q115) (hts _ q1664) (hts _ q1641) rfl (by decide +kernel) ⟨Nat.le_of_ble_eq_true rfl, Nat.le_of_ble_eq_true rfl⟩) rfl rfl (Nat.le_of_ble_eq_true rfl) dX15_init_3 ⟨Nat.le_of_ble_eq_true rfl, Nat.le_of_ble_eq_true rfl⟩ (fun v F1 w1 H locs hq hle hou V => ?_)
  obtain ⟨rfl, rfl, rfl⟩ := hq
  refine W.eq (g2 := F0 m 6 ls []) rfl ?_
  have V : VV G _ _ F [(a, ob 17 [iV x, iV y])] _ _ _ := V
  exact z_vret hx hb hr hlk V dX15_init_6 ⟨rfl, rfl, rfl⟩ ⟨Nat.le_of_ble_eq_true rfl, Nat.le_of_ble_eq_true rfl⟩
set_option maxHeartbeats 4000000 in
theorem ct_St_X16 (l : Launch) (G : gG) {F : fS} {Ha : Heap} (a : Nat) (x y : Int) (hp : Hp G F [(a, ob 17 [iV 0, iV 0])] Ha) : CT l G yX16_init cX16_init 3 none 3 84 0 0 [.ref a, iV x, iV y] F [(a, ob 17 [iV 0, iV 0])] Ha (fun rv F' w' => rv = none ∧ F = F' ∧ w' = [(a, ob 17 [iV x, iV y])]) := by
  refine z_of hp (Or.inl (by decide)) (Nat.le_of_ble_eq_true rfl) ?_
  intro p e s m below meth c ls hx hb hr hml hts hown hlk hnm hk hsH V hl
  have hl : lv_has ls 3 [(0, .ref a), (1, iV x), (2, iV y)] := hl
  refine lv_aload_n hx hb dX16_init_0 rfl (lv_at hl 0 rfl) ?_
  refine lv_iload_n hx hb dX16_init_1 rfl (lv_at hl 1 rfl) ?_
  refine lv_iload_n hx hb dX16_init_2 rfl (lv_at hl 2 rfl) ?_
  refine z_callI ⟨hx, hb, hml, hown, hts⟩ hk hl.1 V (wc := [(a, ob 17 [iV 0, iV 0])]) (wr := []) [0] [] rfl rfl rfl rfl (by decide) (As := [iV x, iV y]) (rest := []) (fun hp => ct_St1_X16 l G a x y hp) (cwI 2 hts (lw_meth q1663) rfl rfl rfl (hts _ q117) (hts _ q1661) (hts _ q1662) rfl (by decide +kernel) ⟨Nat.le_of_ble_eq_true rfl, Nat.le_of_ble_eq_true rfl⟩) rfl rfl (Nat.le_of_ble_eq_true rfl) dX16_init_3 ⟨Nat.le_of_ble_eq_true rfl, Nat.le_of_ble_eq_true rfl⟩ (fun v F1 w1 H locs hq hle hou V => ?_)
  obtain ⟨rfl, rfl, rfl⟩ := hq
  refine W.eq (g2 := F0 m 6 ls []) rfl ?_
  have V : VV G _ _ F [(a, ob 17 [iV x, iV y])] _ _ _ := V
  exact z_vret hx hb hr hlk V dX16_init_6 ⟨rfl, rfl, rfl⟩ ⟨Nat.le_of_ble_eq_true rfl, Nat.le_of_ble_eq_true rfl⟩
set_option maxHeartbeats 4000000 in
theorem ct_St1_X17 (l : Launch) (G : gG) {F : fS} {Ha : Heap} (a : Nat) (x y : Int) (hp : Hp G F [(a, ob 18 [iV 0, iV 0])] Ha) : CT l G yX15_init cX15_init 3 none 2 62 0 0 [.ref a, iV x, iV y] F [(a, ob 18 [iV 0, iV 0])] Ha (fun rv F' w' => rv = none ∧ F = F' ∧ w' = [(a, ob 18 [iV x, iV y])]) := by
  refine z_of hp (Or.inl (by decide)) (Nat.le_of_ble_eq_true rfl) ?_
  intro p e s m below meth c ls hx hb hr hml hts hown hlk hnm hk hsH V hl
  have hl : lv_has ls 3 [(0, .ref a), (1, iV x), (2, iV y)] := hl
  refine lv_aload_n hx hb dX15_init_0 rfl (lv_at hl 0 rfl) ?_
  refine lv_iload_n hx hb dX15_init_1 rfl (lv_at hl 1 rfl) ?_
  refine lv_iload_n hx hb dX15_init_2 rfl (lv_at hl 2 rfl) ?_
  refine z_callI ⟨hx, hb, hml, hown, hts⟩ hk hl.1 V (wc := [(a, ob 18 [iV 0, iV 0])]) (wr := []) [0] [] rfl rfl rfl rfl (by decide) (As := [iV x, iV y]) (rest := []) (fun hp => ct_St0_X17 l G a x y hp) (cwI 2 hts (lw_meth q1642) rfl rfl rfl (hts _ q115) (hts _ q1664) (hts _ q1641) rfl (by decide +kernel) ⟨Nat.le_of_ble_eq_true rfl, Nat.le_of_ble_eq_true rfl⟩) rfl rfl (Nat.le_of_ble_eq_true rfl) dX15_init_3 ⟨Nat.le_of_ble_eq_true rfl, Nat.le_of_ble_eq_true rfl⟩ (fun v F1 w1 H locs hq hle hou V => ?_)
  obtain ⟨rfl, rfl, rfl⟩ := hq
  refine W.eq (g2 := F0 m 6 ls []) rfl ?_
  have V : VV G _ _ F [(a, ob 18 [iV x, iV y])] _ _ _ := V
  exact z_vret hx hb hr hlk V dX15_init_6 ⟨rfl, rfl, rfl⟩ ⟨Nat.le_of_ble_eq_true rfl, Nat.le_of_ble_eq_true rfl⟩
set_option maxHeartbeats 4000000 in
theorem ct_St_X17 (l : Launch) (G : gG) {F : fS} {Ha : Heap} (a : Nat) (x y : Int) (hp : Hp G F [(a, ob 18 [iV 0, iV 0])] Ha) : CT l G yX17_init cX17_init 3 none 3 84 0 0 [.ref a, iV x, iV y] F [(a, ob 18 [iV 0, iV 0])] Ha (fun rv F' w' => rv = none ∧ F = F' ∧ w' = [(a, ob 18 [iV x, iV y])]) := by
  refine z_of hp (Or.inl (by decide)) (Nat.le_of_ble_eq_true rfl) ?_
  intro p e s m below meth c ls hx hb hr hml hts hown hlk hnm hk hsH V hl
  have hl : lv_has ls 3 [(0, .ref a), (1, iV x), (2, iV y)] := hl
  refine lv_aload_n hx hb dX17_init_0 rfl (lv_at hl 0 rfl) ?_
  refine lv_iload_n hx hb dX17_init_1 rfl (lv_at hl 1 rfl) ?_
  refine lv_iload_n hx hb dX17_init_2 rfl (lv_at hl 2 rfl) ?_
  refine z_callI ⟨hx, hb, hml, hown, hts⟩ hk hl.1 V (wc := [(a, ob 18 [iV 0, iV 0])]) (wr := []) [0] [] rfl rfl rfl rfl (by decide) (As := [iV x, iV y]) (rest := []) (fun hp => ct_St1_X17 l G a x y hp) (cwI 2 hts (lw_meth q1663) rfl rfl rfl (hts _ q117) (hts _ q1673) (hts _ q1662) rfl (by decide +kernel) ⟨Nat.le_of_ble_eq_true rfl, Nat.le_of_ble_eq_true rfl⟩) rfl rfl (Nat.le_of_ble_eq_true rfl) dX17_init_3 ⟨Nat.le_of_ble_eq_true rfl, Nat.le_of_ble_eq_true rfl⟩ (fun v F1 w1 H locs hq hle hou V => ?_)
  obtain ⟨rfl, rfl, rfl⟩ := hq
  refine W.eq (g2 := F0 m 6 ls []) rfl ?_
  have V : VV G _ _ F [(a, ob 18 [iV x, iV y])] _ _ _ := V
  exact z_vret hx hb hr hlk V dX17_init_6 ⟨rfl, rfl, rfl⟩ ⟨Nat.le_of_ble_eq_true rfl, Nat.le_of_ble_eq_true rfl⟩
set_option maxHeartbeats 4000000 in
theorem ct_St_X14 (l : Launch) (G : gG) {F : fS} {Ha : Heap} (a mv : Nat) (x y : Int) (hp : Hp G F [(a, ob 16 [iV 0, iV 0, .null])] Ha) : CT l G yX14_init cX14_init 4 none 2 62 0 0 [.ref a, iV x, iV y, .ref mv] F [(a, ob 16 [iV 0, iV 0, .null])] Ha (fun rv F' w' => rv = none ∧ F = F' ∧ w' = [(a, ob 16 [iV x, iV y, .ref mv])]) := by
  refine z_of hp (Or.inl (by decide)) (Nat.le_of_ble_eq_true rfl) ?_
  intro p e s m below meth c ls hx hb hr hml hts hown hlk hnm hk hsH V hl
  have hl : lv_has ls 4 [(0, .ref a), (1, iV x), (2, iV y), (3, .ref mv)] := hl
  refine lv_aload_n hx hb dX14_init_0 rfl (lv_at hl 0 rfl) ?_
  refine lv_iload_n hx hb dX14_init_1 rfl (lv_at hl 1 rfl) ?_
  refine lv_iload_n hx hb dX14_init_2 rfl (lv_at hl 2 rfl) ?_
  refine z_callI ⟨hx, hb, hml, hown, hts⟩ hk hl.1 V (wc := [(a, ob 16 [iV 0, iV 0, .null])]) (wr := []) [0] [] rfl rfl rfl rfl (by decide) (As := [iV x, iV y]) (rest := []) (fun hp => ct_St0_X14 l G a x y hp) (cwI 2 hts (lw_meth q1642) rfl rfl rfl (hts _ q115) (hts _ q1640) (hts _ q1641) rfl (by decide +kernel) ⟨Nat.le_of_ble_eq_true rfl, Nat.le_of_ble_eq_true rfl⟩) rfl rfl (Nat.le_of_ble_eq_true rfl) dX14_init_3 ⟨Nat.le_of_ble_eq_true rfl, Nat.le_of_ble_eq_true rfl⟩ (fun v F1 w1 H locs hq hle hou V => ?_)
  obtain ⟨rfl, rfl, rfl⟩ := hq
  refine W.eq (g2 := F0 m 6 ls []) rfl ?_
  have V : VV G _ _ F [(a, ob 16 [iV x, iV y, .null])] _ _ _ := V
  refine lv_aload_n hx hb dX14_init_6 rfl (lv_at hl 0 rfl) ?_
  refine lv_aload_n hx hb dX14_init_7 rfl (lv_at hl 3 rfl) ?_
  refine z_putF hx hb hts hk V hown K_X14 0 rfl 2 (by decide) q1644 (fun _ h => h) rfl hnm rfl rfl rfl (Nat.le_of_ble_eq_true rfl) dX14_init_8 (fun H locs V => ?_)
  have V : VV G _ _ F [(a, ob 16 [iV x, iV y, .ref mv])] _ _ _ := V
  exact z_vret hx hb hr hlk V dX14_init_11 ⟨rfl, rfl, rfl⟩ ⟨Nat.le_of_ble_eq_true rfl, Nat.le_of_ble_eq_true rfl⟩
set_option maxHeartbeats 4000000 in
theorem ct_nextFrom_X14 (l : Launch) (G : gG) {F : fS} {Ha : Heap} (a mv : Nat) (x y : Int) (h : F a = some (.inl (ob 16 [iV x, iV y, .ref mv]))) (hp : Hp G F [] Ha) : CT l G yX13_nextFrom cX13_nextFrom 1 (some .int) 1 12 0 0 [.ref a] F [] Ha (fun rv F' w' => rv = some (iV (x + 1)) ∧ F = F' ∧ w' = []) := by
  refine z_of hp (Or.inl (by decide)) (Nat.le_of_ble_eq_true rfl) ?_
  intro p e s m below meth c ls hx hb hr hml hts hown hlk hnm hk hsH V hl
  have hl : lv_has ls 1 [(0, .ref a)] := hl
  refine lv_aload_n hx hb dX13_nextFrom_0 rfl (lv_at hl 0 rfl) ?_
  refine z_get hx hb hts hk hown K_X14 (V.f h) 0 (by decide) q1645 (fun _ h => h) rfl dX13_nextFrom_1 ?_
  refine lv_iconst (v := iZ 1) hx hb dX13_nextFrom_4 rfl ?_
  refine z_iadd hx hb dX13_nextFrom_5 ?_
  exact z_iret hx hb hr hlk V rfl dX13_nextFrom_6 ⟨rfl, rfl, rfl⟩ ⟨Nat.le_of_ble_eq_true rfl, Nat.le_of_ble_eq_true rfl⟩
set_option maxHeartbeats 4000000 in
theorem ct_nextTo_X14 (l : Launch) (G : gG) {F : fS} {Ha : Heap} (a mv : Nat) (x y : Int) (h : F a = some (.inl (ob 16 [iV x, iV y, .ref mv]))) (hp : Hp G F [] Ha) : CT l G yX13_nextTo cX13_nextTo 1 (some .int) 1 12 0 0 [.ref a] F [] Ha (fun rv F' w' => rv = some (iV (y + 1)) ∧ F = F' ∧ w' = []) := by
  refine z_of hp (Or.inl (by decide)) (Nat.le_of_ble_eq_true rfl) ?_
  intro p e s m below meth c ls hx hb hr hml hts hown hlk hnm hk hsH V hl
  have hl : lv_has ls 1 [(0, .ref a)] := hl
  refine lv_aload_n hx hb dX13_nextTo_0 rfl (lv_at hl 0 rfl) ?_
  refine z_get hx hb hts hk hown K_X14 (V.f h) 1 (by decide) q1646 (fun _ h => h) rfl dX13_nextTo_1 ?_
  refine lv_iconst (v := iZ 1) hx hb dX13_nextTo_4 rfl ?_
  refine z_iadd hx hb dX13_nextTo_5 ?_
  exact z_iret hx hb hr hlk V rfl dX13_nextTo_6 ⟨rfl, rfl, rfl⟩ ⟨Nat.le_of_ble_eq_true rfl, Nat.le_of_ble_eq_true rfl⟩
set_option maxHeartbeats 4000000 in
theorem ct_nextFrom_X16 (l : Launch) (G : gG) {F : fS} {Ha : Heap} (a : Nat) (x y : Int) (h : F a = some (.inl (ob 17 [iV x, iV y]))) (hp : Hp G F [] Ha) : CT l G yX13_nextFrom cX13_nextFrom 1 (some .int) 1 12 0 0 [.ref a] F [] Ha (fun rv F' w' => rv = some (iV (x + 1)) ∧ F = F' ∧ w' = []) := by
  refine z_of hp (Or.inl (by decide)) (Nat.le_of_ble_eq_true rfl) ?_
  intro p e s m below meth c ls hx hb hr hml hts hown hlk hnm hk hsH V hl
  have hl : lv_has ls 1 [(0, .ref a)] := hl
  refine lv_aload_n hx hb dX13_nextFrom_0 rfl (lv_at hl 0 rfl) ?_
  refine z_get hx hb hts hk hown K_X16 (V.f h) 0 (by decide) q1645 (fun _ h => h) rfl dX13_nextFrom_1 ?_
  refine lv_iconst (v := iZ 1) hx hb dX13_nextFrom_4 rfl ?_
  refine z_iadd hx hb dX13_nextFrom_5 ?_
  exact z_iret hx hb hr hlk V rfl dX13_nextFrom_6 ⟨rfl, rfl, rfl⟩ ⟨Nat.le_of_ble_eq_true rfl, Nat.le_of_ble_eq_true rfl⟩
set_option maxHeartbeats 4000000 in
theorem ct_nextTo_X16 (l : Launch) (G : gG) {F : fS} {Ha : Heap} (a : Nat) (x y : Int) (h : F a = some (.inl (ob 17 [iV x, iV y]))) (hp : Hp G F [] Ha) : CT l G yX13_nextTo cX13_nextTo 1 (some .int) 1 12 0 0 [.ref a] F [] Ha (fun rv F' w' => rv = some (iV (y + 1)) ∧ F = F' ∧ w' = []) := by
  refine z_of hp (Or.inl (by decide)) (Nat.le_of_ble_eq_true rfl) ?_
  intro p e s m below meth c ls hx hb hr hml hts hown hlk hnm hk hsH V hl
  have hl : lv_has ls 1 [(0, .ref a)] := hl
  refine lv_aload_n hx hb dX13_nextTo_0 rfl (lv_at hl 0 rfl) ?_
  refine z_get hx hb hts hk hown K_X16 (V.f h) 1 (by decide) q1646 (fun _ h => h) rfl dX13_nextTo_1 ?_
  refine lv_iconst (v := iZ 1) hx hb dX13_nextTo_4 rfl ?_
  refine z_iadd hx hb dX13_nextTo_5 ?_
  exact z_iret hx hb hr hlk V rfl dX13_nextTo_6 ⟨rfl, rfl, rfl⟩ ⟨Nat.le_of_ble_eq_true rfl, Nat.le_of_ble_eq_true rfl⟩
set_option maxHeartbeats 4000000 in
theorem ct_nextFrom_X17 (l : Launch) (G : gG) {F : fS} {Ha : Heap} (a : Nat) (x y : Int) (h : F a = some (.inl (ob 18 [iV x, iV y]))) (hp : Hp G F [] Ha) : CT l G yX13_nextFrom cX13_nextFrom 1 (some .int) 1 12 0 0 [.ref a] F [] Ha (fun rv F' w' => rv = some (iV (x + 1)) ∧ F = F' ∧ w' = []) := by
  refine z_of hp (Or.inl (by decide)) (Nat.le_of_ble_eq_true rfl) ?_
  intro p e s m below meth c ls hx hb hr hml hts hown hlk hnm hk hsH V hl
  have hl : lv_has ls 1 [(0, .ref a)] := hl
  refine lv_aload_n hx hb dX13_nextFrom_0 rfl (lv_at hl 0 rfl) ?_
  refine z_get hx hb hts hk hown K_X17 (V.f h) 0 (by decide) q1645 (fun _ h => h) rfl dX13_nextFrom_1 ?_
  refine lv_iconst (v := iZ 1) hx hb dX13_nextFrom_4 rfl ?_
  refine z_iadd hx hb dX13_nextFrom_5 ?_
  exact z_iret hx hb hr hlk V rfl dX13_nextFrom_6 ⟨rfl, rfl, rfl⟩ ⟨Nat.le_of_ble_eq_true rfl, Nat.le_of_ble_eq_true rfl⟩
set_option maxHeartbeats 4000000 in
theorem ct_nextTo_X17 (l : Launch) (G : gG) {F : fS} {Ha : Heap} (a : Nat) (x y : Int) (h : F a = some (.inl (ob 18 [iV x, iV y]))) (hp : Hp G F [] Ha) : CT l G yX13_nextTo cX13_nextTo 1 (some .int) 1 12 0 0 [.ref a] F [] Ha (fun rv F' w' => rv = some (iV (y + 1)) ∧ F = F' ∧ w' = []) := by
  refine z_of hp (Or.inl (by decide)) (Nat.le_of_ble_eq_true rfl) ?_
  intro p e s m below meth c ls hx hb hr hml hts hown hlk hnm hk hsH V hl
  have hl : lv_has ls 1 [(0, .ref a)] := hl
  refine lv_aload_n hx hb dX13_nextTo_0 rfl (lv_at hl 0 rfl) ?_
  refine z_get hx hb hts hk hown K_X17 (V.f h) 1 (by decide) q1646 (fun _ h => h) rfl dX13_nextTo_1 ?_
  refine lv_iconst (v := iZ 1) hx hb dX13_nextTo_4 rfl ?_
  refine z_iadd hx hb dX13_nextTo_5 ?_
  exact z_iret hx hb hr hlk V rfl dX13_nextTo_6 ⟨rfl, rfl, rfl⟩ ⟨Nat.le_of_ble_eq_true rfl, Nat.le_of_ble_eq_true rfl⟩
set_option maxHeartbeats 4000000 in
theorem ct_move_X14 (l : Launch) (G : gG) {F : fS} {Ha : Heap} (a mv : Nat) (x y : Int) (h : F a = some (.inl (ob 16 [iV x, iV y, .ref mv]))) (hp : Hp G F [] Ha) : CT l G yX14_move cX14_move 1 (some (.object "TranslationMemory$Move")) 1 12 0 0 [.ref a] F [] Ha (fun rv F' w' => rv = some (.ref mv) ∧ F = F' ∧ w' = []) := by
  refine z_of hp (Or.inl (by decide)) (Nat.le_of_ble_eq_true rfl) ?_
  intro p e s m below meth c ls hx hb hr hml hts hown hlk hnm hk hsH V hl
  have hl : lv_has ls 1 [(0, .ref a)] := hl
  refine lv_aload_n hx hb dX14_move_0 rfl (lv_at hl 0 rfl) ?_
  refine z_get hx hb hts hk hown K_X14 (V.f h) 2 (by decide) q1644 (fun _ h => h) rfl dX14_move_1 ?_
  exact z_aret hx hb hr hlk V (Or.inl ⟨_, rfl⟩) (Or.inr ⟨_, rfl⟩) dX14_move_4 ⟨rfl, rfl, rfl⟩ ⟨Nat.le_of_ble_eq_true rfl, Nat.le_of_ble_eq_true rfl⟩
set_option maxHeartbeats 4000000 in
theorem ct_move_X16 (l : Launch) (G : gG) {F : fS} {Ha : Heap} (a : Nat) (hp : Hp G F [] Ha) : CT l G yX16_move cX16_move 1 (some (.object "TranslationMemory$Move")) 1 12 0 0 [.ref a] F [] Ha (fun rv F' w' => rv = some (.ref (G.2.2 11)) ∧ F = F' ∧ w' = []) := by
  refine z_of hp (Or.inl (by decide)) (Nat.le_of_ble_eq_true rfl) ?_
  intro p e s m below meth c ls hx hb hr hml hts hown hlk hnm hk hsH V hl
  have hl : lv_has ls 1 [(0, .ref a)] := hl
  refine z_gets hx hb hts V (hk.Zs 7 rfl) hown q1701 (fun _ h => h) dX16_move_0 ?_
  exact z_aret hx hb hr hlk V (Or.inl ⟨_, rfl⟩) (Or.inr ⟨_, rfl⟩) dX16_move_3 ⟨rfl, rfl, rfl⟩ ⟨Nat.le_of_ble_eq_true rfl, Nat.le_of_ble_eq_true rfl⟩
set_option maxHeartbeats 4000000 in
theorem ct_move_X17 (l : Launch) (G : gG) {F : fS} {Ha : Heap} (a : Nat) (hp : Hp G F [] Ha) : CT l G yX17_move cX17_move 1 (some (.object "TranslationMemory$Move")) 1 12 0 0 [.ref a] F [] Ha (fun rv F' w' => rv = some (.ref (G.2.2 10)) ∧ F = F' ∧ w' = []) := by
  refine z_of hp (Or.inl (by decide)) (Nat.le_of_ble_eq_true rfl) ?_
  intro p e s m below meth c ls hx hb hr hml hts hown hlk hnm hk hsH V hl
  have hl : lv_has ls 1 [(0, .ref a)] := hl
  refine z_gets hx hb hts V (hk.Zs 6 rfl) hown q1697 (fun _ h => h) dX17_move_0 ?_
  exact z_aret hx hb hr hlk V (Or.inl ⟨_, rfl⟩) (Or.inr ⟨_, rfl⟩) dX17_move_3 ⟨rfl, rfl, rfl⟩ ⟨Nat.le_of_ble_eq_true rfl, Nat.le_of_ble_eq_true rfl⟩
