/-! Memories: what is read, 2 (printed by gen/x32.py) -/
set_option maxRecDepth 100000
/-- how many bits -/
def popF : Nat → Nat → Nat
  | 0, _ => 0
  | k + 1, n => if n = 0 then 0 else 1 + popF k (n &&& (n - 1))
def pop (n : Nat) : Nat := popF 4096 n
theorem and_pred_lt {n : Nat} (h : n ≠ 0) : n &&& (n - 1) < n := Nat.lt_of_le_of_lt Nat.and_le_right (by omega)
theorem popF_le : ∀ (k j n : Nat), n < k → n < j → popF k n = popF j n := by
  intro k
  induction k with
  | zero => intro j n h; omega
  | succ k ih =>
    intro j n h1 h2
    cases j with
    | zero => omega
    | succ j =>
      unfold popF
      by_cases h : n = 0
      · rw [if_pos h, if_pos h]
      · have := and_pred_lt h
        rw [if_neg h, if_neg h, ih j _ (by omega) (by omega)]
theorem pop_s {n : Nat} (h : n ≠ 0) (h2 : n < 4096) : pop n = 1 + pop (n &&& (n - 1)) := by
  have := and_pred_lt h
  have e : pop n = (if n = 0 then 0 else 1 + popF 4095 (n &&& (n - 1))) := rfl
  rw [e, if_neg h, popF_le 4095 4096 _ (by omega) (by omega)]
  rfl
theorem setB_f {p : Nat → Bool} {i : Nat} (h : p i = false) : setB p (i + 1) = setB p i := by
  show setB p i + (if p i then 2 ^ i else 0) = _
  rw [h]
  rfl
theorem setB_t {p : Nat → Bool} {i : Nat} (h : p i = true) : setB p (i + 1) = setB p i + 2 ^ i := by
  show setB p i + (if p i then 2 ^ i else 0) = _
  rw [h]
  rfl
theorem pop_0 : pop 0 = 0 := rfl
theorem pop_le {n : Nat} (h2 : n < 4096) : pop n ≤ n := by
  unfold pop
  have key : ∀ k n, popF k n ≤ n := by
    intro k
    induction k with
    | zero => intro n; exact Nat.zero_le _
    | succ k ih =>
      intro n
      unfold popF
      by_cases h : n = 0
      · rw [if_pos h]; exact Nat.zero_le _
      · rw [if_neg h]
        have := and_pred_lt h
        have := ih (n &&& (n - 1))
        omega
  exact key _ _
set_option maxHeartbeats 4000000 in
theorem ct_M_broken (l : Launch) (G : gG) {F : fS} {Ha : Heap} (a : Nat) (me : Me) (h : MEF G F a me) (b : Nat) (p0 : Pr) (h2 : PRF G F b p0) (hp : Hp G F [] Ha) : CT l G yX2_broken cX2_broken 4 (some .int) 9 183 0 0 [.ref a, .ref b] F [] Ha (fun rv F' w' => rv = some (iV (brkS me.2.1 p0 : Nat)) ∧ F = F' ∧ w' = []) := by
  refine z_of hp (Or.inl (by decide)) (Nat.le_of_ble_eq_true rfl) ?_
  intro p e s m below meth c ls hx hb hr hml hts hown hlk hnm hk hsH V hl
  have hl : lv_has ls 4 [(0, .ref a), (1, .ref b)] := hl
  obtain ⟨lp, lt, cs, ps, js, as, ts, m1, m2, m3, m4, m5, m6, m7, m8, m9, m10, m11, m12, m13⟩ := h
  have lP := m2.len
  have lT := m5.len
  refine lv_iconst (v := iZ 0) hx hb dX2_broken_0 rfl ?_
  refine lv_istore_n (lv' := [(2, iV 0), (0, .ref a), (1, .ref b)]) hx hb dX2_broken_1 rfl hl (by decide) rfl (fun ls hl => ?_)
  refine lv_iconst (v := iZ 0) hx hb dX2_broken_2 rfl ?_
  refine lv_istore_n (lv' := [(3, iV 0), (2, iV 0), (0, .ref a), (1, .ref b)]) hx hb dX2_broken_3 rfl hl (by decide) rfl (fun ls hl => ?_)
  have loop : ∀ (n : Nat) (i : Nat) (H : Heap) (locs : List Loc) (ls : Array Slot), me.2.1.length - i < n → (i ≤ me.2.1.length) → VV G (FR F [] Ha) F F [] Ha H locs → lv_has ls 4 [(0, .ref a), (1, .ref b), (2, iV (setB (fun i => brk (me.2.1.getD i ([], [])) p0) i : Nat)), (3, iV (i : Nat))] → W p l e ({ frames := 9, cells := 0, slots := 0, locals := 183 } : Room) s m [.ref a, .ref b].toArray below meth c H locs 0 0 (MQ below (Qz G F [] Ha (fun rv F' w' => rv = some (iV (brkS me.2.1 p0 : Nat)) ∧ F = F' ∧ w' = [])) [.ref a, .ref b].toArray s 0 0 (FR F [] Ha)) (F0 m 4 ls []) := by
    intro n
    induction n with
    | zero => intro i H locs ls hm9; exact absurd hm9 (Nat.not_lt_zero _)
    | succ n ih_loop =>
      intro i H locs ls hm9 hi V hl
      refine lv_iload_n hx hb dX2_broken_4 rfl (lv_at hl 3 rfl) ?_
      refine lv_aload_n hx hb dX2_broken_5 rfl (lv_at hl 0 rfl) ?_
      refine z_get hx hb hts hk hown K_X2 (V.f m1) 1 (by decide) q177 (fun _ h => h) rfl dX2_broken_6 ?_
      refine z_callF (z_at hk 0 rfl) ⟨hx, hb, hml, hown, hts⟩ hk hl.1 V (wc := []) (wr := []) [] [] rfl rfl rfl rfl (by decide) (As := []) (rest := [iV (i : Nat)]) (fun hp => ct_AL_size l G lt ts m5 hp) (va_cwF 0 hts (lw_app (lw_in4 q1134 q550 q552 q77) (lw_meth q554)) rfl rfl rfl (hk.I 3 rfl) (by decide +kernel) ⟨Nat.le_of_ble_eq_true rfl, Nat.le_of_ble_eq_true rfl⟩) (z_rc hk (Classical.choose_spec (m5.at V)) (q := (RJ2, TJ2, 3)) rfl) rfl rfl (Nat.le_of_ble_eq_true rfl) dX2_broken_9 ⟨Nat.le_of_ble_eq_true rfl, Nat.le_of_ble_eq_true rfl⟩ (fun v F1 w1 H locs hq hle hou V => ?_)
      obtain ⟨rfl, rfl, rfl⟩ := hq
      refine W.eq (g2 := F0 m 14 ls [iV (ts.length : Nat), iV (i : Nat)]) rfl ?_
      have V : VV G _ _ F [] _ _ _ := V
      have hsl := setB_lt (fun i => brk (me.2.1.getD i ([], [])) p0) i
      refine z_icmp_ge (tgt := 53) hx hb (by omega) dX2_broken_14 (by decide) (fun c14 => ?_) (fun c14 => ?_)
      · skip
        refine lv_iload_n hx hb dX2_broken_53 rfl (lv_at hl 2 rfl) ?_
        exact z_iret hx hb hr hlk V rfl dX2_broken_54 ⟨by unfold brkS; rw [show i = me.2.1.length by omega], rfl, rfl⟩ ⟨Nat.le_of_ble_eq_true rfl, Nat.le_of_ble_eq_true rfl⟩
      · skip
        have hti := m7 i (by omega)
        refine lv_iload_n hx hb dX2_broken_17 rfl (lv_at hl 2 rfl) ?_
        refine lv_aload_n hx hb dX2_broken_18 rfl (lv_at hl 0 rfl) ?_
        refine z_get hx hb hts hk hown K_X2 (V.f m1) 1 (by decide) q177 (fun _ h => h) rfl dX2_broken_19 ?_
        refine lv_iload_n hx hb dX2_broken_22 rfl (lv_at hl 3 rfl) ?_
        refine z_callF (z_at hk 0 rfl) ⟨hx, hb, hml, hown, hts⟩ hk hl.1 V (wc := []) (wr := []) [] [] rfl rfl rfl rfl (by decide) (As := [iV (i : Nat)]) (rest := [iV (setB (fun i => brk (me.2.1.getD i ([], [])) p0) i : Nat)]) (fun hp => ct_AL_get l G lt ts m5 i (by omega) hp) (va_cwF 1 hts (lw_app (lw_in4 q1140 q1143 q1145 q77) (lw_meth q1147)) rfl rfl rfl (hk.I 5 rfl) (by decide +kernel) ⟨Nat.le_of_ble_eq_true rfl, Nat.le_of_ble_eq_true rfl⟩) (z_rc hk (Classical.choose_spec (m5.at V)) (q := (RJ2, TJ2, 3)) rfl) rfl rfl (Nat.le_of_ble_eq_true rfl) dX2_broken_23 ⟨Nat.le_of_ble_eq_true rfl, Nat.le_of_ble_eq_true rfl⟩ (fun v F1 w1 H locs hq hle hou V => ?_)
        obtain ⟨rfl, rfl, rfl⟩ := hq
        refine W.eq (g2 := F0 m 28 ls [.ref (ts.getD i 0), iV (setB (fun i => brk (me.2.1.getD i ([], [])) p0) i : Nat)]) rfl ?_
        have V : VV G _ _ F [] _ _ _ := V
        refine z_castE hx hb hts hown q544 (z_rc hk (Classical.choose_spec (hti.at V)) (q := (RX10, TX10, 2)) rfl) dX2_broken_28 ?_
        refine lv_aload_n hx hb dX2_broken_31 rfl (lv_at hl 1 rfl) ?_
        refine z_callV ⟨hx, hb, hml, hown, hts⟩ hk hl.1 V (wc := []) (wr := []) [] [] rfl rfl rfl rfl (by decide) (As := [.ref b]) (rest := [iV (setB (fun i => brk (me.2.1.getD i ([], [])) p0) i : Nat)]) (fun hp => ct_T_isBrokenBy l G (ts.getD i 0) b (me.2.1.getD i ([], [])) p0 hti h2 hp) (cwV 1 hts (lw_V q1156 q1157 q1158 q111 q1159) rfl rfl rfl (by decide +kernel) ⟨Nat.le_of_ble_eq_true rfl, Nat.le_of_ble_eq_true rfl⟩) (z_rc hk (Classical.choose_spec (hti.at V)) (q := (RX10, TX10, 2)) rfl) rfl rfl (Nat.le_of_ble_eq_true rfl) dX2_broken_32 ⟨Nat.le_of_ble_eq_true rfl, Nat.le_of_ble_eq_true rfl⟩ (fun v F1 w1 H locs hq hle hou V => ?_)
        obtain ⟨rfl, rfl, rfl⟩ := hq
        refine W.eq (g2 := F0 m 35 ls [iV (bZ (brk (me.2.1.getD i ([], [])) p0)), iV (setB (fun i => brk (me.2.1.getD i ([], [])) p0) i : Nat)]) rfl ?_
        have V : VV G _ _ F [] _ _ _ := V
        have hbz := bZ_cases (brk (me.2.1.getD i ([], [])) p0)
        refine z_if_eq (tgt := 44) hx hb (by omega) dX2_broken_35 (by decide) (fun c35 => ?_) (fun c35 => ?_)
        · skip
          refine lv_iconst (v := iZ 0) hx hb dX2_broken_44 rfl ?_
          refine z_or (a := setB (fun i => brk (me.2.1.getD i ([], [])) p0) i) (b := 0) hx hb dX2_broken_45 ?_
          rw [Nat.or_zero]
          have hs1 : setB (fun i => brk (me.2.1.getD i ([], [])) p0) i = setB (fun i => brk (me.2.1.getD i ([], [])) p0) (i + 1) := (setB_f (hbz.resolve_left (by omega)).1).symm
          refine lv_istore_n (lv' := [(2, iV (setB (fun i => brk (me.2.1.getD i ([], [])) p0) i : Nat)), (0, .ref a), (1, .ref b), (3, iV (i : Nat))]) hx hb dX2_broken_46 rfl hl (by decide) rfl (fun ls hl => ?_)
          refine lv_iinc (v := iZ ((i : Nat) + 1)) (lv' := [(3, iV ((i : Nat) + 1)), (2, iV (setB (fun i => brk (me.2.1.getD i ([], [])) p0) i : Nat)), (0, .ref a), (1, .ref b)]) hx hb dX2_broken_47 hl (k := 3) rfl (iZ_add _ _) (by decide) rfl (fun ls hl => ?_)
          rw [hs1] at hl
          refine lv_goto (tgt := 4) hx hb dX2_broken_50 (by decide) ?_
          exact ih_loop (i + 1) _ _ _ (by omega) (by omega) V (lv_sub hl [2, 3, 1, 0] rfl)
        · skip
          refine lv_iconst (v := iZ 1) hx hb dX2_broken_38 rfl ?_
          refine lv_iload_n hx hb dX2_broken_39 rfl (lv_at hl 3 rfl) ?_
          refine z_shl1 hx hb (by omega) dX2_broken_40 ?_
          refine lv_goto (tgt := 45) hx hb dX2_broken_41 (by decide) ?_
          refine z_or (a := setB (fun i => brk (me.2.1.getD i ([], [])) p0) i) (b := 2 ^ i) hx hb dX2_broken_45 ?_
          have hs1 : setB (fun i => brk (me.2.1.getD i ([], [])) p0) i ||| 2 ^ i = setB (fun i => brk (me.2.1.getD i ([], [])) p0) (i + 1) := by rw [or_pow hsl, setB_t (p := fun i => brk (me.2.1.getD i ([], [])) p0) (hbz.resolve_right (by omega)).1]
          rw [hs1]
          refine lv_istore_n (lv' := [(2, iV (setB (fun i => brk (me.2.1.getD i ([], [])) p0) (i + 1) : Nat)), (0, .ref a), (1, .ref b), (3, iV (i : Nat))]) hx hb dX2_broken_46 rfl hl (by decide) rfl (fun ls hl => ?_)
          refine lv_iinc (v := iZ ((i : Nat) + 1)) (lv' := [(3, iV ((i : Nat) + 1)), (2, iV (setB (fun i => brk (me.2.1.getD i ([], [])) p0) (i + 1) : Nat)), (0, .ref a), (1, .ref b)]) hx hb dX2_broken_47 hl (k := 3) rfl (iZ_add _ _) (by decide) rfl (fun ls hl => ?_)
          refine lv_goto (tgt := 4) hx hb dX2_broken_50 (by decide) ?_
          exact ih_loop (i + 1) _ _ _ (by omega) (by omega) V (lv_sub hl [2, 3, 1, 0] rfl)
  exact loop _ 0 _ _ _ (Nat.lt_succ_self _) (Nat.zero_le _) V (lv_sub hl [2, 3, 1, 0] rfl)
set_option maxHeartbeats 4000000 in
theorem ct_M_ones (l : Launch) (G : gG) {F : fS} {Ha : Heap} (n0 : Nat) (h9 : n0 < 4096) (hp : Hp G F [] Ha) : CT l G yX2_ones cX2_ones 3 (some .int) 1 12 0 0 [iV (n0 : Nat)] F [] Ha (fun rv F' w' => rv = some (iV (pop n0 : Nat)) ∧ F = F' ∧ w' = []) := by
  refine z_of hp (Or.inl (by decide)) (Nat.le_of_ble_eq_true rfl) ?_
  intro p e s m below meth c ls hx hb hr hml hts hown hlk hnm hk hsH V hl
  have hl : lv_has ls 3 [(0, iV (n0 : Nat))] := hl
  refine lv_iconst (v := iZ 0) hx hb dX2_ones_0 rfl ?_
  refine lv_istore_n (lv' := [(1, iV 0), (0, iV (n0 : Nat))]) hx hb dX2_ones_1 rfl hl (by decide) rfl (fun ls hl => ?_)
  refine lv_iload_n hx hb dX2_ones_2 rfl (lv_at hl 1 rfl) ?_
  refine lv_istore_n (lv' := [(2, iV (n0 : Nat)), (1, iV 0), (0, iV (n0 : Nat))]) hx hb dX2_ones_3 rfl hl (by decide) rfl (fun ls hl => ?_)
  have loop : ∀ (n : Nat) (q : Nat) (c9 : Nat) (H : Heap) (locs : List Loc) (ls : Array Slot), q < n → (q ≤ n0) → (c9 + pop q = pop n0) → VV G (FR F [] Ha) F F [] Ha H locs → lv_has ls 3 [(0, iV (n0 : Nat)), (1, iV (c9 : Nat)), (2, iV (q : Nat))] → W p l e ({ frames := 1, cells := 0, slots := 0, locals := 12 } : Room) s m [iV (n0 : Nat)].toArray below meth c H locs 0 0 (MQ below (Qz G F [] Ha (fun rv F' w' => rv = some (iV (pop n0 : Nat)) ∧ F = F' ∧ w' = [])) [iV (n0 : Nat)].toArray s 0 0 (FR F [] Ha)) (F0 m 4 ls []) := by
    intro n
    induction n with
    | zero => intro q c9 H locs ls hm9; exact absurd hm9 (Nat.not_lt_zero _)
    | succ n ih_loop =>
      intro q c9 H locs ls hm9 hn hc V hl
      have hp1 := pop_le h9
      refine lv_iload_n hx hb dX2_ones_4 rfl (lv_at hl 2 rfl) ?_
      refine z_if_eq (tgt := 20) hx hb (by omega) dX2_ones_5 (by decide) (fun c5 => ?_) (fun c5 => ?_)
      · skip
        refine lv_iload_n hx hb dX2_ones_20 rfl (lv_at hl 1 rfl) ?_
        have e0 : q = 0 := by omega
        rw [e0, pop_0, Nat.add_zero] at hc
        exact z_iret hx hb hr hlk V rfl dX2_ones_21 ⟨by rw [hc], rfl, rfl⟩ ⟨Nat.le_of_ble_eq_true rfl, Nat.le_of_ble_eq_true rfl⟩
      · skip
        have hlt := and_pred_lt (show q ≠ 0 by omega)
        have hps := pop_s (show q ≠ 0 by omega) (by omega)
        refine lv_iinc (v := iZ ((c9 : Nat) + 1)) (lv' := [(1, iV ((c9 : Nat) + 1)), (0, iV (n0 : Nat)), (2, iV (q : Nat))]) hx hb dX2_ones_8 hl (k := 1) rfl (iZ_add _ _) (by decide) rfl (fun ls hl => ?_)
        refine lv_iload_n hx hb dX2_ones_11 rfl (lv_at hl 2 rfl) ?_
        refine lv_iload_n hx hb dX2_ones_12 rfl (lv_at hl 2 rfl) ?_
        refine lv_iconst (v := iZ 1) hx hb dX2_ones_13 rfl ?_
        refine z_isub hx hb dX2_ones_14 ?_
        have e1 : ((q : Nat) : Int) - 1 = ((q - 1 : Nat) : Int) := by omega
        rw [e1]
        refine z_and (a := q) (b := q - 1) hx hb dX2_ones_15 ?_
        refine lv_istore_n (lv' := [(2, iV (q &&& (q - 1) : Nat)), (1, iV ((c9 : Nat) + 1)), (0, iV (n0 : Nat))]) hx hb dX2_ones_16 rfl hl (by decide) rfl (fun ls hl => ?_)
        refine lv_goto (tgt := 4) hx hb dX2_ones_17 (by decide) ?_
        exact ih_loop (q &&& (q - 1)) (c9 + 1) _ _ _ (by omega) (by omega) (by omega) V (lv_sub hl [2, 1, 0] rfl)
  exact loop _ n0 0 _ _ _ (Nat.lt_succ_self _) (Nat.le_refl _) (Nat.zero_add _) V (lv_sub hl [2, 1, 0] rfl)
set_option maxHeartbeats 4000000 in
theorem ct_M_worst (l : Launch) (G : gG) {F : fS} {Ha : Heap} (a : Nat) (me : Me) (h : MEF G F a me) (b d : Nat) (s1 s2 : List (List Nat)) (h1 : SNF G F b s1) (h2 : SNF G F d s2) (hp : Hp G F [] Ha) : CT l G yX2_worst cX2_worst 3 (some .int) 3 52 0 0 [.ref a, .ref b, .ref d] F [] Ha (fun rv F' w' => rv = some (iV (me.2.2.1 1 * (s1.length : Nat) + me.2.2.1 0 * (s2.length : Nat))) ∧ F = F' ∧ w' = []) := by
  refine z_of hp (Or.inl (by decide)) (Nat.le_of_ble_eq_true rfl) ?_
  intro p e s m below meth c ls hx hb hr hml hts hown hlk hnm hk hsH V hl
  have hl : lv_has ls 3 [(0, .ref a), (1, .ref b), (2, .ref d)] := hl
  obtain ⟨lp, lt, cs, ps, js, as, ts, m1, m2, m3, m4, m5, m6, m7, m8, m9, m10, m11, m12, m13⟩ := h
  have lP := m2.len
  have lT := m5.len
  have c0 := m11 0 (by omega)
  have c1 := m11 1 (by omega)
  have l1 := h1.len
  have l2 := h2.len
  refine lv_aload_n hx hb dX2_worst_0 rfl (lv_at hl 0 rfl) ?_
  refine z_get hx hb hts hk hown K_X2 (V.f m1) 2 (by decide) q179 (fun _ h => h) rfl dX2_worst_1 ?_
  refine lv_iconst (v := iZ 1) hx hb dX2_worst_4 rfl ?_
  refine z_iald hx hb hk (V.f m8) 1 (by omega) dX2_worst_5 ?_
  rw [show me.2.2.1 1 = me.2.2.1 1 from rfl]
  refine lv_aload_n hx hb dX2_worst_6 rfl (lv_at hl 1 rfl) ?_
  refine z_callF (z_at hk 13 rfl) ⟨hx, hb, hml, hown, hts⟩ hk hl.1 V (wc := []) (wr := []) [] [] rfl rfl rfl rfl (by decide) (As := []) (rest := [iV (me.2.2.1 1)]) (fun hp => ct_SN_count l G b s1 h1 hp) (va_cwF 0 hts (lw_app (lw_in4 q1613 q1182 q1068 q104) (lw_meth q1070)) rfl rfl rfl (hk.I 12 rfl) (by decide +kernel) ⟨Nat.le_of_ble_eq_true rfl, Nat.le_of_ble_eq_true rfl⟩) (z_rc hk (Classical.choose_spec (h1.at V)) (q := (RX6, TX6, 2)) rfl) rfl rfl (Nat.le_of_ble_eq_true rfl) dX2_worst_7 ⟨Nat.le_of_ble_eq_true rfl, Nat.le_of_ble_eq_true rfl⟩ (fun v F1 w1 H locs hq hle hou V => ?_)
  obtain ⟨rfl, rfl, rfl⟩ := hq
  refine W.eq (g2 := F0 m 12 ls [iV (s1.length : Nat), iV (me.2.2.1 1)]) rfl ?_
  have V : VV G _ _ F [] _ _ _ := V
  refine z_imul hx hb dX2_worst_12 ?_
  refine lv_aload_n hx hb dX2_worst_13 rfl (lv_at hl 0 rfl) ?_
  refine z_get hx hb hts hk hown K_X2 (V.f m1) 2 (by decide) q179 (fun _ h => h) rfl dX2_worst_14 ?_
  refine lv_iconst (v := iZ 0) hx hb dX2_worst_17 rfl ?_
  refine z_iald hx hb hk (V.f m8) 0 (by omega) dX2_worst_18 ?_
  rw [show me.2.2.1 0 = me.2.2.1 0 from rfl]
  refine lv_aload_n hx hb dX2_worst_19 rfl (lv_at hl 2 rfl) ?_
  refine z_callF (z_at hk 13 rfl) ⟨hx, hb, hml, hown, hts⟩ hk hl.1 V (wc := []) (wr := []) [] [] rfl rfl rfl rfl (by decide) (As := []) (rest := [iV (me.2.2.1 0), iV ((me.2.2.1 1) * (s1.length : Nat))]) (fun hp => ct_SN_count l G d s2 h2 hp) (va_cwF 0 hts (lw_app (lw_in4 q1613 q1182 q1068 q104) (lw_meth q1070)) rfl rfl rfl (hk.I 12 rfl) (by decide +kernel) ⟨Nat.le_of_ble_eq_true rfl, Nat.le_of_ble_eq_true rfl⟩) (z_rc hk (Classical.choose_spec (h2.at V)) (q := (RX6, TX6, 2)) rfl) rfl rfl (Nat.le_of_ble_eq_true rfl) dX2_worst_20 ⟨Nat.le_of_ble_eq_true rfl, Nat.le_of_ble_eq_true rfl⟩ (fun v F1 w1 H locs hq hle hou V => ?_)
  obtain ⟨rfl, rfl, rfl⟩ := hq
  refine W.eq (g2 := F0 m 25 ls [iV (s2.length : Nat), iV (me.2.2.1 0), iV ((me.2.2.1 1) * (s1.length : Nat))]) rfl ?_
  have V : VV G _ _ F [] _ _ _ := V
  refine z_imul hx hb dX2_worst_25 ?_
  refine z_iadd hx hb dX2_worst_26 ?_
  exact z_iret hx hb hr hlk V rfl dX2_worst_27 ⟨rfl, rfl, rfl⟩ ⟨Nat.le_of_ble_eq_true rfl, Nat.le_of_ble_eq_true rfl⟩
def worstZ (me : Me) (s1 s2 : List (List Nat)) : Int := me.2.2.1 1 * (s1.length : Nat) + me.2.2.1 0 * (s2.length : Nat)
def scoreZ (me : Me) (p0 : Pr) (q : List (List Nat)) (d : Int) : Int := max 0 (100 - (100 * d).tdiv (worstZ me p0.1 q) - (if p0.2.2.1 then me.2.2.2.1 0 else 0) - me.2.2.2.1 1 * (pop (brkS me.2.1 p0) : Nat))
theorem brkS_lt (ts : List Tm) (p : Pr) (h : ts.length ≤ 10) : brkS ts p < 4096 := by
  have := setB_lt (fun i => brk (ts.getD i ([], [])) p) ts.length
  have h2 : 2 ^ ts.length ≤ 2 ^ 10 := Nat.pow_le_pow_right (by decide) h
  unfold brkS
  omega
theorem mul_B {c n : Int} (h : 1 ≤ c ∧ c ≤ 9) (h2 : 0 ≤ n ∧ n ≤ 10) : n ≤ c * n ∧ c * n ≤ 90 := by
  rcases (by omega : c = 1 ∨ c = 2 ∨ c = 3 ∨ c = 4 ∨ c = 5 ∨ c = 6 ∨ c = 7 ∨ c = 8 ∨ c = 9) with rfl | rfl | rfl | rfl | rfl | rfl | rfl | rfl | rfl <;> omega
theorem worst_B {me : Me} {s1 s2 : List (List Nat)} (h0 : 1 ≤ me.2.2.1 0 ∧ me.2.2.1 0 ≤ 9) (h1 : 1 ≤ me.2.2.1 1 ∧ me.2.2.1 1 ≤ 9) (l1 : s1.length ≤ 10) (l2 : s2.length ≤ 10) : (s1.length : Int) + (s2.length : Int) ≤ worstZ me s1 s2 ∧ worstZ me s1 s2 ≤ 180 := by
  have a := mul_B h1 (n := (s1.length : Int)) (by omega)
  have b := mul_B h0 (n := (s2.length : Int)) (by omega)
  unfold worstZ
  omega
theorem pen_B {g : Int} {n : Nat} (h : 0 ≤ g ∧ g ≤ 50) (hn : n < 4096) : 0 ≤ g * (n : Int) ∧ g * (n : Int) ≤ 204800 := by
  have a : 0 ≤ g * (n : Int) := Int.mul_nonneg h.1 (by omega)
  have b : g * (n : Int) ≤ 50 * (n : Int) := Int.mul_le_mul_of_nonneg_right h.2 (by omega)
  omega
theorem tdiv_B {x y : Int} (h : 0 ≤ x) (hy : 1 ≤ y) : 0 ≤ x.tdiv y ∧ x.tdiv y ≤ x := ⟨Int.tdiv_nonneg h (by omega), Int.tdiv_le_self y h⟩

set_option maxHeartbeats 4000000 in
theorem ct_M_scoreBy (l : Launch) (G : gG) {F : fS} {Ha : Heap} (a : Nat) (me : Me) (h : MEF G F a me) (b e0 : Nat) (p0 : Pr) (q : List (List Nat)) (d : Int) (h2 : PRF G F b p0) (h3 : SNF G F e0 q) (hne : 0 < p0.1.length) (hd : 0 ≤ d ∧ d ≤ 100000) (hp : Hp G F [] Ha) : CT l G yX2_scoreBy cX2_scoreBy 5 (some .int) 10 206 0 0 [.ref a, .ref b, .ref e0, iV d] F [] Ha (fun rv F' w' => rv = some (iV (scoreZ me p0 q d)) ∧ F = F' ∧ w' = []) := by
  refine z_of hp (Or.inl (by decide)) (Nat.le_of_ble_eq_true rfl) ?_
  intro p e s m below meth c ls hx hb hr hml hts hown hlk hnm hk hsH V hl
  have hl : lv_has ls 5 [(0, .ref a), (1, .ref b), (2, .ref e0), (3, iV d)] := hl
  have hh := h
  have hp2 := h2
  obtain ⟨lp, lt, cs, ps, js, as, ts, m1, m2, m3, m4, m5, m6, m7, m8, m9, m10, m11, m12, m13⟩ := h
  have lP := m2.len
  have lT := m5.len
  obtain ⟨ps1, pt1, p1, p2, p3, p4⟩ := h2
  have l1 := p2.len
  have l2 := h3.len
  have hbz := bZ_cases p0.2.2.1
  have wB := worst_B (s1 := p0.1) (s2 := q) (m11 0 (by omega)) (m11 1 (by omega)) l1 l2
  have g0 := m12 0 (by omega)
  have pL := pop_le (brkS_lt me.2.1 p0 (by omega))
  have pS := brkS_lt me.2.1 p0 (by omega)
  have g1 := pen_B (m12 1 (by omega)) (show pop (brkS me.2.1 p0) < 4096 by omega)
  have tB := tdiv_B (x := 100 * d) (y := worstZ me p0.1 q) (by omega) (by omega)
  refine z_getsN hx hb hk V (hk.Zs 2 rfl) hown q1606 (fun _ h => h) dX2_scoreBy_0 ?_
  refine z_getsN hx hb hk V (hk.Zs 2 rfl) hown q1606 (fun _ h => h) dX2_scoreBy_3 ?_
  refine lv_iload_n hx hb dX2_scoreBy_6 rfl (lv_at hl 3 rfl) ?_
  refine z_imul hx hb dX2_scoreBy_7 ?_
  refine lv_aload_n hx hb dX2_scoreBy_8 rfl (lv_at hl 0 rfl) ?_
  refine lv_aload_n hx hb dX2_scoreBy_9 rfl (lv_at hl 1 rfl) ?_
  refine z_getN hx hb hts hk hown K_X4 (V.f p1) 0 (by decide) q433 (fun _ h => h) rfl dX2_scoreBy_10 ?_
  refine lv_aload_n hx hb dX2_scoreBy_13 rfl (lv_at hl 2 rfl) ?_
  refine z_callV ⟨hx, hb, hml, hown, hts⟩ hk hl.1 V (wc := []) (wr := []) [] [] rfl rfl rfl rfl (by decide) (As := [.ref ps1, .ref e0]) (rest := [iV (100 * d), iV 100]) (fun hp => ct_M_worst l G a me hh ps1 e0 p0.1 q p2 h3 hp) (cwV 2 hts (lw_V q1608 q1610 qs18 q74 q1611) rfl rfl rfl (by decide +kernel) ⟨Nat.le_of_ble_eq_true rfl, Nat.le_of_ble_eq_true rfl⟩) (z_rc hk (V.f m1) (q := (RX2, TX2, 6)) rfl) rfl rfl (Nat.le_of_ble_eq_true rfl) dX2_scoreBy_14 ⟨Nat.le_of_ble_eq_true rfl, Nat.le_of_ble_eq_true rfl⟩ (fun v F1 w1 H locs hq hle hou V => ?_)
  obtain ⟨rfl, rfl, rfl⟩ := hq
  refine W.eq (g2 := F0 m 17 ls [iV (worstZ me p0.1 q), iV (100 * d), iV 100]) rfl ?_
  have V : VV G _ _ F [] _ _ _ := V
  refine z_idiv hx hb (by omega) dX2_scoreBy_17 ?_
  refine z_isub hx hb dX2_scoreBy_18 ?_
  refine lv_istore (lv' := [(4, iV (100 - ((100 * d).tdiv (worstZ me p0.1 q)))), (0, .ref a), (1, .ref b), (2, .ref e0), (3, iV d)]) hx hb dX2_scoreBy_19 hl (by decide) rfl (fun ls hl => ?_)
  refine lv_iload hx hb dX2_scoreBy_21 (lv_at hl 0 rfl) ?_
  refine lv_aload_n hx hb dX2_scoreBy_23 rfl (lv_at hl 2 rfl) ?_
  refine z_getN hx hb hts hk hown K_X4 (V.f p1) 2 (by decide) q440 (fun _ h => h) rfl dX2_scoreBy_24 ?_
  refine z_if_eq (tgt := 39) hx hb (by omega) dX2_scoreBy_27 (by decide) (fun c27 => ?_) (fun c27 => ?_)
  · skip
    refine lv_iconst (v := iZ 0) hx hb dX2_scoreBy_39 rfl ?_
    refine z_isub hx hb dX2_scoreBy_40 ?_
    refine lv_istore (lv' := [(4, iV ((100 - ((100 * d).tdiv (worstZ me p0.1 q))) - 0)), (0, .ref a), (1, .ref b), (2, .ref e0), (3, iV d)]) hx hb dX2_scoreBy_41 hl (by decide) rfl (fun ls hl => ?_)
    refine lv_iload hx hb dX2_scoreBy_43 (lv_at hl 0 rfl) ?_
    refine lv_aload_n hx hb dX2_scoreBy_45 rfl (lv_at hl 1 rfl) ?_
    refine z_get hx hb hts hk hown K_X2 (V.f m1) 3 (by decide) q181 (fun _ h => h) rfl dX2_scoreBy_46 ?_
    refine lv_iconst (v := iZ 1) hx hb dX2_scoreBy_49 rfl ?_
    refine z_iald hx hb hk (V.f m9) 1 (by omega) dX2_scoreBy_50 ?_
    rw [show me.2.2.2.1 1 = me.2.2.2.1 1 from rfl]
    refine lv_aload_n hx hb dX2_scoreBy_51 rfl (lv_at hl 1 rfl) ?_
    refine lv_aload_n hx hb dX2_scoreBy_52 rfl (lv_at hl 2 rfl) ?_
    refine z_callV ⟨hx, hb, hml, hown, hts⟩ hk hl.1 V (wc := []) (wr := []) [] [] rfl rfl rfl rfl (by decide) (As := [.ref b]) (rest := [iV (me.2.2.2.1 1), iV ((100 - ((100 * d).tdiv (worstZ me p0.1 q))) - 0)]) (fun hp => ct_M_broken l G a me hh b p0 hp2 hp) (cwV 1 hts (lw_V q1135 q1136 q1137 q74 q1138) rfl rfl rfl (by decide +kernel) ⟨Nat.le_of_ble_eq_true rfl, Nat.le_of_ble_eq_true rfl⟩) (z_rc hk (V.f m1) (q := (RX2, TX2, 6)) rfl) rfl rfl (Nat.le_of_ble_eq_true rfl) dX2_scoreBy_53 ⟨Nat.le_of_ble_eq_true rfl, Nat.le_of_ble_eq_true rfl⟩ (fun v F1 w1 H locs hq hle hou V => ?_)
    obtain ⟨rfl, rfl, rfl⟩ := hq
    refine W.eq (g2 := F0 m 56 ls [iV (brkS me.2.1 p0 : Nat), iV (me.2.2.2.1 1), iV ((100 - ((100 * d).tdiv (worstZ me p0.1 q))) - 0)]) rfl ?_
    have V : VV G _ _ F [] _ _ _ := V
    refine z_callS ⟨hx, hb, hml, hown, hts⟩ hk hl.1 V (wc := []) (wr := []) [] [] rfl rfl rfl rfl (by decide) (As := [iV (brkS me.2.1 p0 : Nat)]) (rest := [iV (me.2.2.2.1 1), iV ((100 - ((100 * d).tdiv (worstZ me p0.1 q))) - 0)]) (fun hp => ct_M_ones l G (brkS me.2.1 p0) pS hp) (va_cwS 1 hts (lw_S q1614 q1615 q74 q1616) rfl rfl rfl (by decide +kernel) ⟨Nat.le_of_ble_eq_true rfl, Nat.le_of_ble_eq_true rfl⟩) rfl rfl (Nat.le_of_ble_eq_true rfl) dX2_scoreBy_56 ⟨Nat.le_of_ble_eq_true rfl, Nat.le_of_ble_eq_true rfl⟩ (fun v F1 w1 H locs hq hle hou V => ?_)
    obtain ⟨rfl, rfl, rfl⟩ := hq
    refine W.eq (g2 := F0 m 59 ls [iV (pop (brkS me.2.1 p0) : Nat), iV (me.2.2.2.1 1), iV ((100 - ((100 * d).tdiv (worstZ me p0.1 q))) - 0)]) rfl ?_
    have V : VV G _ _ F [] _ _ _ := V
    refine z_imul hx hb dX2_scoreBy_59 ?_
    refine z_isub hx hb dX2_scoreBy_60 ?_
    refine lv_istore (lv' := [(4, iV (((100 - ((100 * d).tdiv (worstZ me p0.1 q))) - 0) - ((me.2.2.2.1 1) * (pop (brkS me.2.1 p0) : Nat)))), (0, .ref a), (1, .ref b), (2, .ref e0), (3, iV d)]) hx hb dX2_scoreBy_61 hl (by decide) rfl (fun ls hl => ?_)
    refine lv_iconst (v := iZ 0) hx hb dX2_scoreBy_63 rfl ?_
    refine lv_iload hx hb dX2_scoreBy_64 (lv_at hl 0 rfl) ?_
    refine z_callS ⟨hx, hb, hml, hown, hts⟩ hk hl.1 V (wc := []) (wr := []) [] [] rfl rfl rfl rfl (by decide) (As := [iV 0, iV (((100 - ((100 * d).tdiv (worstZ me p0.1 q))) - 0) - ((me.2.2.2.1 1) * (pop (brkS me.2.1 p0) : Nat)))]) (rest := []) (fun hp => ct_max l G 0 (100 - (100 * d).tdiv (worstZ me p0.1 q) - 0 - me.2.2.2.1 1 * (pop (brkS me.2.1 p0) : Nat)) (by omega) hp) (va_cwS 2 hts (lw_S q1617 q479 q90 q480) rfl rfl rfl (by decide +kernel) ⟨Nat.le_of_ble_eq_true rfl, Nat.le_of_ble_eq_true rfl⟩) rfl rfl (Nat.le_of_ble_eq_true rfl) dX2_scoreBy_66 ⟨Nat.le_of_ble_eq_true rfl, Nat.le_of_ble_eq_true rfl⟩ (fun v F1 w1 H locs hq hle hou V => ?_)
    obtain ⟨rfl, rfl, rfl⟩ := hq
    refine W.eq (g2 := F0 m 69 ls [iV (max 0 (100 - (100 * d).tdiv (worstZ me p0.1 q) - 0 - me.2.2.2.1 1 * (pop (brkS me.2.1 p0) : Nat)))]) rfl ?_
    have V : VV G _ _ F [] _ _ _ := V
    exact z_iret hx hb hr hlk V rfl dX2_scoreBy_69 ⟨by unfold scoreZ; rw [if_neg (by simp [(hbz.resolve_left (by omega)).1])], rfl, rfl⟩ ⟨Nat.le_of_ble_eq_true rfl, Nat.le_of_ble_eq_true rfl⟩
  · skip
    refine lv_aload_n hx hb dX2_scoreBy_30 rfl (lv_at hl 1 rfl) ?_
    refine z_get hx hb hts hk hown K_X2 (V.f m1) 3 (by decide) q181 (fun _ h => h) rfl dX2_scoreBy_31 ?_
    refine lv_iconst (v := iZ 0) hx hb dX2_scoreBy_34 rfl ?_
    refine z_iald hx hb hk (V.f m9) 0 (by omega) dX2_scoreBy_35 ?_
    rw [show me.2.2.2.1 0 = me.2.2.2.1 0 from rfl]
    refine lv_goto (tgt := 40) hx hb dX2_scoreBy_36 (by decide) ?_
    refine z_isub hx hb dX2_scoreBy_40 ?_
    refine lv_istore (lv' := [(4, iV ((100 - ((100 * d).tdiv (worstZ me p0.1 q))) - (me.2.2.2.1 0))), (0, .ref a), (1, .ref b), (2, .ref e0), (3, iV d)]) hx hb dX2_scoreBy_41 hl (by decide) rfl (fun ls hl => ?_)
    refine lv_iload hx hb dX2_scoreBy_43 (lv_at hl 0 rfl) ?_
    refine lv_aload_n hx hb dX2_scoreBy_45 rfl (lv_at hl 1 rfl) ?_
    refine z_get hx hb hts hk hown K_X2 (V.f m1) 3 (by decide) q181 (fun _ h => h) rfl dX2_scoreBy_46 ?_
    refine lv_iconst (v := iZ 1) hx hb dX2_scoreBy_49 rfl ?_
    refine z_iald hx hb hk (V.f m9) 1 (by omega) dX2_scoreBy_50 ?_
    rw [show me.2.2.2.1 1 = me.2.2.2.1 1 from rfl]
    refine lv_aload_n hx hb dX2_scoreBy_51 rfl (lv_at hl 1 rfl) ?_
    refine lv_aload_n hx hb dX2_scoreBy_52 rfl (lv_at hl 2 rfl) ?_
    refine z_callV ⟨hx, hb, hml, hown, hts⟩ hk hl.1 V (wc := []) (wr := []) [] [] rfl rfl rfl rfl (by decide) (As := [.ref b]) (rest := [iV (me.2.2.2.1 1), iV ((100 - ((100 * d).tdiv (worstZ me p0.1 q))) - (me.2.2.2.1 0))]) (fun hp => ct_M_broken l G a me hh b p0 hp2 hp) (cwV 1 hts (lw_V q1135 q1136 q1137 q74 q1138) rfl rfl rfl (by decide +kernel) ⟨Nat.le_of_ble_eq_true rfl, Nat.le_of_ble_eq_true rfl⟩) (z_rc hk (V.f m1) (q := (RX2, TX2, 6)) rfl) rfl rfl (Nat.le_of_ble_eq_true rfl) dX2_scoreBy_53 ⟨Nat.le_of_ble_eq_true rfl, Nat.le_of_ble_eq_true rfl⟩ (fun v F1 w1 H locs hq hle hou V => ?_)
    obtain ⟨rfl, rfl, rfl⟩ := hq
    refine W.eq (g2 := F0 m 56 ls [iV (brkS me.2.1 p0 : Nat), iV (me.2.2.2.1 1), iV ((100 - ((100 * d).tdiv (worstZ me p0.1 q))) - (me.2.2.2.1 0))]) rfl ?_
    have V : VV G _ _ F [] _ _ _ := V
    refine z_callS ⟨hx, hb, hml, hown, hts⟩ hk hl.1 V (wc := []) (wr := []) [] [] rfl rfl rfl rfl (by decide) (As := [iV (brkS me.2.1 p0 : Nat)]) (rest := [iV (me.2.2.2.1 1), iV ((100 - ((100 * d).tdiv (worstZ me p0.1 q))) - (me.2.2.2.1 0))]) (fun hp => ct_M_ones l G (brkS me.2.1 p0) pS hp) (va_cwS 1 hts (lw_S q1614 q1615 q74 q1616) rfl rfl rfl (by decide +kernel) ⟨Nat.le_of_ble_eq_true rfl, Nat.le_of_ble_eq_true rfl⟩) rfl rfl (Nat.le_of_ble_eq_true rfl) dX2_scoreBy_56 ⟨Nat.le_of_ble_eq_true rfl, Nat.le_of_ble_eq_true rfl⟩ (fun v F1 w1 H locs hq hle hou V => ?_)
    obtain ⟨rfl, rfl, rfl⟩ := hq
    refine W.eq (g2 := F0 m 59 ls [iV (pop (brkS me.2.1 p0) : Nat), iV (me.2.2.2.1 1), iV ((100 - ((100 * d).tdiv (worstZ me p0.1 q))) - (me.2.2.2.1 0))]) rfl ?_
    have V : VV G _ _ F [] _ _ _ := V
    refine z_imul hx hb dX2_scoreBy_59 ?_
    refine z_isub hx hb dX2_scoreBy_60 ?_
    refine lv_istore (lv' := [(4, iV (((100 - ((100 * d).tdiv (worstZ me p0.1 q))) - (me.2.2.2.1 0)) - ((me.2.2.2.1 1) * (pop (brkS me.2.1 p0) : Nat)))), (0, .ref a), (1, .ref b), (2, .ref e0), (3, iV d)]) hx hb dX2_scoreBy_61 hl (by decide) rfl (fun ls hl => ?_)
    refine lv_iconst (v := iZ 0) hx hb dX2_scoreBy_63 rfl ?_
    refine lv_iload hx hb dX2_scoreBy_64 (lv_at hl 0 rfl) ?_
    refine z_callS ⟨hx, hb, hml, hown, hts⟩ hk hl.1 V (wc := []) (wr := []) [] [] rfl rfl rfl rfl (by decide) (As := [iV 0, iV (((100 - ((100 * d).tdiv (worstZ me p0.1 q))) - (me.2.2.2.1 0)) - ((me.2.2.2.1 1) * (pop (brkS me.2.1 p0) : Nat)))]) (rest := []) (fun hp => ct_max l G 0 (100 - (100 * d).tdiv (worstZ me p0.1 q) - (me.2.2.2.1 0) - me.2.2.2.1 1 * (pop (brkS me.2.1 p0) : Nat)) (by omega) hp) (va_cwS 2 hts (lw_S q1617 q479 q90 q480) rfl rfl rfl (by decide +kernel) ⟨Nat.le_of_ble_eq_true rfl, Nat.le_of_ble_eq_true rfl⟩) rfl rfl (Nat.le_of_ble_eq_true rfl) dX2_scoreBy_66 ⟨Nat.le_of_ble_eq_true rfl, Nat.le_of_ble_eq_true rfl⟩ (fun v F1 w1 H locs hq hle hou V => ?_)
    obtain ⟨rfl, rfl, rfl⟩ := hq
    refine W.eq (g2 := F0 m 69 ls [iV (max 0 (100 - (100 * d).tdiv (worstZ me p0.1 q) - (me.2.2.2.1 0) - me.2.2.2.1 1 * (pop (brkS me.2.1 p0) : Nat)))]) rfl ?_
    have V : VV G _ _ F [] _ _ _ := V
    exact z_iret hx hb hr hlk V rfl dX2_scoreBy_69 ⟨by unfold scoreZ; rw [if_pos (by simp [(hbz.resolve_right (by omega)).1])], rfl, rfl⟩ ⟨Nat.le_of_ble_eq_true rfl, Nat.le_of_ble_eq_true rfl⟩
def boundZ (me : Me) (s1 s2 : List (List Nat)) (k : Int) : Int :=
  min ((s1.length : Int) - k) ((s2.length : Int) - k) * min (me.2.2.1 0 + me.2.2.1 1) (min (me.2.2.1 2) (me.2.2.1 3)) + ((s1.length : Int) - k - min ((s1.length : Int) - k) ((s2.length : Int) - k)) * me.2.2.1 1 + ((s2.length : Int) - k - min ((s1.length : Int) - k) ((s2.length : Int) - k)) * me.2.2.1 0
set_option maxHeartbeats 4000000 in
theorem ct_M_bound (l : Launch) (G : gG) {F : fS} {Ha : Heap} (a : Nat) (me : Me) (h : MEF G F a me) (b d : Nat) (s1 s2 : List (List Nat)) (h1 : SNF G F b s1) (h2 : SNF G F d s2) (k : Int) (hk9 : 0 ≤ k ∧ k ≤ 100) (hp : Hp G F [] Ha) : CT l G yX2_bound cX2_bound 8 (some .int) 3 52 0 0 [.ref a, .ref b, .ref d, iV k] F [] Ha (fun rv F' w' => rv = some (iV (boundZ me s1 s2 k)) ∧ F = F' ∧ w' = []) := by
  refine z_of hp (Or.inl (by decide)) (Nat.le_of_ble_eq_true rfl) ?_
  intro p e s m below meth c ls hx hb hr hml hts hown hlk hnm hk hsH V hl
  have hl : lv_has ls 8 [(0, .ref a), (1, .ref b), (2, .ref d), (3, iV k)] := hl
  obtain ⟨lp, lt, cs, ps, js, as, ts, m1, m2, m3, m4, m5, m6, m7, m8, m9, m10, m11, m12, m13⟩ := h
  have lP := m2.len
  have lT := m5.len
  have l1 := h1.len
  have l2 := h2.len
  have c0 := m11 0 (by omega)
  have c1 := m11 1 (by omega)
  have c2 := m11 2 (by omega)
  have c3 := m11 3 (by omega)
  refine lv_aload_n hx hb dX2_bound_0 rfl (lv_at hl 1 rfl) ?_
  refine z_callF (z_at hk 13 rfl) ⟨hx, hb, hml, hown, hts⟩ hk hl.1 V (wc := []) (wr := []) [] [] rfl rfl rfl rfl (by decide) (As := []) (rest := []) (fun hp => ct_SN_count l G b s1 h1 hp) (va_cwF 0 hts (lw_app (lw_in4 q1613 q1182 q1068 q104) (lw_meth q1070)) rfl rfl rfl (hk.I 12 rfl) (by decide +kernel) ⟨Nat.le_of_ble_eq_true rfl, Nat.le_of_ble_eq_true rfl⟩) (z_rc hk (Classical.choose_spec (h1.at V)) (q := (RX6, TX6, 2)) rfl) rfl rfl (Nat.le_of_ble_eq_true rfl) dX2_bound_1 ⟨Nat.le_of_ble_eq_true rfl, Nat.le_of_ble_eq_true rfl⟩ (fun v F1 w1 H locs hq hle hou V => ?_)
  obtain ⟨rfl, rfl, rfl⟩ := hq
  refine W.eq (g2 := F0 m 6 ls [iV (s1.length : Nat)]) rfl ?_
  have V : VV G _ _ F [] _ _ _ := V
  refine lv_iload_n hx hb dX2_bound_6 rfl (lv_at hl 3 rfl) ?_
  refine z_isub hx hb dX2_bound_7 ?_
  refine lv_istore (lv' := [(4, iV ((s1.length : Nat) - k)), (0, .ref a), (1, .ref b), (2, .ref d), (3, iV k)]) hx hb dX2_bound_8 hl (by decide) rfl (fun ls hl => ?_)
  refine lv_aload_n hx hb dX2_bound_10 rfl (lv_at hl 3 rfl) ?_
  refine z_callF (z_at hk 13 rfl) ⟨hx, hb, hml, hown, hts⟩ hk hl.1 V (wc := []) (wr := []) [] [] rfl rfl rfl rfl (by decide) (As := []) (rest := []) (fun hp => ct_SN_count l G d s2 h2 hp) (va_cwF 0 hts (lw_app (lw_in4 q1613 q1182 q1068 q104) (lw_meth q1070)) rfl rfl rfl (hk.I 12 rfl) (by decide +kernel) ⟨Nat.le_of_ble_eq_true rfl, Nat.le_of_ble_eq_true rfl⟩) (z_rc hk (Classical.choose_spec (h2.at V)) (q := (RX6, TX6, 2)) rfl) rfl rfl (Nat.le_of_ble_eq_true rfl) dX2_bound_11 ⟨Nat.le_of_ble_eq_true rfl, Nat.le_of_ble_eq_true rfl⟩ (fun v F1 w1 H locs hq hle hou V => ?_)
  obtain ⟨rfl, rfl, rfl⟩ := hq
  refine W.eq (g2 := F0 m 16 ls [iV (s2.length : Nat)]) rfl ?_
  have V : VV G _ _ F [] _ _ _ := V
  refine lv_iload_n hx hb dX2_bound_16 rfl (lv_at hl 4 rfl) ?_
  refine z_isub hx hb dX2_bound_17 ?_
  refine lv_istore (lv' := [(5, iV ((s2.length : Nat) - k)), (4, iV ((s1.length : Nat) - k)), (0, .ref a), (1, .ref b), (2, .ref d), (3, iV k)]) hx hb dX2_bound_18 hl (by decide) rfl (fun ls hl => ?_)
  refine lv_iload hx hb dX2_bound_20 (lv_at hl 1 rfl) ?_
  refine lv_iload hx hb dX2_bound_22 (lv_at hl 0 rfl) ?_
  refine z_callS ⟨hx, hb, hml, hown, hts⟩ hk hl.1 V (wc := []) (wr := []) [] [] rfl rfl rfl rfl (by decide) (As := [iV ((s1.length : Nat) - k), iV ((s2.length : Nat) - k)]) (rest := []) (fun hp => ct_min l G ((s1.length : Int) - k) ((s2.length : Int) - k) (by omega) hp) (va_cwS 2 hts (lw_S q2408 q537 q90 q538) rfl rfl rfl (by decide +kernel) ⟨Nat.le_of_ble_eq_true rfl, Nat.le_of_ble_eq_true rfl⟩) rfl rfl (Nat.le_of_ble_eq_true rfl) dX2_bound_24 ⟨Nat.le_of_ble_eq_true rfl, Nat.le_of_ble_eq_true rfl⟩ (fun v F1 w1 H locs hq hle hou V => ?_)
  obtain ⟨rfl, rfl, rfl⟩ := hq
  refine W.eq (g2 := F0 m 27 ls [iV (min ((s1.length : Int) - k) ((s2.length : Int) - k))]) rfl ?_
  have V : VV G _ _ F [] _ _ _ := V
  refine lv_istore (lv' := [(6, iV (min ((s1.length : Int) - k) ((s2.length : Int) - k))), (5, iV ((s2.length : Nat) - k)), (4, iV ((s1.length : Nat) - k)), (0, .ref a), (1, .ref b), (2, .ref d), (3, iV k)]) hx hb dX2_bound_27 hl (by decide) rfl (fun ls hl => ?_)
  refine lv_aload_n hx hb dX2_bound_29 rfl (lv_at hl 3 rfl) ?_
  refine z_get hx hb hts hk hown K_X2 (V.f m1) 2 (by decide) q179 (fun _ h => h) rfl dX2_bound_30 ?_
  refine lv_iconst (v := iZ 0) hx hb dX2_bound_33 rfl ?_
  refine z_iald hx hb hk (V.f m8) 0 (by omega) dX2_bound_34 ?_
  rw [show me.2.2.1 0 = me.2.2.1 0 from rfl]
  refine lv_aload_n hx hb dX2_bound_35 rfl (lv_at hl 3 rfl) ?_
  refine z_get hx hb hts hk hown K_X2 (V.f m1) 2 (by decide) q179 (fun _ h => h) rfl dX2_bound_36 ?_
  refine lv_iconst (v := iZ 1) hx hb dX2_bound_39 rfl ?_
  refine z_iald hx hb hk (V.f m8) 1 (by omega) dX2_bound_40 ?_
  rw [show me.2.2.1 1 = me.2.2.1 1 from rfl]
  refine z_iadd hx hb dX2_bound_41 ?_
  refine lv_aload_n hx hb dX2_bound_42 rfl (lv_at hl 3 rfl) ?_
  refine z_get hx hb hts hk hown K_X2 (V.f m1) 2 (by decide) q179 (fun _ h => h) rfl dX2_bound_43 ?_
  refine lv_iconst (v := iZ 2) hx hb dX2_bound_46 rfl ?_
  refine z_iald hx hb hk (V.f m8) 2 (by omega) dX2_bound_47 ?_
  rw [show me.2.2.1 2 = me.2.2.1 2 from rfl]
  refine lv_aload_n hx hb dX2_bound_48 rfl (lv_at hl 3 rfl) ?_
  refine z_get hx hb hts hk hown K_X2 (V.f m1) 2 (by decide) q179 (fun _ h => h) rfl dX2_bound_49 ?_
  refine lv_iconst (v := iZ 3) hx hb dX2_bound_52 rfl ?_
  refine z_iald hx hb hk (V.f m8) 3 (by omega) dX2_bound_53 ?_
  rw [show me.2.2.1 3 = me.2.2.1 3 from rfl]
  refine z_callS ⟨hx, hb, hml, hown, hts⟩ hk hl.1 V (wc := []) (wr := []) [] [] rfl rfl rfl rfl (by decide) (As := [iV (me.2.2.1 2), iV (me.2.2.1 3)]) (rest := [iV ((me.2.2.1 0) + (me.2.2.1 1))]) (fun hp => ct_min l G (me.2.2.1 2) (me.2.2.1 3) (by omega) hp) (va_cwS 2 hts (lw_S q2408 q537 q90 q538) rfl rfl rfl (by decide +kernel) ⟨Nat.le_of_ble_eq_true rfl, Nat.le_of_ble_eq_true rfl⟩) rfl rfl (Nat.le_of_ble_eq_true rfl) dX2_bound_54 ⟨Nat.le_of_ble_eq_true rfl, Nat.le_of_ble_eq_true rfl⟩ (fun v F1 w1 H locs hq hle hou V => ?_)
  obtain ⟨rfl, rfl, rfl⟩ := hq
  refine W.eq (g2 := F0 m 57 ls [iV (min (me.2.2.1 2) (me.2.2.1 3)), iV ((me.2.2.1 0) + (me.2.2.1 1))]) rfl ?_
  have V : VV G _ _ F [] _ _ _ := V
  refine z_callS ⟨hx, hb, hml, hown, hts⟩ hk hl.1 V (wc := []) (wr := []) [] [] rfl rfl rfl rfl (by decide) (As := [iV ((me.2.2.1 0) + (me.2.2.1 1)), iV (min (me.2.2.1 2) (me.2.2.1 3))]) (rest := []) (fun hp => ct_min l G (me.2.2.1 0 + me.2.2.1 1) (min (me.2.2.1 2) (me.2.2.1 3)) (by omega) hp) (va_cwS 2 hts (lw_S q2408 q537 q90 q538) rfl rfl rfl (by decide +kernel) ⟨Nat.le_of_ble_eq_true rfl, Nat.le_of_ble_eq_true rfl⟩) rfl rfl (Nat.le_of_ble_eq_true rfl) dX2_bound_57 ⟨Nat.le_of_ble_eq_true rfl, Nat.le_of_ble_eq_true rfl⟩ (fun v F1 w1 H locs hq hle hou V => ?_)
  obtain ⟨rfl, rfl, rfl⟩ := hq
  refine W.eq (g2 := F0 m 60 ls [iV (min (me.2.2.1 0 + me.2.2.1 1) (min (me.2.2.1 2) (me.2.2.1 3)))]) rfl ?_
  have V : VV G _ _ F [] _ _ _ := V
  refine lv_istore (lv' := [(7, iV (min (me.2.2.1 0 + me.2.2.1 1) (min (me.2.2.1 2) (me.2.2.1 3)))), (6, iV (min ((s1.length : Int) - k) ((s2.length : Int) - k))), (5, iV ((s2.length : Nat) - k)), (4, iV ((s1.length : Nat) - k)), (0, .ref a), (1, .ref b), (2, .ref d), (3, iV k)]) hx hb dX2_bound_60 hl (by decide) rfl (fun ls hl => ?_)
  refine lv_iload hx hb dX2_bound_62 (lv_at hl 1 rfl) ?_
  refine lv_iload hx hb dX2_bound_64 (lv_at hl 0 rfl) ?_
  refine z_imul hx hb dX2_bound_66 ?_
  refine lv_iload hx hb dX2_bound_67 (lv_at hl 3 rfl) ?_
  refine lv_iload hx hb dX2_bound_69 (lv_at hl 1 rfl) ?_
  refine z_isub hx hb dX2_bound_71 ?_
  refine lv_aload_n hx hb dX2_bound_72 rfl (lv_at hl 4 rfl) ?_
  refine z_get hx hb hts hk hown K_X2 (V.f m1) 2 (by decide) q179 (fun _ h => h) rfl dX2_bound_73 ?_
  refine lv_iconst (v := iZ 1) hx hb dX2_bound_76 rfl ?_
  refine z_iald hx hb hk (V.f m8) 1 (by omega) dX2_bound_77 ?_
  rw [show me.2.2.1 1 = me.2.2.1 1 from rfl]
  refine z_imul hx hb dX2_bound_78 ?_
  refine z_iadd hx hb dX2_bound_79 ?_
  refine lv_iload hx hb dX2_bound_80 (lv_at hl 2 rfl) ?_
  refine lv_iload hx hb dX2_bound_82 (lv_at hl 1 rfl) ?_
  refine z_isub hx hb dX2_bound_84 ?_
  refine lv_aload_n hx hb dX2_bound_85 rfl (lv_at hl 4 rfl) ?_
  refine z_get hx hb hts hk hown K_X2 (V.f m1) 2 (by decide) q179 (fun _ h => h) rfl dX2_bound_86 ?_
  refine lv_iconst (v := iZ 0) hx hb dX2_bound_89 rfl ?_
  refine z_iald hx hb hk (V.f m8) 0 (by omega) dX2_bound_90 ?_
  rw [show me.2.2.1 0 = me.2.2.1 0 from rfl]
  refine z_imul hx hb dX2_bound_91 ?_
  refine z_iadd hx hb dX2_bound_92 ?_
  exact z_iret hx hb hr hlk V rfl dX2_bound_93 ⟨rfl, rfl, rfl⟩ ⟨Nat.le_of_ble_eq_true rfl, Nat.le_of_ble_eq_true rfl⟩
