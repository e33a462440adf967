/-! JDK: String (printed by gen/jdk3.py) -/
set_option maxRecDepth 100000
theorem z_and255 {p : Program} {l : Launch} {e : Env} {R : Room} {s : State} {m : MethodId} {args : Array Value} {below : List Frame} {meth : Method} {c : Code} {H : Heap} {locs : List Loc} {cells slots : Nat} {Q : State → Prop} {cc : ByteArray} {pc : Nat} {ls : Array Slot} {rest : List Value} (hx : p.tables.exec = Jvm.exec) (hb : c.code = cc) {v : Int} (hv : 0 ≤ v ∧ v < 256) (hdg : decode cc pc = .ok (.iand, 1)) (k : W p l e R s m args below meth c H locs cells slots Q (F0 m (pc + 1) ls (iV v :: rest))) : W p l e R s m args below meth c H locs cells slots Q (F0 m pc ls (iV 255 :: iV v :: rest)) := by
  refine lv_iand hx hb hdg ?_
  obtain ⟨n, rfl⟩ : ∃ n : Nat, v = (n : Int) := ⟨v.toNat, by omega⟩
  rw [show iZ (n : Int) = nI n from (iZ_nat n).symm, pk_andN (by omega) 8 (by decide), Nat.mod_eq_of_lt (by omega), ← show iZ (n : Int) = nI n from (iZ_nat n).symm]
  exact k
set_option maxHeartbeats 4000000 in
theorem ct_S_checkIndex (l : Launch) (G : gG) {F : fS} {Ha : Heap} (i n : Int) (hrg : 0 ≤ i ∧ i < n ∧ n < 2147483648) (hp : Hp G F [] Ha) : CT l G yJ6_checkIndex cJ6_checkIndex 2 none 2 34 0 0 [iV i, iV n] F [] Ha (fun rv F' w' => rv = none ∧ F = F' ∧ w' = []) := by
  refine z_of hp (Or.inl (by decide)) (Nat.le_of_ble_eq_true rfl) ?_
  intro p e s m below meth c ls hx hb hr hml hts hown hlk hnm hk hsH V hl
  have hl : lv_has ls 2 [(0, iV i), (1, iV n)] := hl
  obtain ⟨sf, hzf, rfl | ⟨t, rfl⟩⟩ := hk.sf
  · skip
    refine lv_iload_n hx hb dJ6_checkIndex_0 rfl (lv_at hl 0 rfl) ?_
    refine lv_iload_n hx hb dJ6_checkIndex_1 rfl (lv_at hl 1 rfl) ?_
    refine z_gets hx hb hts V hzf hown q664 (fun _ h => h) dJ6_checkIndex_2 ?_
    refine z_callS ⟨hx, hb, hml, hown, hts⟩ hk hl.1 V (wc := []) (wr := []) [] [] rfl rfl rfl rfl (by decide) (As := [iV i, iV n, .null]) (rest := []) (fun hp => ct_pcheck l G i n hrg hp) (va_cwS 3 hts (lw_S q687 q688 q94 q689) rfl rfl rfl (by decide +kernel) ⟨Nat.le_of_ble_eq_true rfl, Nat.le_of_ble_eq_true rfl⟩) rfl rfl (Nat.le_of_ble_eq_true rfl) dJ6_checkIndex_5 ⟨Nat.le_of_ble_eq_true rfl, Nat.le_of_ble_eq_true rfl⟩ (fun v F1 w1 H locs hq hle hou V => ?_)
    obtain ⟨rfl, rfl, rfl⟩ := hq
    refine W.eq (g2 := F0 m 8 ls [iV i]) rfl ?_
    have V : VV G _ _ F [] _ _ _ := V
    refine lv_pop hx hb dJ6_checkIndex_8 rfl ?_
    exact z_vret hx hb hr hlk V dJ6_checkIndex_9 ⟨rfl, rfl, rfl⟩ ⟨Nat.le_of_ble_eq_true rfl, Nat.le_of_ble_eq_true rfl⟩
  · skip
    refine lv_iload_n hx hb dJ6_checkIndex_0 rfl (lv_at hl 0 rfl) ?_
    refine lv_iload_n hx hb dJ6_checkIndex_1 rfl (lv_at hl 1 rfl) ?_
    refine z_gets hx hb hts V hzf hown q664 (fun _ h => h) dJ6_checkIndex_2 ?_
    refine z_callS ⟨hx, hb, hml, hown, hts⟩ hk hl.1 V (wc := []) (wr := []) [] [] rfl rfl rfl rfl (by decide) (As := [iV i, iV n, .ref t]) (rest := []) (fun hp => ct_pcheckR l G t i n hrg hp) (va_cwS 3 hts (lw_S q687 q688 q94 q689) rfl rfl rfl (by decide +kernel) ⟨Nat.le_of_ble_eq_true rfl, Nat.le_of_ble_eq_true rfl⟩) rfl rfl (Nat.le_of_ble_eq_true rfl) dJ6_checkIndex_5 ⟨Nat.le_of_ble_eq_true rfl, Nat.le_of_ble_eq_true rfl⟩ (fun v F1 w1 H locs hq hle hou V => ?_)
    obtain ⟨rfl, rfl, rfl⟩ := hq
    refine W.eq (g2 := F0 m 8 ls [iV i]) rfl ?_
    have V : VV G _ _ F [] _ _ _ := V
    refine lv_pop hx hb dJ6_checkIndex_8 rfl ?_
    exact z_vret hx hb hr hlk V dJ6_checkIndex_9 ⟨rfl, rfl, rfl⟩ ⟨Nat.le_of_ble_eq_true rfl, Nat.le_of_ble_eq_true rfl⟩
set_option maxHeartbeats 4000000 in
theorem ct_pft (l : Launch) (G : gG) {F : fS} {Ha : Heap} (i j n : Int) (hrg : 0 ≤ i ∧ i ≤ j ∧ j ≤ n ∧ n < 2147483648) (hp : Hp G F [] Ha) : CT l G yJ17_checkFromToIndex cJ17_checkFromToIndex 4 (some .int) 1 12 0 0 [iV i, iV j, iV n, .null] F [] Ha (fun rv F' w' => rv = some (iV i) ∧ F = F' ∧ w' = []) := by
  refine z_of hp (Or.inl (by decide)) (Nat.le_of_ble_eq_true rfl) ?_
  intro p e s m below meth c ls hx hb hr hml hts hown hlk hnm hk hsH V hl
  have hl : lv_has ls 4 [(0, iV i), (1, iV j), (2, iV n), (3, .null)] := hl
  refine lv_iload_n hx hb dJ17_checkFromToIndex_0 rfl (lv_at hl 0 rfl) ?_
  refine z_if_lt (tgt := 14) hx hb (by omega) dJ17_checkFromToIndex_1 (by decide) (fun c1 => by omega) (fun c1 => ?_)
  refine lv_iload_n hx hb dJ17_checkFromToIndex_4 rfl (lv_at hl 0 rfl) ?_
  refine lv_iload_n hx hb dJ17_checkFromToIndex_5 rfl (lv_at hl 1 rfl) ?_
  refine z_icmp_gt (tgt := 14) hx hb (by omega) dJ17_checkFromToIndex_6 (by decide) (fun c6 => by omega) (fun c6 => ?_)
  refine lv_iload_n hx hb dJ17_checkFromToIndex_9 rfl (lv_at hl 1 rfl) ?_
  refine lv_iload_n hx hb dJ17_checkFromToIndex_10 rfl (lv_at hl 2 rfl) ?_
  refine z_icmp_le (tgt := 22) hx hb (by omega) dJ17_checkFromToIndex_11 (by decide) (fun c11 => ?_) (fun c11 => by omega)
  refine lv_iload_n hx hb dJ17_checkFromToIndex_22 rfl (lv_at hl 0 rfl) ?_
  exact z_iret hx hb hr hlk V rfl dJ17_checkFromToIndex_23 ⟨rfl, rfl, rfl⟩ ⟨Nat.le_of_ble_eq_true rfl, Nat.le_of_ble_eq_true rfl⟩
set_option maxHeartbeats 4000000 in
theorem ct_pftR (l : Launch) (G : gG) {F : fS} {Ha : Heap} (u : Nat) (i j n : Int) (hrg : 0 ≤ i ∧ i ≤ j ∧ j ≤ n ∧ n < 2147483648) (hp : Hp G F [] Ha) : CT l G yJ17_checkFromToIndex cJ17_checkFromToIndex 4 (some .int) 1 12 0 0 [iV i, iV j, iV n, .ref u] F [] Ha (fun rv F' w' => rv = some (iV i) ∧ F = F' ∧ w' = []) := by
  refine z_of hp (Or.inl (by decide)) (Nat.le_of_ble_eq_true rfl) ?_
  intro p e s m below meth c ls hx hb hr hml hts hown hlk hnm hk hsH V hl
  have hl : lv_has ls 4 [(0, iV i), (1, iV j), (2, iV n), (3, .ref u)] := hl
  refine lv_iload_n hx hb dJ17_checkFromToIndex_0 rfl (lv_at hl 0 rfl) ?_
  refine z_if_lt (tgt := 14) hx hb (by omega) dJ17_checkFromToIndex_1 (by decide) (fun c1 => by omega) (fun c1 => ?_)
  refine lv_iload_n hx hb dJ17_checkFromToIndex_4 rfl (lv_at hl 0 rfl) ?_
  refine lv_iload_n hx hb dJ17_checkFromToIndex_5 rfl (lv_at hl 1 rfl) ?_
  refine z_icmp_gt (tgt := 14) hx hb (by omega) dJ17_checkFromToIndex_6 (by decide) (fun c6 => by omega) (fun c6 => ?_)
  refine lv_iload_n hx hb dJ17_checkFromToIndex_9 rfl (lv_at hl 1 rfl) ?_
  refine lv_iload_n hx hb dJ17_checkFromToIndex_10 rfl (lv_at hl 2 rfl) ?_
  refine z_icmp_le (tgt := 22) hx hb (by omega) dJ17_checkFromToIndex_11 (by decide) (fun c11 => ?_) (fun c11 => by omega)
  refine lv_iload_n hx hb dJ17_checkFromToIndex_22 rfl (lv_at hl 0 rfl) ?_
  exact z_iret hx hb hr hlk V rfl dJ17_checkFromToIndex_23 ⟨rfl, rfl, rfl⟩ ⟨Nat.le_of_ble_eq_true rfl, Nat.le_of_ble_eq_true rfl⟩
set_option maxHeartbeats 4000000 in
theorem ct_S_checkBounds (l : Launch) (G : gG) {F : fS} {Ha : Heap} (i j n : Int) (hrg : 0 ≤ i ∧ i ≤ j ∧ j ≤ n ∧ n < 2147483648) (hp : Hp G F [] Ha) : CT l G yJ6_checkBoundsBeginEnd cJ6_checkBoundsBeginEnd 3 none 2 35 0 0 [iV i, iV j, iV n] F [] Ha (fun rv F' w' => rv = none ∧ F = F' ∧ w' = []) := by
  refine z_of hp (Or.inl (by decide)) (Nat.le_of_ble_eq_true rfl) ?_
  intro p e s m below meth c ls hx hb hr hml hts hown hlk hnm hk hsH V hl
  have hl : lv_has ls 3 [(0, iV i), (1, iV j), (2, iV n)] := hl
  obtain ⟨sf, hzf, rfl | ⟨t, rfl⟩⟩ := hk.sf
  · skip
    refine lv_iload_n hx hb dJ6_checkBoundsBeginEnd_0 rfl (lv_at hl 0 rfl) ?_
    refine lv_iload_n hx hb dJ6_checkBoundsBeginEnd_1 rfl (lv_at hl 1 rfl) ?_
    refine lv_iload_n hx hb dJ6_checkBoundsBeginEnd_2 rfl (lv_at hl 2 rfl) ?_
    refine z_gets hx hb hts V hzf hown q664 (fun _ h => h) dJ6_checkBoundsBeginEnd_3 ?_
    refine z_callS ⟨hx, hb, hml, hown, hts⟩ hk hl.1 V (wc := []) (wr := []) [] [] rfl rfl rfl rfl (by decide) (As := [iV i, iV j, iV n, .null]) (rest := []) (fun hp => ct_pft l G i j n hrg hp) (va_cwS 4 hts (lw_S q777 q778 q94 q779) rfl rfl rfl (by decide +kernel) ⟨Nat.le_of_ble_eq_true rfl, Nat.le_of_ble_eq_true rfl⟩) rfl rfl (Nat.le_of_ble_eq_true rfl) dJ6_checkBoundsBeginEnd_6 ⟨Nat.le_of_ble_eq_true rfl, Nat.le_of_ble_eq_true rfl⟩ (fun v F1 w1 H locs hq hle hou V => ?_)
    obtain ⟨rfl, rfl, rfl⟩ := hq
    refine W.eq (g2 := F0 m 9 ls [iV i]) rfl ?_
    have V : VV G _ _ F [] _ _ _ := V
    refine lv_pop hx hb dJ6_checkBoundsBeginEnd_9 rfl ?_
    exact z_vret hx hb hr hlk V dJ6_checkBoundsBeginEnd_10 ⟨rfl, rfl, rfl⟩ ⟨Nat.le_of_ble_eq_true rfl, Nat.le_of_ble_eq_true rfl⟩
  · skip
    refine lv_iload_n hx hb dJ6_checkBoundsBeginEnd_0 rfl (lv_at hl 0 rfl) ?_
    refine lv_iload_n hx hb dJ6_checkBoundsBeginEnd_1 rfl (lv_at hl 1 rfl) ?_
    refine lv_iload_n hx hb dJ6_checkBoundsBeginEnd_2 rfl (lv_at hl 2 rfl) ?_
    refine z_gets hx hb hts V hzf hown q664 (fun _ h => h) dJ6_checkBoundsBeginEnd_3 ?_
    refine z_callS ⟨hx, hb, hml, hown, hts⟩ hk hl.1 V (wc := []) (wr := []) [] [] rfl rfl rfl rfl (by decide) (As := [iV i, iV j, iV n, .ref t]) (rest := []) (fun hp => ct_pftR l G t i j n hrg hp) (va_cwS 4 hts (lw_S q777 q778 q94 q779) rfl rfl rfl (by decide +kernel) ⟨Nat.le_of_ble_eq_true rfl, Nat.le_of_ble_eq_true rfl⟩) rfl rfl (Nat.le_of_ble_eq_true rfl) dJ6_checkBoundsBeginEnd_6 ⟨Nat.le_of_ble_eq_true rfl, Nat.le_of_ble_eq_true rfl⟩ (fun v F1 w1 H locs hq hle hou V => ?_)
    obtain ⟨rfl, rfl, rfl⟩ := hq
    refine W.eq (g2 := F0 m 9 ls [iV i]) rfl ?_
    have V : VV G _ _ F [] _ _ _ := V
    refine lv_pop hx hb dJ6_checkBoundsBeginEnd_9 rfl ?_
    exact z_vret hx hb hr hlk V dJ6_checkBoundsBeginEnd_10 ⟨rfl, rfl, rfl⟩ ⟨Nat.le_of_ble_eq_true rfl, Nat.le_of_ble_eq_true rfl⟩
set_option maxHeartbeats 4000000 in
theorem ct_S_isLatin1 (l : Launch) (G : gG) {F : fS} {Ha : Heap} (a : Nat) (t : List Nat) (h : SF G F a t) (hp : Hp G F [] Ha) : CT l G yJ6_isLatin1 cJ6_isLatin1 1 (some .boolean) 1 12 0 0 [.ref a] F [] Ha (fun rv F' w' => rv = some (iV 1) ∧ F = F' ∧ w' = []) := by
  refine z_of hp (Or.inl (by decide)) (Nat.le_of_ble_eq_true rfl) ?_
  intro p e s m below meth c ls hx hb hr hml hts hown hlk hnm hk hsH V hl
  have hl : lv_has ls 1 [(0, .ref a)] := hl
  obtain ⟨v, hh, zz, g, hat, hv, hg, hc, hl9⟩ := SF.at h V
  refine z_gets hx hb hts V (hk.Zs 1 rfl) hown q808 (fun _ h => h) dJ6_isLatin1_0 ?_
  refine z_if_eq (tgt := 17) hx hb (by omega) dJ6_isLatin1_3 (by decide) (fun c3 => by omega) (fun c3 => ?_)
  refine lv_aload_n hx hb dJ6_isLatin1_6 rfl (lv_at hl 0 rfl) ?_
  refine z_get hx hb hts hk hown K_J6 hat 1 (by decide) q851 (fun _ h => h) rfl dJ6_isLatin1_7 ?_
  refine z_if_ne (tgt := 17) hx hb (by omega) dJ6_isLatin1_10 (by decide) (fun c10 => by omega) (fun c10 => ?_)
  refine lv_iconst (v := iZ 1) hx hb dJ6_isLatin1_13 rfl ?_
  refine lv_goto (tgt := 18) hx hb dJ6_isLatin1_14 (by decide) ?_
  exact z_iret hx hb hr hlk V rfl dJ6_isLatin1_18 ⟨rfl, rfl, rfl⟩ ⟨Nat.le_of_ble_eq_true rfl, Nat.le_of_ble_eq_true rfl⟩
set_option maxHeartbeats 4000000 in
theorem ct_S_coder (l : Launch) (G : gG) {F : fS} {Ha : Heap} (a : Nat) (t : List Nat) (h : SF G F a t) (hp : Hp G F [] Ha) : CT l G yJ6_coder cJ6_coder 1 (some .byte) 1 12 0 0 [.ref a] F [] Ha (fun rv F' w' => rv = some (iV 0) ∧ F = F' ∧ w' = []) := by
  refine z_of hp (Or.inl (by decide)) (Nat.le_of_ble_eq_true rfl) ?_
  intro p e s m below meth c ls hx hb hr hml hts hown hlk hnm hk hsH V hl
  have hl : lv_has ls 1 [(0, .ref a)] := hl
  obtain ⟨v, hh, zz, g, hat, hv, hg, hc, hl9⟩ := SF.at h V
  refine z_gets hx hb hts V (hk.Zs 1 rfl) hown q808 (fun _ h => h) dJ6_coder_0 ?_
  refine z_if_eq (tgt := 13) hx hb (by omega) dJ6_coder_3 (by decide) (fun c3 => by omega) (fun c3 => ?_)
  refine lv_aload_n hx hb dJ6_coder_6 rfl (lv_at hl 0 rfl) ?_
  refine z_get hx hb hts hk hown K_J6 hat 1 (by decide) q851 (fun _ h => h) rfl dJ6_coder_7 ?_
  refine lv_goto (tgt := 14) hx hb dJ6_coder_10 (by decide) ?_
  exact z_iret hx hb hr hlk V rfl dJ6_coder_14 ⟨rfl, rfl, rfl⟩ ⟨Nat.le_of_ble_eq_true rfl, Nat.le_of_ble_eq_true rfl⟩
set_option maxHeartbeats 4000000 in
theorem ct_S_length (l : Launch) (G : gG) {F : fS} {Ha : Heap} (a : Nat) (t : List Nat) (h : SF G F a t) (hp : Hp G F [] Ha) : CT l G yJ6_length cJ6_length 1 (some .int) 2 32 0 0 [.ref a] F [] Ha (fun rv F' w' => rv = some (iV (t.length : Nat)) ∧ F = F' ∧ w' = []) := by
  refine z_of hp (Or.inl (by decide)) (Nat.le_of_ble_eq_true rfl) ?_
  intro p e s m below meth c ls hx hb hr hml hts hown hlk hnm hk hsH V hl
  have hl : lv_has ls 1 [(0, .ref a)] := hl
  obtain ⟨v, hh, zz, g, hat, hv, hg, hc, hl9⟩ := SF.at h V
  refine lv_aload_n hx hb dJ6_length_0 rfl (lv_at hl 0 rfl) ?_
  refine z_get hx hb hts hk hown K_J6 hat 0 (by decide) q850 (fun _ h => h) rfl dJ6_length_1 ?_
  refine z_blen hx hb hk (V.f hv) dJ6_length_4 ?_
  refine lv_aload_n hx hb dJ6_length_5 rfl (lv_at hl 0 rfl) ?_
  refine z_callV ⟨hx, hb, hml, hown, hts⟩ hk hl.1 V (wc := []) (wr := []) [] [] rfl rfl rfl rfl (by decide) (As := []) (rest := [iV (t.length : Nat)]) (fun hp => ct_S_coder l G a t h hp) (cwV 0 hts (lw_V q804 q805 q806 q81 q807) rfl rfl rfl (by decide +kernel) ⟨Nat.le_of_ble_eq_true rfl, Nat.le_of_ble_eq_true rfl⟩) (z_rc hk hat (q := (RJ6, TJ6, 4)) rfl) rfl rfl (Nat.le_of_ble_eq_true rfl) dJ6_length_6 ⟨Nat.le_of_ble_eq_true rfl, Nat.le_of_ble_eq_true rfl⟩ (fun v F1 w1 H locs hq hle hou V => ?_)
  obtain ⟨rfl, rfl, rfl⟩ := hq
  refine W.eq (g2 := F0 m 9 ls [iV 0, iV (t.length : Nat)]) rfl ?_
  have V : VV G _ _ F [] _ _ _ := V
  refine z_ishr0 hx hb dJ6_length_9 ?_
  exact z_iret hx hb hr hlk V rfl dJ6_length_10 ⟨rfl, rfl, rfl⟩ ⟨Nat.le_of_ble_eq_true rfl, Nat.le_of_ble_eq_true rfl⟩
theorem ltD {t : List Nat} (h : ∀ c ∈ t, c < 128) (i : Nat) : t.getD i 0 < 128 := by
  by_cases hi : i < t.length
  · rw [List.getD_eq_getElem?_getD, List.getElem?_eq_getElem hi]; exact h _ (List.getElem_mem hi)
  · rw [List.getD_eq_getElem?_getD, List.getElem?_eq_none (by omega)]; decide
theorem SF.B {G : gG} {F : fS} {a : Nat} {t : List Nat} (h : SF G F a t) {A : Nat → Prop} {F0 : fS} {ws : va_W} {H0 H : Heap} {locs : List Loc} (V : VV G A F0 F ws H0 H locs) : ∃ (v : Nat) (hh zz : Int32), va_at G.1 CL (a, ob 4 [.ref v, iV 0, .int hh, .int zz]) H ∧ BF G F v t := by
  rcases h with ⟨v, h1, h2⟩ | ⟨v, hh, zz, h1, h2⟩
  · obtain ⟨hh, zz, -, hc⟩ := V.fs h1
    exact ⟨v, hh, zz, hc, h2⟩
  · exact ⟨v, hh, zz, V.f h1, h2⟩
set_option maxHeartbeats 4000000 in
theorem ct_L_charAt (l : Launch) (G : gG) {F : fS} {Ha : Heap} (v : Nat) (t : List Nat) (h : BF G F v t) (i : Nat) (hi : i < t.length) (hp : Hp G F [] Ha) : CT l G yJ16_charAt cJ16_charAt 2 (some .char) 3 55 0 0 [.ref v, iV i] F [] Ha (fun rv F' w' => rv = some (iV (t.getD i 0 : Nat)) ∧ F = F' ∧ w' = []) := by
  refine z_of hp (Or.inl (by decide)) (Nat.le_of_ble_eq_true rfl) ?_
  intro p e s m below meth c ls hx hb hr hml hts hown hlk hnm hk hsH V hl
  have hl : lv_has ls 2 [(0, .ref v), (1, iV i)] := hl
  obtain ⟨hc, hl9, g, hv, hg⟩ := h
  have hd := ltD hc i
  refine lv_iload_n hx hb dJ16_charAt_0 rfl (lv_at hl 1 rfl) ?_
  refine lv_aload_n hx hb dJ16_charAt_1 rfl (lv_at hl 0 rfl) ?_
  refine z_blen hx hb hk (V.f hv) dJ16_charAt_2 ?_
  refine z_callS ⟨hx, hb, hml, hown, hts⟩ hk hl.1 V (wc := []) (wr := []) [] [] rfl rfl rfl rfl (by decide) (As := [iV i, iV (t.length : Nat)]) (rest := []) (fun hp => ct_S_checkIndex l G i t.length (by omega) hp) (va_cwS 2 hts (lw_S q992 q685 q81 q686) rfl rfl rfl (by decide +kernel) ⟨Nat.le_of_ble_eq_true rfl, Nat.le_of_ble_eq_true rfl⟩) rfl rfl (Nat.le_of_ble_eq_true rfl) dJ16_charAt_3 ⟨Nat.le_of_ble_eq_true rfl, Nat.le_of_ble_eq_true rfl⟩ (fun v F1 w1 H locs hq hle hou V => ?_)
  obtain ⟨rfl, rfl, rfl⟩ := hq
  refine W.eq (g2 := F0 m 6 ls []) rfl ?_
  have V : VV G _ _ F [] _ _ _ := V
  refine lv_aload_n hx hb dJ16_charAt_6 rfl (lv_at hl 0 rfl) ?_
  refine lv_iload_n hx hb dJ16_charAt_7 rfl (lv_at hl 1 rfl) ?_
  refine z_bald hx hb hk (V.f hv) i (by omega) dJ16_charAt_8 ?_
  rw [show g i = (t.getD i 0 : Nat) from hg i hi]
  refine lv_sipush (v := iZ 255) hx hb dJ16_charAt_9 (by decide) ?_
  refine z_and255 hx hb (by omega) dJ16_charAt_12 ?_
  refine lv_i2c (v := iZ (t.getD i 0 : Nat)) hx hb dJ16_charAt_13 (i2c_Z (by omega)) ?_
  exact z_iret hx hb hr hlk V (nr_char (by omega)) dJ16_charAt_14 ⟨rfl, rfl, rfl⟩ ⟨Nat.le_of_ble_eq_true rfl, Nat.le_of_ble_eq_true rfl⟩
set_option maxHeartbeats 4000000 in
theorem ct_S_charAt (l : Launch) (G : gG) {F : fS} {Ha : Heap} (a : Nat) (t : List Nat) (h : SF G F a t) (i : Nat) (hi : i < t.length) (hp : Hp G F [] Ha) : CT l G yJ6_charAt cJ6_charAt 2 (some .char) 4 76 0 0 [.ref a, iV i] F [] Ha (fun rv F' w' => rv = some (iV (t.getD i 0 : Nat)) ∧ F = F' ∧ w' = []) := by
  refine z_of hp (Or.inl (by decide)) (Nat.le_of_ble_eq_true rfl) ?_
  intro p e s m below meth c ls hx hb hr hml hts hown hlk hnm hk hsH V hl
  have hl : lv_has ls 2 [(0, .ref a), (1, iV i)] := hl
  obtain ⟨v, hh, zz, hat, hbf⟩ := SF.B h V
  refine lv_aload_n hx hb dJ6_charAt_0 rfl (lv_at hl 0 rfl) ?_
  refine z_callV ⟨hx, hb, hml, hown, hts⟩ hk hl.1 V (wc := []) (wr := []) [] [] rfl rfl rfl rfl (by decide) (As := []) (rest := []) (fun hp => ct_S_isLatin1 l G a t h hp) (cwV 0 hts (lw_V q985 q986 q987 q81 q988) rfl rfl rfl (by decide +kernel) ⟨Nat.le_of_ble_eq_true rfl, Nat.le_of_ble_eq_true rfl⟩) (z_rc hk hat (q := (RJ6, TJ6, 4)) rfl) rfl rfl (Nat.le_of_ble_eq_true rfl) dJ6_charAt_1 ⟨Nat.le_of_ble_eq_true rfl, Nat.le_of_ble_eq_true rfl⟩ (fun v F1 w1 H locs hq hle hou V => ?_)
  obtain ⟨rfl, rfl, rfl⟩ := hq
  refine W.eq (g2 := F0 m 4 ls [iV 1]) rfl ?_
  have V : VV G _ _ F [] _ _ _ := V
  refine z_if_eq (tgt := 16) hx hb (by omega) dJ6_charAt_4 (by decide) (fun c4 => by omega) (fun c4 => ?_)
  obtain ⟨v, hh, zz, hat, hbf⟩ := SF.B h V
  have hd := ltD hbf.1 i
  refine lv_aload_n hx hb dJ6_charAt_7 rfl (lv_at hl 0 rfl) ?_
  refine z_get hx hb hts hk hown K_J6 hat 0 (by decide) q850 (fun _ h => h) rfl dJ6_charAt_8 ?_
  refine lv_iload_n hx hb dJ6_charAt_11 rfl (lv_at hl 1 rfl) ?_
  refine z_callS ⟨hx, hb, hml, hown, hts⟩ hk hl.1 V (wc := []) (wr := []) [] [] rfl rfl rfl rfl (by decide) (As := [.ref v, iV i]) (rest := []) (fun hp => ct_L_charAt l G v t hbf i hi hp) (va_cwS 2 hts (lw_S q989 q990 q93 q991) rfl rfl rfl (by decide +kernel) ⟨Nat.le_of_ble_eq_true rfl, Nat.le_of_ble_eq_true rfl⟩) rfl rfl (Nat.le_of_ble_eq_true rfl) dJ6_charAt_12 ⟨Nat.le_of_ble_eq_true rfl, Nat.le_of_ble_eq_true rfl⟩ (fun v F1 w1 H locs hq hle hou V => ?_)
  obtain ⟨rfl, rfl, rfl⟩ := hq
  refine W.eq (g2 := F0 m 15 ls [iV (t.getD i 0 : Nat)]) rfl ?_
  have V : VV G _ _ F [] _ _ _ := V
  exact z_iret hx hb hr hlk V (nr_char (by omega)) dJ6_charAt_15 ⟨rfl, rfl, rfl⟩ ⟨Nat.le_of_ble_eq_true rfl, Nat.le_of_ble_eq_true rfl⟩
theorem z_acmp_ne {p : Program} {l : Launch} {e : Env} {R : Room} {s : State} {m : MethodId} {args : Array Value} {below : List Frame} {meth : Method} {c : Code} {H : Heap} {locs : List Loc} {cells slots : Nat} {Q : State → Prop} {cc : ByteArray} {pc : Nat} {ls : Array Slot} {rest : List Value} (hx : p.tables.exec = Jvm.exec) (hb : c.code = cc) {a b : Nat} {off : Int} {tgt : Nat} (hdg : decode cc pc = .ok (.if_acmp .ne off, 3)) (ht : (pc : Int) + off = (tgt : Int)) (k1 : a ≠ b → W p l e R s m args below meth c H locs cells slots Q (F0 m tgt ls rest)) (k2 : a = b → W p l e R s m args below meth c H locs cells slots Q (F0 m (pc + 3) ls rest)) : W p l e R s m args below meth c H locs cells slots Q (F0 m pc ls (.ref b :: .ref a :: rest)) :=
  lv_acmp_ne (rx := some a) (ry := some b) hx hb hdg ht (fun h => k1 (fun e => h (by rw [e]))) (fun h => k2 (Option.some.inj h))
theorem eq_of_upto {t u : List Nat} (hl : t.length = u.length) (h : ∀ i, i < t.length → t.getD i 0 = u.getD i 0) : t = u := by
  apply List.ext_getElem hl
  intro i h1 h2
  have := h i h1
  rw [List.getD_eq_getElem?_getD, List.getD_eq_getElem?_getD, List.getElem?_eq_getElem h1, List.getElem?_eq_getElem h2] at this
  exact this
set_option maxHeartbeats 4000000 in
theorem ct_L_equals (l : Launch) (G : gG) {F : fS} {Ha : Heap} (v u : Nat) (t r : List Nat) (h : BF G F v t) (h2 : BF G F u r) (hp : Hp G F [] Ha) : CT l G yJ16_equals cJ16_equals 3 (some .boolean) 1 12 0 0 [.ref v, .ref u] F [] Ha (fun rv F' w' => rv = some (iV (bZ (decide (t = r)))) ∧ F = F' ∧ w' = []) := by
  refine z_of hp (Or.inl (by decide)) (Nat.le_of_ble_eq_true rfl) ?_
  intro p e s m below meth c ls hx hb hr hml hts hown hlk hnm hk hsH V hl
  have hl : lv_has ls 3 [(0, .ref v), (1, .ref u)] := hl
  obtain ⟨hc1, hl91, g1, hv1, hg1⟩ := h
  obtain ⟨hc2, hl92, g2, hv2, hg2⟩ := h2
  refine lv_aload_n hx hb dJ16_equals_0 rfl (lv_at hl 0 rfl) ?_
  refine z_blen hx hb hk (V.f hv1) dJ16_equals_1 ?_
  refine lv_aload_n hx hb dJ16_equals_2 rfl (lv_at hl 1 rfl) ?_
  refine z_blen hx hb hk (V.f hv2) dJ16_equals_3 ?_
  refine z_icmp_ne (tgt := 34) hx hb (by omega) dJ16_equals_4 (by decide) (fun c4 => ?_) (fun c4 => ?_)
  · skip
    refine lv_iconst (v := iZ 0) hx hb dJ16_equals_34 rfl ?_
    exact z_iret hx hb hr hlk V rfl dJ16_equals_35 ⟨by rw [decide_eq_false (fun e => by rw [e] at c4; exact c4 rfl)]; rfl, rfl, rfl⟩ ⟨Nat.le_of_ble_eq_true rfl, Nat.le_of_ble_eq_true rfl⟩
  · skip
    have hlen : t.length = r.length := by omega
    refine lv_iconst (v := iZ 0) hx hb dJ16_equals_7 rfl ?_
    refine lv_istore_n (lv' := [(2, iV 0), (0, .ref v), (1, .ref u)]) hx hb dJ16_equals_8 rfl hl (by decide) rfl (fun ls hl => ?_)
    have loop : ∀ (n : Nat) (i : Nat) (H : Heap) (locs : List Loc) (ls : Array Slot), t.length - i < n → (i ≤ t.length) → (∀ j, j < i → t.getD j 0 = r.getD j 0) → VV G (FR F [] Ha) F F [] Ha H locs → lv_has ls 3 [(0, .ref v), (1, .ref u), (2, iV (i : Nat))] → W p l e ({ frames := 1, cells := 0, slots := 0, locals := 12 } : Room) s m [.ref v, .ref u].toArray below meth c H locs 0 0 (MQ below (Qz G F [] Ha (fun rv F' w' => rv = some (iV (bZ (decide (t = r)))) ∧ F = F' ∧ w' = [])) [.ref v, .ref u].toArray s 0 0 (FR F [] Ha)) (F0 m 9 ls []) := by
      intro n
      induction n with
      | zero => intro i H locs ls hm9; exact absurd hm9 (Nat.not_lt_zero _)
      | succ n ih_loop =>
        intro i H locs ls hm9 hi heq V hl
        refine lv_iload_n hx hb dJ16_equals_9 rfl (lv_at hl 2 rfl) ?_
        refine lv_aload_n hx hb dJ16_equals_10 rfl (lv_at hl 0 rfl) ?_
        refine z_blen hx hb hk (V.f hv1) dJ16_equals_11 ?_
        refine z_icmp_ge (tgt := 32) hx hb (by omega) dJ16_equals_12 (by decide) (fun c12 => ?_) (fun c12 => ?_)
        · skip
          refine lv_iconst (v := iZ 1) hx hb dJ16_equals_32 rfl ?_
          exact z_iret hx hb hr hlk V rfl dJ16_equals_33 ⟨by rw [decide_eq_true (eq_of_upto hlen (fun j hj => heq j (by omega)))]; rfl, rfl, rfl⟩ ⟨Nat.le_of_ble_eq_true rfl, Nat.le_of_ble_eq_true rfl⟩
        · skip
          have d1 := ltD hc1 i
          have d2 := ltD hc2 i
          refine lv_aload_n hx hb dJ16_equals_15 rfl (lv_at hl 0 rfl) ?_
          refine lv_iload_n hx hb dJ16_equals_16 rfl (lv_at hl 2 rfl) ?_
          refine z_bald hx hb hk (V.f hv1) i (by omega) dJ16_equals_17 ?_
          rw [show g1 i = (t.getD i 0 : Nat) from hg1 i (by omega)]
          refine lv_aload_n hx hb dJ16_equals_18 rfl (lv_at hl 1 rfl) ?_
          refine lv_iload_n hx hb dJ16_equals_19 rfl (lv_at hl 2 rfl) ?_
          refine z_bald hx hb hk (V.f hv2) i (by omega) dJ16_equals_20 ?_
          rw [show g2 i = (r.getD i 0 : Nat) from hg2 i (by omega)]
          refine z_icmp_eq (tgt := 26) hx hb (by omega) dJ16_equals_21 (by decide) (fun c21 => ?_) (fun c21 => ?_)
          · skip
            refine lv_iinc (v := iZ ((i : Nat) + 1)) (lv' := [(2, iV ((i : Nat) + 1)), (0, .ref v), (1, .ref u)]) hx hb dJ16_equals_26 hl (k := 2) rfl (iZ_add _ _) (by decide) rfl (fun ls hl => ?_)
            refine lv_goto (tgt := 9) hx hb dJ16_equals_29 (by decide) ?_
            exact ih_loop (i + 1) _ _ _ (by omega) (by omega) (fun j hj => (Nat.lt_or_eq_of_le (Nat.le_of_lt_succ hj)).elim (heq j) (fun e => by rw [e]; omega)) V (lv_sub hl [1, 2, 0] rfl)
          · skip
            refine lv_iconst (v := iZ 0) hx hb dJ16_equals_24 rfl ?_
            exact z_iret hx hb hr hlk V rfl dJ16_equals_25 ⟨by rw [decide_eq_false (fun e => by rw [e] at c21; exact c21 rfl)]; rfl, rfl, rfl⟩ ⟨Nat.le_of_ble_eq_true rfl, Nat.le_of_ble_eq_true rfl⟩
    exact loop _ 0 _ _ _ (Nat.lt_succ_self _) (Nat.zero_le _) (fun j hj => absurd hj (Nat.not_lt_zero j)) V (lv_sub hl [1, 2, 0] rfl)
theorem BF.eq {G : gG} {F : fS} {v : Nat} {t r : List Nat} (h : BF G F v t) (h2 : BF G F v r) : t = r := by
  obtain ⟨c1, l1, g, hv, hg⟩ := h
  obtain ⟨c2, l2, g', hv', hg'⟩ := h2
  have e := Option.some.inj (hv.symm.trans hv')
  simp only [aB, Sum.inl.injEq, Prod.mk.injEq, true_and] at e
  refine eq_of_upto e.1 fun i hi => ?_
  have e2 : iZ (g i) = iZ (g' i) := congrFun e.2 i
  rw [hg i hi, hg' i (by omega)] at e2
  have e3 := congrArg Int32.toInt e2
  have d1 := ltD c1 i
  have d2 := ltD c2 i
  rw [iZ_toInt (by omega), iZ_toInt (by omega)] at e3
  omega
theorem SF.eq {G : gG} {F : fS} {a : Nat} {t r : List Nat} (h : SF G F a t) (h2 : SF G F a r) : t = r := by
  rcases h with ⟨v, h1, h3⟩ | ⟨v, x, y, h1, h3⟩ <;> rcases h2 with ⟨v', h1', h3'⟩ | ⟨v', x', y', h1', h3'⟩
  · have e := Option.some.inj (h1.symm.trans h1')
    simp only [Sum.inr.injEq, Sum.inl.injEq, Prod.mk.injEq] at e
    rw [← e.1] at h3'
    exact h3.eq h3'
  · have e := Option.some.inj (h1.symm.trans h1')
    cases e
  · have e := Option.some.inj (h1.symm.trans h1')
    cases e
  · have e := Option.some.inj (h1.symm.trans h1')
    simp only [ob, Sum.inr.injEq, Sum.inl.injEq, Prod.mk.injEq, List.cons.injEq, Value.ref.injEq] at e
    rw [← e.2.1] at h3'
    exact h3.eq h3'
set_option maxHeartbeats 4000000 in
theorem ct_S_equals (l : Launch) (G : gG) {F : fS} {Ha : Heap} (a b : Nat) (t r : List Nat) (h : SF G F a t) (h2 : SF G F b r) (hp : Hp G F [] Ha) : CT l G yJ6_equals cJ6_equals 3 (some .boolean) 2 34 0 0 [.ref a, .ref b] F [] Ha (fun rv F' w' => rv = some (iV (bZ (decide (t = r)))) ∧ F = F' ∧ w' = []) := by
  refine z_of hp (Or.inl (by decide)) (Nat.le_of_ble_eq_true rfl) ?_
  intro p e s m below meth c ls hx hb hr hml hts hown hlk hnm hk hsH V hl
  have hl : lv_has ls 3 [(0, .ref a), (1, .ref b)] := hl
  refine lv_aload_n hx hb dJ6_equals_0 rfl (lv_at hl 0 rfl) ?_
  refine lv_aload_n hx hb dJ6_equals_1 rfl (lv_at hl 1 rfl) ?_
  refine z_acmp_ne (tgt := 7) hx hb dJ6_equals_2 (by decide) (fun hne => ?_) (fun he => ?_)
  · skip
    obtain ⟨v1, hh1, zz1, hat1, hbf1⟩ := SF.B h V
    obtain ⟨v2, hh2, zz2, hat2, hbf2⟩ := SF.B h2 V
    refine lv_aload_n hx hb dJ6_equals_7 rfl (lv_at hl 1 rfl) ?_
    refine va_instE hx hb hown (hts _ q1101) (z_rc hk hat2 (q := (RJ6, TJ6, 4)) rfl) dJ6_equals_8 ?_
    refine W.eq (g2 := F0 m 11 ls [iV 1]) rfl ?_
    refine z_if_eq (tgt := 54) hx hb (by omega) dJ6_equals_11 (by decide) (fun c11 => by omega) (fun c11 => ?_)
    refine lv_aload_n hx hb dJ6_equals_14 rfl (lv_at hl 1 rfl) ?_
    refine z_castE hx hb hts hown q1101 (z_rc hk hat2 (q := (RJ6, TJ6, 4)) rfl) dJ6_equals_15 ?_
    refine lv_astore_n (lv' := [(2, .ref b), (0, .ref a), (1, .ref b)]) hx hb dJ6_equals_18 rfl hl (by decide) rfl (fun ls hl => ?_)
    refine z_gets hx hb hts V (hk.Zs 1 rfl) hown q808 (fun _ h => h) dJ6_equals_19 ?_
    refine z_if_eq (tgt := 36) hx hb (by omega) dJ6_equals_22 (by decide) (fun c22 => by omega) (fun c22 => ?_)
    refine lv_aload_n hx hb dJ6_equals_25 rfl (lv_at hl 1 rfl) ?_
    refine z_get hx hb hts hk hown K_J6 hat1 1 (by decide) q851 (fun _ h => h) rfl dJ6_equals_26 ?_
    refine lv_aload_n hx hb dJ6_equals_29 rfl (lv_at hl 0 rfl) ?_
    refine z_get hx hb hts hk hown K_J6 hat2 1 (by decide) q851 (fun _ h => h) rfl dJ6_equals_30 ?_
    refine z_icmp_ne (tgt := 54) hx hb (by omega) dJ6_equals_33 (by decide) (fun c33 => by omega) (fun c33 => ?_)
    refine lv_aload_n hx hb dJ6_equals_36 rfl (lv_at hl 1 rfl) ?_
    refine z_get hx hb hts hk hown K_J6 hat1 0 (by decide) q850 (fun _ h => h) rfl dJ6_equals_37 ?_
    refine lv_aload_n hx hb dJ6_equals_40 rfl (lv_at hl 0 rfl) ?_
    refine z_get hx hb hts hk hown K_J6 hat2 0 (by decide) q850 (fun _ h => h) rfl dJ6_equals_41 ?_
    refine z_callS ⟨hx, hb, hml, hown, hts⟩ hk hl.1 V (wc := []) (wr := []) [] [] rfl rfl rfl rfl (by decide) (As := [.ref v1, .ref v2]) (rest := []) (fun hp => ct_L_equals l G v1 v2 t r hbf1 hbf2 hp) (va_cwS 2 hts (lw_S q1102 q1103 q93 q1104) rfl rfl rfl (by decide +kernel) ⟨Nat.le_of_ble_eq_true rfl, Nat.le_of_ble_eq_true rfl⟩) rfl rfl (Nat.le_of_ble_eq_true rfl) dJ6_equals_44 ⟨Nat.le_of_ble_eq_true rfl, Nat.le_of_ble_eq_true rfl⟩ (fun v F1 w1 H locs hq hle hou V => ?_)
    obtain ⟨rfl, rfl, rfl⟩ := hq
    refine W.eq (g2 := F0 m 47 ls [iV (bZ (decide (t = r)))]) rfl ?_
    have V : VV G _ _ F [] _ _ _ := V
    have hbz : bZ (decide (t = r)) = 0 ∨ bZ (decide (t = r)) = 1 := by unfold bZ; split <;> simp
    refine z_if_eq (tgt := 54) hx hb (by omega) dJ6_equals_47 (by decide) (fun c47 => ?_) (fun c47 => ?_)
    · skip
      refine lv_iconst (v := iZ 0) hx hb dJ6_equals_54 rfl ?_
      exact z_iret hx hb hr hlk V rfl dJ6_equals_55 ⟨by rw [c47], rfl, rfl⟩ ⟨Nat.le_of_ble_eq_true rfl, Nat.le_of_ble_eq_true rfl⟩
    · skip
      refine lv_iconst (v := iZ 1) hx hb dJ6_equals_50 rfl ?_
      refine lv_goto (tgt := 55) hx hb dJ6_equals_51 (by decide) ?_
      exact z_iret hx hb hr hlk V rfl dJ6_equals_55 ⟨by rw [show bZ (decide (t = r)) = 1 by omega], rfl, rfl⟩ ⟨Nat.le_of_ble_eq_true rfl, Nat.le_of_ble_eq_true rfl⟩
  · skip
    refine lv_iconst (v := iZ 1) hx hb dJ6_equals_5 rfl ?_
    exact z_iret hx hb hr hlk V rfl dJ6_equals_6 ⟨by rw [decide_eq_true (SF.eq (he ▸ h) h2)]; rfl, rfl, rfl⟩ ⟨Nat.le_of_ble_eq_true rfl, Nat.le_of_ble_eq_true rfl⟩
