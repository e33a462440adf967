/-! JDK: StringBuilder (printed by gen/jdk4.py) -/
set_option maxRecDepth 100000
/-- an owned StringBuilder: its text (at most 400 letters below 128), its array -/
def BW (G : gG) (a : Nat) (t : List Nat) (w : va_W) : Prop := ∃ (v n : Nat) (g : Nat → Int) (ml : Int), (∀ c ∈ t, c < 128) ∧ t.length ≤ 400 ∧ t.length ≤ n ∧ n ≤ 818 ∧ (∀ i, i < t.length → g i = (t.getD i 0 : Nat)) ∧ (∀ i, i < n → -128 ≤ g i ∧ g i < 128) ∧ (0 ≤ ml ∧ ml ≤ 1) ∧ w = [(a, ob 3 [.ref v, iV 0, iV ml, iV (t.length : Int)]), (v, aB G n g)]
theorem BW.cell {G : gG} {a : Nat} {t : List Nat} {w : va_W} (h : BW G a t w) : ∃ fs, (a, ob 3 fs) ∈ w := by
  obtain ⟨v, n, g, ml, -, -, -, -, -, -, -, rfl⟩ := h
  exact ⟨_, List.mem_cons_self⟩
set_option maxHeartbeats 4000000 in
theorem ct_SB_init4 (l : Launch) (G : gG) {F : fS} {Ha : Heap} (a : Nat) (hp : Hp G F [(a, ob 3 [.null, iV 0, iV 0, iV 0])] Ha) : CT l G yJ4_init cJ4_init 2 none 1 40 1 16 [.ref a, iV 16] F [(a, ob 3 [.null, iV 0, iV 0, iV 0])] Ha (fun v F' w' => v = none ∧ F = F' ∧ BW G a [] w') := by
  refine z_of hp (Or.inl (by decide)) (Nat.le_of_ble_eq_true rfl) ?_
  intro p e s m below meth c ls hx hb hr hml hts hown hlk hnm hk hsH V hl
  have hl : lv_has ls 2 [(0, .ref a), (1, iV 16)] := hl
  refine lv_aload_n hx hb dJ4_init_0 rfl (lv_at hl 0 rfl) ?_
  refine W.objInit hx hb hown (hts _ q227) (hts _ q138) (hts _ q139) rfl (by rw [hml]; exact hl.1) rfl dJ4_init_1 (Nat.le_of_ble_eq_true rfl) (Nat.le_of_ble_eq_true rfl) ?_
  refine W.eq (g2 := F0 m 4 ls []) rfl ?_
  refine z_gets hx hb hts V (hk.Zs 1 rfl) hown q228 (fun _ h => h) dJ4_init_4 ?_
  refine z_if_eq (tgt := 25) hx hb (by omega) dJ4_init_7 (by decide) (fun c7 => by omega) (fun c7 => ?_)
  refine lv_aload_n hx hb dJ4_init_10 rfl (lv_at hl 0 rfl) ?_
  refine lv_iload_n hx hb dJ4_init_11 rfl (lv_at hl 1 rfl) ?_
  refine z_newB (n := 16) hx hb hts hk V q251 (by omega) (Nat.le_of_ble_eq_true rfl) (Nat.le_of_ble_eq_true rfl) dJ4_init_12 (fun r_1 H V => ?_)
  have V : VV G _ _ F [(a, ob 3 [.null, iV 0, iV 0, iV 0]), (r_1, aB G 16 (fun _ => 0))] _ _ _ := V
  refine z_put hx hb hts hk V hown K_J5 0 rfl 0 (by decide) q237 (fun _ h => h) rfl rfl rfl (Nat.le_of_ble_eq_true rfl) dJ4_init_14 (fun H locs V => ?_)
  have V : VV G _ _ F [(a, ob 3 [.ref r_1, iV 0, iV 0, iV 0]), (r_1, aB G 16 (fun _ => 0))] _ _ _ := V
  refine lv_aload_n hx hb dJ4_init_17 rfl (lv_at hl 0 rfl) ?_
  refine lv_iconst (v := iZ 0) hx hb dJ4_init_18 rfl ?_
  refine z_put hx hb hts hk V hown K_J5 0 rfl 1 (by decide) q238 (fun _ h => h) rfl rfl rfl (Nat.le_of_ble_eq_true rfl) dJ4_init_19 (fun H locs V => ?_)
  have V : VV G _ _ F [(a, ob 3 [.ref r_1, iV 0, iV 0, iV 0]), (r_1, aB G 16 (fun _ => 0))] _ _ _ := V
  refine lv_goto (tgt := 38) hx hb dJ4_init_22 (by decide) ?_
  exact z_vret hx hb hr hlk V dJ4_init_38 ⟨rfl, rfl, ⟨r_1, 16, fun _ => 0, 0, by simp, by simp, by simp, by omega, (fun i hi => absurd hi (Nat.not_lt_zero i)), (fun i hi => by simp), by omega, rfl⟩⟩ ⟨Nat.le_of_ble_eq_true rfl, Nat.le_of_ble_eq_true rfl⟩
set_option maxHeartbeats 4000000 in
theorem ct_SB_init (l : Launch) (G : gG) {F : fS} {Ha : Heap} (a : Nat) (hp : Hp G F [(a, ob 3 [.null, iV 0, iV 0, iV 0])] Ha) : CT l G yJ5_init cJ5_init 1 none 2 61 1 16 [.ref a] F [(a, ob 3 [.null, iV 0, iV 0, iV 0])] Ha (fun v F' w' => v = none ∧ F = F' ∧ BW G a [] w') := by
  refine z_of hp (Or.inl (by decide)) (Nat.le_of_ble_eq_true rfl) ?_
  intro p e s m below meth c ls hx hb hr hml hts hown hlk hnm hk hsH V hl
  have hl : lv_has ls 1 [(0, .ref a)] := hl
  refine lv_aload_n hx hb dJ5_init_0 rfl (lv_at hl 0 rfl) ?_
  refine lv_bipush (v := iZ 16) hx hb dJ5_init_1 (by decide) ?_
  refine z_callI ⟨hx, hb, hml, hown, hts⟩ hk hl.1 V (wc := [(a, ob 3 [.null, iV 0, iV 0, iV 0])]) (wr := []) [0] [] rfl rfl rfl rfl (by decide) (As := [iV 16]) (rest := []) (fun hp => ct_SB_init4 l G a hp) (cwI 1 hts (lw_meth q226) rfl rfl rfl (hts _ q79) (hts _ q224) (hts _ q225) rfl (by decide +kernel) ⟨Nat.le_of_ble_eq_true rfl, Nat.le_of_ble_eq_true rfl⟩) rfl rfl (Nat.le_of_ble_eq_true rfl) dJ5_init_3 ⟨Nat.le_of_ble_eq_true rfl, Nat.le_of_ble_eq_true rfl⟩ (fun v F1 w1 H locs hq hle hou V => ?_)
  obtain ⟨rfl, rfl, hbw⟩ := hq
  have V := VV.asc (z := []) (t := w1) V
  refine W.eq (g2 := F0 m 6 ls []) rfl ?_
  have V : VV G _ _ F ([] ++ w1) _ _ _ := V
  exact z_vret hx hb hr hlk V dJ5_init_6 ⟨rfl, rfl, hbw⟩ ⟨Nat.le_of_ble_eq_true rfl, Nat.le_of_ble_eq_true rfl⟩
set_option maxHeartbeats 4000000 in
theorem ct_SB_isLatin1 (l : Launch) (G : gG) {F : fS} {Ha : Heap} (a v : Nat) (ml k : Int) (hp : Hp G F [(a, ob 3 [.ref v, iV 0, iV ml, iV k])] Ha) : CT l G yJ4_isLatin1 cJ4_isLatin1 1 (some .boolean) 1 12 0 0 [.ref a] F [(a, ob 3 [.ref v, iV 0, iV ml, iV k])] Ha (fun rv F' w' => rv = some (iV 1) ∧ F = F' ∧ w' = [(a, ob 3 [.ref v, iV 0, iV ml, iV k])]) := by
  refine z_of hp (Or.inl (by decide)) (Nat.le_of_ble_eq_true rfl) ?_
  intro p e s m below meth c ls hx hb hr hml hts hown hlk hnm hk hsH V hl
  have hl : lv_has ls 1 [(0, .ref a)] := hl
  refine z_gets hx hb hts V (hk.Zs 1 rfl) hown q228 (fun _ h => h) dJ4_isLatin1_0 ?_
  refine z_if_eq (tgt := 17) hx hb (by omega) dJ4_isLatin1_3 (by decide) (fun c3 => by omega) (fun c3 => ?_)
  refine lv_aload_n hx hb dJ4_isLatin1_6 rfl (lv_at hl 0 rfl) ?_
  refine z_get hx hb hts hk hown K_J5 (V.w 0 rfl) 1 (by decide) q238 (fun _ h => h) rfl dJ4_isLatin1_7 ?_
  refine z_if_ne (tgt := 17) hx hb (by omega) dJ4_isLatin1_10 (by decide) (fun c10 => by omega) (fun c10 => ?_)
  refine lv_iconst (v := iZ 1) hx hb dJ4_isLatin1_13 rfl ?_
  refine lv_goto (tgt := 18) hx hb dJ4_isLatin1_14 (by decide) ?_
  exact z_iret hx hb hr hlk V rfl dJ4_isLatin1_18 ⟨rfl, rfl, rfl⟩ ⟨Nat.le_of_ble_eq_true rfl, Nat.le_of_ble_eq_true rfl⟩
set_option maxHeartbeats 4000000 in
theorem ct_L_canEncode (l : Launch) (G : gG) {F : fS} {Ha : Heap} (x : Int) (hrg : 0 ≤ x ∧ x < 256) (hp : Hp G F [] Ha) : CT l G yJ16_canEncode cJ16_canEncode 1 (some .boolean) 1 12 0 0 [iV x] F [] Ha (fun rv F' w' => rv = some (iV 1) ∧ F = F' ∧ w' = []) := by
  refine z_of hp (Or.inl (by decide)) (Nat.le_of_ble_eq_true rfl) ?_
  intro p e s m below meth c ls hx hb hr hml hts hown hlk hnm hk hsH V hl
  have hl : lv_has ls 1 [(0, iV x)] := hl
  refine lv_iload_n hx hb dJ16_canEncode_0 rfl (lv_at hl 0 rfl) ?_
  refine lv_sipush (v := iZ 255) hx hb dJ16_canEncode_1 (by decide) ?_
  refine z_icmp_gt (tgt := 11) hx hb (by omega) dJ16_canEncode_4 (by decide) (fun c4 => by omega) (fun c4 => ?_)
  refine lv_iconst (v := iZ 1) hx hb dJ16_canEncode_7 rfl ?_
  refine lv_goto (tgt := 12) hx hb dJ16_canEncode_8 (by decide) ?_
  exact z_iret hx hb hr hlk V rfl dJ16_canEncode_12 ⟨rfl, rfl, rfl⟩ ⟨Nat.le_of_ble_eq_true rfl, Nat.le_of_ble_eq_true rfl⟩
set_option maxHeartbeats 4000000 in
theorem ct_newLength (l : Launch) (G : gG) {F : fS} {Ha : Heap} (o x y : Int) (hrg : 0 ≤ o ∧ o ≤ 100000 ∧ 0 ≤ x ∧ x ≤ 100000 ∧ 0 ≤ y ∧ y ≤ 100000 ∧ 0 < o + max x y) (hp : Hp G F [] Ha) : CT l G yJ13_newLength cJ13_newLength 4 (some .int) 2 33 0 0 [iV o, iV x, iV y] F [] Ha (fun rv F' w' => rv = some (iV (o + max x y)) ∧ F = F' ∧ w' = []) := by
  refine z_of hp (Or.inl (by decide)) (Nat.le_of_ble_eq_true rfl) ?_
  intro p e s m below meth c ls hx hb hr hml hts hown hlk hnm hk hsH V hl
  have hl : lv_has ls 4 [(0, iV o), (1, iV x), (2, iV y)] := hl
  refine lv_iload_n hx hb dJ13_newLength_0 rfl (lv_at hl 0 rfl) ?_
  refine lv_iload_n hx hb dJ13_newLength_1 rfl (lv_at hl 1 rfl) ?_
  refine lv_iload_n hx hb dJ13_newLength_2 rfl (lv_at hl 2 rfl) ?_
  refine z_callS ⟨hx, hb, hml, hown, hts⟩ hk hl.1 V (wc := []) (wr := []) [] [] rfl rfl rfl rfl (by decide) (As := [iV x, iV y]) (rest := [iV o]) (fun hp => ct_max l G x y (by omega) hp) (va_cwS 2 hts (lw_S q478 q479 q90 q480) rfl rfl rfl (by decide +kernel) ⟨Nat.le_of_ble_eq_true rfl, Nat.le_of_ble_eq_true rfl⟩) rfl rfl (Nat.le_of_ble_eq_true rfl) dJ13_newLength_3 ⟨Nat.le_of_ble_eq_true rfl, Nat.le_of_ble_eq_true rfl⟩ (fun v F1 w1 H locs hq hle hou V => ?_)
  obtain ⟨rfl, rfl, rfl⟩ := hq
  refine W.eq (g2 := F0 m 6 ls [iV (max x y), iV o]) rfl ?_
  have V : VV G _ _ F [] _ _ _ := V
  refine z_iadd hx hb dJ13_newLength_6 ?_
  refine lv_istore_n (lv' := [(3, iV (o + (max x y))), (0, iV o), (1, iV x), (2, iV y)]) hx hb dJ13_newLength_7 rfl hl (by decide) rfl (fun ls hl => ?_)
  refine lv_iconst (v := iZ 0) hx hb dJ13_newLength_8 rfl ?_
  refine lv_iload_n hx hb dJ13_newLength_9 rfl (lv_at hl 0 rfl) ?_
  refine z_icmp_ge (tgt := 21) hx hb (by omega) dJ13_newLength_10 (by decide) (fun c10 => by omega) (fun c10 => ?_)
  refine lv_iload_n hx hb dJ13_newLength_13 rfl (lv_at hl 0 rfl) ?_
  refine lv_ldc (v := iZ 2147483639) hx hb hown (hts _ q481) dJ13_newLength_14 ?_
  refine z_icmp_gt (tgt := 21) hx hb (by omega) dJ13_newLength_16 (by decide) (fun c16 => by omega) (fun c16 => ?_)
  refine lv_iload_n hx hb dJ13_newLength_19 rfl (lv_at hl 0 rfl) ?_
  exact z_iret hx hb hr hlk V rfl dJ13_newLength_20 ⟨rfl, rfl, rfl⟩ ⟨Nat.le_of_ble_eq_true rfl, Nat.le_of_ble_eq_true rfl⟩
set_option maxHeartbeats 4000000 in
theorem ct_copyOfB (l : Launch) (G : gG) {F : fS} {Ha : Heap} (v n k : Nat) (g : Nat → Int) (hnk : n < k) (hk9 : k ≤ 1000) (hbd : ∀ i, i < n → -128 ≤ g i ∧ g i < 128) (hp : Hp G F [(v, aB G n g)] Ha) : CT l G yJ15_copyOf_3 cJ15_copyOf_3 3 (some (.array .byte)) 2 60 1 k [.ref v, iV (k : Nat)] F [(v, aB G n g)] Ha (fun v' F' w' => ∃ r : Nat, v' = some (.ref r) ∧ F = F' ∧ w' = [(v, aB G n g), (r, aB G k (va_cpy g (fun _ => 0) 0 0 n))]) := by
  refine z_of hp (Or.inl (by decide)) (Nat.le_of_ble_eq_true rfl) ?_
  intro p e s m below meth c ls hx hb hr hml hts hown hlk hnm hk hsH V hl
  have hl : lv_has ls 3 [(0, .ref v), (1, iV (k : Nat))] := hl
  refine lv_iload_n hx hb dJ15_copyOf_3_0 rfl (lv_at hl 1 rfl) ?_
  refine lv_aload_n hx hb dJ15_copyOf_3_1 rfl (lv_at hl 0 rfl) ?_
  refine z_blen hx hb hk (V.w 0 rfl) dJ15_copyOf_3_2 ?_
  refine z_icmp_ne (tgt := 14) hx hb (by omega) dJ15_copyOf_3_3 (by decide) (fun c3 => ?_) (fun c3 => by omega)
  refine lv_iload_n hx hb dJ15_copyOf_3_14 rfl (lv_at hl 1 rfl) ?_
  refine z_newB (n := k) hx hb hts hk V q251 (by omega) (Nat.le_of_ble_eq_true rfl) (by first | omega | (dsimp only; omega)) dJ15_copyOf_3_15 (fun r_1 H V => ?_)
  have V : VV G _ _ F [(v, aB G n g), (r_1, aB G k (fun _ => 0))] _ _ _ := V
  refine lv_astore_n (lv' := [(2, .ref r_1), (0, .ref v), (1, iV (k : Nat))]) hx hb dJ15_copyOf_3_17 rfl hl (by decide) rfl (fun ls hl => ?_)
  refine lv_aload_n hx hb dJ15_copyOf_3_18 rfl (lv_at hl 1 rfl) ?_
  refine lv_iconst (v := iZ 0) hx hb dJ15_copyOf_3_19 rfl ?_
  refine lv_aload_n hx hb dJ15_copyOf_3_20 rfl (lv_at hl 0 rfl) ?_
  refine lv_iconst (v := iZ 0) hx hb dJ15_copyOf_3_21 rfl ?_
  refine lv_aload_n hx hb dJ15_copyOf_3_22 rfl (lv_at hl 1 rfl) ?_
  refine z_blen hx hb hk (V.w 0 rfl) dJ15_copyOf_3_23 ?_
  refine lv_iload_n hx hb dJ15_copyOf_3_24 rfl (lv_at hl 2 rfl) ?_
  refine z_callS ⟨hx, hb, hml, hown, hts⟩ hk hl.1 V (wc := []) (wr := [(v, aB G n g), (r_1, aB G k (fun _ => 0))]) [] [0, 1] rfl rfl rfl rfl (by decide) (As := [iV (n : Nat), iV (k : Nat)]) (rest := [iV 0, .ref r_1, iV 0, .ref v]) (fun hp => ct_min l G n k (by omega) hp) (va_cwS 2 hts (lw_S q536 q537 q90 q538) rfl rfl rfl (by decide +kernel) ⟨Nat.le_of_ble_eq_true rfl, Nat.le_of_ble_eq_true rfl⟩) rfl rfl (Nat.le_of_ble_eq_true rfl) dJ15_copyOf_3_25 ⟨by first | omega | (dsimp only; omega), by first | omega | (dsimp only; omega)⟩ (fun v F1 w1 H locs hq hle hou V => ?_)
  obtain ⟨rfl, rfl, rfl⟩ := hq
  refine W.eq (g2 := F0 m 28 ls [iV (min (n : Int) k), iV 0, .ref r_1, iV 0, .ref v]) rfl ?_
  have V : VV G _ _ F [(v, aB G n g), (r_1, aB G k (fun _ => 0))] _ _ _ := V
  rw [show min (n : Int) k = ((n : Nat) : Int) by omega]
  refine z_copyB (i := 0) (j := 0) (k := n) hx hb (by rw [hml]; exact hl.1.symm) hts hk V hown q539 (V.w 0 rfl) 1 rfl (by omega) (fun z hz => hbd _ (by omega)) (Nat.le_of_ble_eq_true rfl) (Nat.le_of_ble_eq_true rfl) dJ15_copyOf_3_28 (fun H locs V => ?_)
  have V : VV G _ _ F [(v, aB G n g), (r_1, aB G k (va_cpy g (fun _ => 0) 0 0 n))] _ _ _ := V
  refine W.eq (g2 := F0 m 31 ls []) rfl ?_
  refine lv_aload_n hx hb dJ15_copyOf_3_31 rfl (lv_at hl 0 rfl) ?_
  exact z_aret hx hb hr hlk V (Or.inr ⟨_, rfl⟩) (Or.inr ⟨_, rfl⟩) dJ15_copyOf_3_32 ⟨r_1, rfl, rfl, rfl⟩ ⟨by omega, by omega⟩
theorem cpyB {n : Nat} {g : Nat → Int} (h : ∀ i, i < n → -128 ≤ g i ∧ g i < 128) (k i : Nat) (hi : i < k) : -128 ≤ va_cpy g (fun _ => 0) 0 0 n i ∧ va_cpy g (fun _ => 0) 0 0 n i < 128 := by
  unfold va_cpy
  split
  · exact h _ (by omega)
  · simp
set_option maxHeartbeats 4000000 in
theorem ct_SB_newCap (l : Launch) (G : gG) {F : fS} {Ha : Heap} (a v n : Nat) (g : Nat → Int) (ml k m0 : Int) (hrg : (n : Int) < m0 ∧ m0 ≤ 400) (hp : Hp G F [(a, ob 3 [.ref v, iV 0, iV ml, iV k]), (v, aB G n g)] Ha) : CT l G yJ4_newCapacity cJ4_newCapacity 6 (some .int) 3 56 0 0 [.ref a, iV m0] F [(a, ob 3 [.ref v, iV 0, iV ml, iV k]), (v, aB G n g)] Ha (fun rv F' w' => rv = some (iV ((n : Int) + max (m0 - n) (n + 2))) ∧ F = F' ∧ w' = [(a, ob 3 [.ref v, iV 0, iV ml, iV k]), (v, aB G n g)]) := by
  refine z_of hp (Or.inl (by decide)) (Nat.le_of_ble_eq_true rfl) ?_
  intro p e s m below meth c ls hx hb hr hml hts hown hlk hnm hk hsH V hl
  have hl : lv_has ls 6 [(0, .ref a), (1, iV m0)] := hl
  refine lv_aload_n hx hb dJ4_newCapacity_0 rfl (lv_at hl 0 rfl) ?_
  refine z_get hx hb hts hk hown K_J5 (V.w 0 rfl) 0 (by decide) q237 (fun _ h => h) rfl dJ4_newCapacity_1 ?_
  refine z_blen hx hb hk (V.w 1 rfl) dJ4_newCapacity_4 ?_
  refine lv_istore_n (lv' := [(2, iV (n : Nat)), (0, .ref a), (1, iV m0)]) hx hb dJ4_newCapacity_5 rfl hl (by decide) rfl (fun ls hl => ?_)
  refine lv_iload_n hx hb dJ4_newCapacity_6 rfl (lv_at hl 2 rfl) ?_
  refine lv_aload_n hx hb dJ4_newCapacity_7 rfl (lv_at hl 1 rfl) ?_
  refine z_get hx hb hts hk hown K_J5 (V.w 0 rfl) 1 (by decide) q238 (fun _ h => h) rfl dJ4_newCapacity_8 ?_
  refine z_ishl0 hx hb dJ4_newCapacity_11 ?_
  refine lv_istore_n (lv' := [(3, iV m0), (2, iV (n : Nat)), (0, .ref a), (1, iV m0)]) hx hb dJ4_newCapacity_12 rfl hl (by decide) rfl (fun ls hl => ?_)
  refine lv_iload_n hx hb dJ4_newCapacity_13 rfl (lv_at hl 0 rfl) ?_
  refine lv_iload_n hx hb dJ4_newCapacity_14 rfl (lv_at hl 1 rfl) ?_
  refine z_isub hx hb dJ4_newCapacity_15 ?_
  refine lv_istore (lv' := [(4, iV (m0 - (n : Nat))), (3, iV m0), (2, iV (n : Nat)), (0, .ref a), (1, iV m0)]) hx hb dJ4_newCapacity_16 hl (by decide) rfl (fun ls hl => ?_)
  refine lv_iload_n hx hb dJ4_newCapacity_18 rfl (lv_at hl 2 rfl) ?_
  refine lv_iload hx hb dJ4_newCapacity_19 (lv_at hl 0 rfl) ?_
  refine lv_iload_n hx hb dJ4_newCapacity_21 rfl (lv_at hl 2 rfl) ?_
  refine lv_iconst (v := iZ 2) hx hb dJ4_newCapacity_22 rfl ?_
  refine lv_aload_n hx hb dJ4_newCapacity_23 rfl (lv_at hl 3 rfl) ?_
  refine z_get hx hb hts hk hown K_J5 (V.w 0 rfl) 1 (by decide) q238 (fun _ h => h) rfl dJ4_newCapacity_24 ?_
  refine z_ishl0 hx hb dJ4_newCapacity_27 ?_
  refine z_iadd hx hb dJ4_newCapacity_28 ?_
  refine z_callS ⟨hx, hb, hml, hown, hts⟩ hk hl.1 V (wc := []) (wr := [(a, ob 3 [.ref v, iV 0, iV ml, iV k]), (v, aB G n g)]) [] [0, 1] rfl rfl rfl rfl (by decide) (As := [iV (n : Nat), iV (m0 - (n : Nat)), iV ((n : Nat) + 2)]) (rest := []) (fun hp => ct_newLength l G n (m0 - n) (n + 2) (by omega) hp) (va_cwS 3 hts (lw_S q625 q476 q89 q477) rfl rfl rfl (by decide +kernel) ⟨Nat.le_of_ble_eq_true rfl, Nat.le_of_ble_eq_true rfl⟩) rfl rfl (Nat.le_of_ble_eq_true rfl) dJ4_newCapacity_29 ⟨Nat.le_of_ble_eq_true rfl, Nat.le_of_ble_eq_true rfl⟩ (fun v F1 w1 H locs hq hle hou V => ?_)
  obtain ⟨rfl, rfl, rfl⟩ := hq
  refine W.eq (g2 := F0 m 32 ls [iV ((n : Int) + max (m0 - n) (n + 2))]) rfl ?_
  have V : VV G _ _ F [(a, ob 3 [.ref v, iV 0, iV ml, iV k]), (v, aB G n g)] _ _ _ := V
  refine lv_istore (lv' := [(5, iV ((n : Int) + max (m0 - n) (n + 2))), (4, iV (m0 - (n : Nat))), (3, iV m0), (2, iV (n : Nat)), (0, .ref a), (1, iV m0)]) hx hb dJ4_newCapacity_32 hl (by decide) rfl (fun ls hl => ?_)
  refine lv_iload hx hb dJ4_newCapacity_34 (lv_at hl 0 rfl) ?_
  refine lv_ldc (v := iZ 2147483647) hx hb hown (hts _ q626) dJ4_newCapacity_36 ?_
  refine z_icmp_ne (tgt := 51) hx hb (by omega) dJ4_newCapacity_38 (by decide) (fun c38 => ?_) (fun c38 => by omega)
  refine lv_iload hx hb dJ4_newCapacity_51 (lv_at hl 0 rfl) ?_
  refine lv_aload_n hx hb dJ4_newCapacity_53 rfl (lv_at hl 4 rfl) ?_
  refine z_get hx hb hts hk hown K_J5 (V.w 0 rfl) 1 (by decide) q238 (fun _ h => h) rfl dJ4_newCapacity_54 ?_
  refine z_ishr0 hx hb dJ4_newCapacity_57 ?_
  exact z_iret hx hb hr hlk V rfl dJ4_newCapacity_58 ⟨rfl, rfl, rfl⟩ ⟨Nat.le_of_ble_eq_true rfl, Nat.le_of_ble_eq_true rfl⟩
set_option maxHeartbeats 4000000 in
theorem ct_SB_ensure (l : Launch) (G : gG) {F : fS} {Ha : Heap} (a v n : Nat) (g : Nat → Int) (ml k m0 : Int) (hrg : 0 ≤ m0 ∧ m0 ≤ 400 ∧ n ≤ 818) (hbd : ∀ i, i < n → -128 ≤ g i ∧ g i < 128) (hp : Hp G F [(a, ob 3 [.ref v, iV 0, iV ml, iV k]), (v, aB G n g)] Ha) : CT l G yJ4_ensureCapacityInternal cJ4_ensureCapacityInternal 3 none 4 82 1 818 [.ref a, iV m0] F [(a, ob 3 [.ref v, iV 0, iV ml, iV k]), (v, aB G n g)] Ha (fun rv F' w' => rv = none ∧ F = F' ∧ ∃ (v' n' : Nat) (g' : Nat → Int), m0 ≤ n' ∧ n' ≤ 818 ∧ (∀ i, i < n → g' i = g i) ∧ (∀ i, i < n' → -128 ≤ g' i ∧ g' i < 128) ∧ w' = [(a, ob 3 [.ref v', iV 0, iV ml, iV k]), (v', aB G n' g')]) := by
  refine z_of hp (Or.inl (by decide)) (Nat.le_of_ble_eq_true rfl) ?_
  intro p e s m below meth c ls hx hb hr hml hts hown hlk hnm hk hsH V hl
  have hl : lv_has ls 3 [(0, .ref a), (1, iV m0)] := hl
  refine lv_aload_n hx hb dJ4_ensureCapacityInternal_0 rfl (lv_at hl 0 rfl) ?_
  refine z_get hx hb hts hk hown K_J5 (V.w 0 rfl) 0 (by decide) q237 (fun _ h => h) rfl dJ4_ensureCapacityInternal_1 ?_
  refine z_blen hx hb hk (V.w 1 rfl) dJ4_ensureCapacityInternal_4 ?_
  refine lv_aload_n hx hb dJ4_ensureCapacityInternal_5 rfl (lv_at hl 0 rfl) ?_
  refine z_get hx hb hts hk hown K_J5 (V.w 0 rfl) 1 (by decide) q238 (fun _ h => h) rfl dJ4_ensureCapacityInternal_6 ?_
  refine z_ishr0 hx hb dJ4_ensureCapacityInternal_9 ?_
  refine lv_istore_n (lv' := [(2, iV (n : Nat)), (0, .ref a), (1, iV m0)]) hx hb dJ4_ensureCapacityInternal_10 rfl hl (by decide) rfl (fun ls hl => ?_)
  refine lv_iload_n hx hb dJ4_ensureCapacityInternal_11 rfl (lv_at hl 2 rfl) ?_
  refine lv_iload_n hx hb dJ4_ensureCapacityInternal_12 rfl (lv_at hl 0 rfl) ?_
  refine z_isub hx hb dJ4_ensureCapacityInternal_13 ?_
  refine z_if_le (tgt := 38) hx hb (by omega) dJ4_ensureCapacityInternal_14 (by decide) (fun c14 => ?_) (fun c14 => ?_)
  · skip
    exact z_vret hx hb hr hlk V dJ4_ensureCapacityInternal_38 ⟨rfl, rfl, v, n, g, by omega, by omega, fun i hi => rfl, hbd, rfl⟩ ⟨Nat.le_of_ble_eq_true rfl, Nat.le_of_ble_eq_true rfl⟩
  · skip
    refine lv_aload_n hx hb dJ4_ensureCapacityInternal_17 rfl (lv_at hl 1 rfl) ?_
    refine lv_aload_n hx hb dJ4_ensureCapacityInternal_18 rfl (lv_at hl 1 rfl) ?_
    refine z_get hx hb hts hk hown K_J5 (V.w 0 rfl) 0 (by decide) q237 (fun _ h => h) rfl dJ4_ensureCapacityInternal_19 ?_
    refine lv_aload_n hx hb dJ4_ensureCapacityInternal_22 rfl (lv_at hl 1 rfl) ?_
    refine lv_iload_n hx hb dJ4_ensureCapacityInternal_23 rfl (lv_at hl 2 rfl) ?_
    refine z_callV ⟨hx, hb, hml, hown, hts⟩ hk hl.1 V (wc := [(a, ob 3 [.ref v, iV 0, iV ml, iV k]), (v, aB G n g)]) (wr := []) [0, 1] [] rfl rfl rfl rfl (by decide) (As := [iV m0]) (rest := [.ref v, .ref a]) (fun hp => ct_SB_newCap l G a v n g ml k m0 (by omega) hp) ⟨callB_of 1 hts (lw_meth q624) rfl rfl rfl (hts _ q79) (hts _ q621) (by decide +kernel) ⟨Nat.le_of_ble_eq_true rfl, Nat.le_of_ble_eq_true rfl⟩, hts _ q623, (selP (z := ⟨"java/lang/AbstractStringBuilder", "isLatin1", "()Z"⟩) rfl (by decide) (hts _ q640) (hts _ q623) (va_Nw.use rfl (hk.N q622 rfl)))⟩ (z_rc hk (V.w 0 rfl) (q := (RJ5, TJ5, 4)) rfl) rfl rfl (Nat.le_of_ble_eq_true rfl) dJ4_ensureCapacityInternal_24 ⟨Nat.le_of_ble_eq_true rfl, Nat.le_of_ble_eq_true rfl⟩ (fun v F1 w1 H locs hq hle hou V => ?_)
    obtain ⟨rfl, rfl, rfl⟩ := hq
    refine W.eq (g2 := F0 m 27 ls [iV ((n : Int) + max (m0 - n) (n + 2)), .ref v, .ref a]) rfl ?_
    have V : VV G _ _ F [(a, ob 3 [.ref v, iV 0, iV ml, iV k]), (v, aB G n g)] _ _ _ := V
    refine lv_aload_n hx hb dJ4_ensureCapacityInternal_27 rfl (lv_at hl 1 rfl) ?_
    refine z_get hx hb hts hk hown K_J5 (V.w 0 rfl) 1 (by decide) q238 (fun _ h => h) rfl dJ4_ensureCapacityInternal_28 ?_
    refine z_ishl0 hx hb dJ4_ensureCapacityInternal_31 ?_
    obtain ⟨k9, hk9⟩ : ∃ k9 : Nat, (n : Int) + max (m0 - n) (n + 2) = (k9 : Int) := ⟨((n : Int) + max (m0 - n) (n + 2)).toNat, by omega⟩
    rw [hk9]
    refine z_callS ⟨hx, hb, hml, hown, hts⟩ hk hl.1 V (wc := [(v, aB G n g)]) (wr := [(a, ob 3 [.ref v, iV 0, iV ml, iV k])]) [1] [0] rfl rfl rfl rfl (by decide) (As := [.ref v, iV (k9 : Nat)]) (rest := [.ref a]) (fun hp => ct_copyOfB l G v n k9 g (by omega) (by omega) hbd hp) (va_cwS 2 hts (lw_S q627 q628 q91 q629) rfl rfl rfl (by decide +kernel) ⟨Nat.le_of_ble_eq_true rfl, Nat.le_of_ble_eq_true rfl⟩) rfl rfl (Nat.le_of_ble_eq_true rfl) dJ4_ensureCapacityInternal_32 ⟨by first | omega | (dsimp only; omega), by first | omega | (dsimp only; omega)⟩ (fun v F1 w1 H locs hq hle hou V => ?_)
    obtain ⟨r9, rfl, rfl, rfl⟩ := hq
    refine W.eq (g2 := F0 m 35 ls [.ref r9, .ref a]) rfl ?_
    have V : VV G _ _ F [(a, ob 3 [.ref v, iV 0, iV ml, iV k]), (v, aB G n g), (r9, aB G k9 (va_cpy g (fun _ => 0) 0 0 n))] _ _ _ := V
    refine z_put hx hb hts hk V hown K_J5 0 rfl 0 (by decide) q237 (fun _ h => h) rfl rfl rfl (Nat.le_of_ble_eq_true rfl) dJ4_ensureCapacityInternal_35 (fun H locs V => ?_)
    have V : VV G _ _ F [(a, ob 3 [.ref r9, iV 0, iV ml, iV k]), (v, aB G n g), (r9, aB G k9 (va_cpy g (fun _ => 0) 0 0 n))] _ _ _ := V
    have V := V.sub (w1 := [(a, ob 3 [.ref r9, iV 0, iV ml, iV k]), (r9, aB G k9 (va_cpy g (fun _ => 0) 0 0 n))]) [0, 2] rfl rfl
    exact z_vret hx hb hr hlk V dJ4_ensureCapacityInternal_38 ⟨rfl, rfl, r9, k9, _, by omega, by omega, fun i hi => by simp [va_cpy, hi], cpyB hbd k9, rfl⟩ ⟨by omega, by omega⟩
theorem getD_snoc {t : List Nat} {x i : Nat} (hi : i < (t ++ [x]).length) : (t ++ [x]).getD i 0 = if i = t.length then x else t.getD i 0 := by
  simp at hi
  split
  · subst_vars; simp [List.getD_eq_getElem?_getD]
  · simp [List.getD_eq_getElem?_getD, List.getElem?_append_left (show i < t.length by omega)]
theorem BW.snoc {G : gG} {a v n : Nat} {t : List Nat} {g : Nat → Int} {ml : Int} {x : Nat} (h0 : ∀ c ∈ t, c < 128) (hx : x < 128) (h1 : t.length < 400) (h2 : t.length < n) (h3 : n ≤ 818) (h4 : ∀ i, i < t.length → g i = (t.getD i 0 : Nat)) (h5 : ∀ i, i < n → -128 ≤ g i ∧ g i < 128) (h6 : 0 ≤ ml ∧ ml ≤ 1) : BW G a (t ++ [x]) [(a, ob 3 [.ref v, iV 0, iV ml, iV ((t.length : Int) + 1)]), (v, aB G n (updZ g t.length x))] := by
  refine ⟨v, n, updZ g t.length x, ml, ?_, by simp; omega, by simp; omega, h3, ?_, ?_, h6, by simp⟩
  · intro c hc
    rcases List.mem_append.mp hc with h | h
    · exact h0 c h
    · simp at h; omega
  · intro i hi
    rw [getD_snoc hi]
    unfold updZ
    split
    · rfl
    · exact h4 i (by simp at hi; omega)
  · intro i hi
    unfold updZ
    split
    · omega
    · exact h5 i hi
set_option maxHeartbeats 4000000 in
theorem ct_SB_append4 (l : Launch) (G : gG) {F : fS} {Ha : Heap} (a : Nat) (t : List Nat) (wl : va_W) (hw : BW G a t wl) (x : Nat) (hx8 : x < 128) (hl9 : t.length < 400) (hp : Hp G F wl Ha) : CT l G yJ4_append cJ4_append 2 (some (.object "java/lang/AbstractStringBuilder")) 5 104 1 818 [.ref a, iV (x : Nat)] F wl Ha (fun rv F' w' => rv = some (.ref a) ∧ F = F' ∧ BW G a (t ++ [x]) w') := by
  refine z_of hp (Or.inl (by decide)) (Nat.le_of_ble_eq_true rfl) ?_
  intro p e s m below meth c ls hx hb hr hml hts hown hlk hnm hk hsH V hl
  have hl : lv_has ls 2 [(0, .ref a), (1, iV (x : Nat))] := hl
  obtain ⟨v, n, g, ml, b0, b1, b2, b3, b4, b5, b6, rfl⟩ := hw
  refine lv_aload_n hx hb dJ4_append_0 rfl (lv_at hl 0 rfl) ?_
  refine lv_aload_n hx hb dJ4_append_1 rfl (lv_at hl 0 rfl) ?_
  refine z_get hx hb hts hk hown K_J5 (V.w 0 rfl) 3 (by decide) q241 (fun _ h => h) rfl dJ4_append_2 ?_
  refine lv_iconst (v := iZ 1) hx hb dJ4_append_5 rfl ?_
  refine z_iadd hx hb dJ4_append_6 ?_
  refine z_callV ⟨hx, hb, hml, hown, hts⟩ hk hl.1 V (wc := [(a, ob 3 [.ref v, iV 0, iV ml, iV (t.length : Nat)]), (v, aB G n g)]) (wr := []) [0, 1] [] rfl rfl rfl rfl (by decide) (As := [iV ((t.length : Nat) + 1)]) (rest := []) (fun hp => ct_SB_ensure l G a v n g ml t.length (t.length + 1) (by omega) b5 hp) ⟨callB_of 1 hts (lw_meth q620) rfl rfl rfl (hts _ q79) (hts _ q617) (by decide +kernel) ⟨Nat.le_of_ble_eq_true rfl, Nat.le_of_ble_eq_true rfl⟩, hts _ q619, (selP (z := ⟨"java/lang/AbstractStringBuilder", "isLatin1", "()Z"⟩) rfl (by decide) (hts _ q640) (hts _ q619) (va_Nw.use rfl (hk.N q618 rfl)))⟩ (z_rc hk (V.w 0 rfl) (q := (RJ5, TJ5, 4)) rfl) rfl rfl (Nat.le_of_ble_eq_true rfl) dJ4_append_7 ⟨Nat.le_of_ble_eq_true rfl, Nat.le_of_ble_eq_true rfl⟩ (fun v F1 w1 H locs hq hle hou V => ?_)
  obtain ⟨rfl, rfl, v', n', g', e1, e2, e3, e4, rfl⟩ := hq
  refine W.eq (g2 := F0 m 10 ls []) rfl ?_
  have V : VV G _ _ F [(a, ob 3 [.ref v', iV 0, iV ml, iV (t.length : Nat)]), (v', aB G n' g')] _ _ _ := V
  refine lv_aload_n hx hb dJ4_append_10 rfl (lv_at hl 0 rfl) ?_
  refine z_callV ⟨hx, hb, hml, hown, hts⟩ hk hl.1 V (wc := [(a, ob 3 [.ref v', iV 0, iV ml, iV (t.length : Nat)])]) (wr := [(v', aB G n' g')]) [0] [1] rfl rfl rfl rfl (by decide) (As := []) (rest := []) (fun hp => ct_SB_isLatin1 l G a v' ml t.length hp) ⟨callB_of 0 hts (lw_meth q641) rfl rfl rfl (hts _ q79) (hts _ q637) (by decide +kernel) ⟨Nat.le_of_ble_eq_true rfl, Nat.le_of_ble_eq_true rfl⟩, hts _ q638, (hts _ q640)⟩ (z_rc hk (V.w 0 rfl) (q := (RJ5, TJ5, 4)) rfl) rfl rfl (Nat.le_of_ble_eq_true rfl) dJ4_append_11 ⟨Nat.le_of_ble_eq_true rfl, Nat.le_of_ble_eq_true rfl⟩ (fun v F1 w1 H locs hq hle hou V => ?_)
  obtain ⟨rfl, rfl, rfl⟩ := hq
  refine W.eq (g2 := F0 m 14 ls [iV 1]) rfl ?_
  have V : VV G _ _ F [(v', aB G n' g'), (a, ob 3 [.ref v', iV 0, iV ml, iV (t.length : Nat)])] _ _ _ := V
  refine z_if_eq (tgt := 45) hx hb (by omega) dJ4_append_14 (by decide) (fun c14 => by omega) (fun c14 => ?_)
  refine lv_iload_n hx hb dJ4_append_17 rfl (lv_at hl 1 rfl) ?_
  refine z_callS ⟨hx, hb, hml, hown, hts⟩ hk hl.1 V (wc := []) (wr := [(v', aB G n' g'), (a, ob 3 [.ref v', iV 0, iV ml, iV (t.length : Nat)])]) [] [0, 1] rfl rfl rfl rfl (by decide) (As := [iV (x : Nat)]) (rest := []) (fun hp => ct_L_canEncode l G x (by omega) hp) (va_cwS 1 hts (lw_S q642 q643 q93 q644) rfl rfl rfl (by decide +kernel) ⟨Nat.le_of_ble_eq_true rfl, Nat.le_of_ble_eq_true rfl⟩) rfl rfl (Nat.le_of_ble_eq_true rfl) dJ4_append_18 ⟨Nat.le_of_ble_eq_true rfl, Nat.le_of_ble_eq_true rfl⟩ (fun v F1 w1 H locs hq hle hou V => ?_)
  obtain ⟨rfl, rfl, rfl⟩ := hq
  refine W.eq (g2 := F0 m 21 ls [iV 1]) rfl ?_
  have V : VV G _ _ F [(v', aB G n' g'), (a, ob 3 [.ref v', iV 0, iV ml, iV (t.length : Nat)])] _ _ _ := V
  refine z_if_eq (tgt := 45) hx hb (by omega) dJ4_append_21 (by decide) (fun c21 => by omega) (fun c21 => ?_)
  refine lv_aload_n hx hb dJ4_append_24 rfl (lv_at hl 0 rfl) ?_
  refine z_get hx hb hts hk hown K_J5 (V.w 1 rfl) 0 (by decide) q237 (fun _ h => h) rfl dJ4_append_25 ?_
  refine lv_aload_n hx hb dJ4_append_28 rfl (lv_at hl 0 rfl) ?_
  refine lv_dup hx hb dJ4_append_29 rfl ?_
  refine z_get hx hb hts hk hown K_J5 (V.w 1 rfl) 3 (by decide) q241 (fun _ h => h) rfl dJ4_append_30 ?_
  refine lv_dup_x1 hx hb dJ4_append_33 rfl rfl ?_
  refine lv_iconst (v := iZ 1) hx hb dJ4_append_34 rfl ?_
  refine z_iadd hx hb dJ4_append_35 ?_
  refine z_put hx hb hts hk V hown K_J5 1 rfl 3 (by decide) q241 (fun _ h => h) rfl rfl rfl (Nat.le_of_ble_eq_true rfl) dJ4_append_36 (fun H locs V => ?_)
  have V : VV G _ _ F [(v', aB G n' g'), (a, ob 3 [.ref v', iV 0, iV ml, iV ((t.length : Nat) + 1)])] _ _ _ := V
  refine lv_iload_n hx hb dJ4_append_39 rfl (lv_at hl 1 rfl) ?_
  refine lv_i2b (v := iZ (x : Nat)) hx hb dJ4_append_40 (i2b_Z (by omega)) ?_
  refine z_bast hx hb hk V 0 rfl t.length (by omega) (nr_byte (by omega)) dJ4_append_41 (fun H locs V => ?_)
  have V : VV G _ _ F [(v', aB G n' (updZ g' t.length (x : Nat))), (a, ob 3 [.ref v', iV 0, iV ml, iV ((t.length : Nat) + 1)])] _ _ _ := V
  refine lv_goto (tgt := 75) hx hb dJ4_append_42 (by decide) ?_
  refine lv_aload_n hx hb dJ4_append_75 rfl (lv_at hl 0 rfl) ?_
  have V := V.sub (w1 := [(a, ob 3 [.ref v', iV 0, iV ml, iV ((t.length : Nat) + 1)]), (v', aB G n' (updZ g' t.length (x : Nat)))]) [1, 0] rfl rfl
  exact z_aret hx hb hr hlk V (Or.inl ⟨_, rfl⟩) (Or.inr ⟨_, rfl⟩) dJ4_append_76 ⟨rfl, rfl, BW.snoc b0 hx8 hl9 (by omega) e2 (fun i hi => by rw [e3 i (by omega)]; exact b4 i hi) e4 b6⟩ ⟨Nat.le_of_ble_eq_true rfl, Nat.le_of_ble_eq_true rfl⟩
set_option maxHeartbeats 4000000 in
theorem ct_SB_append (l : Launch) (G : gG) {F : fS} {Ha : Heap} (a : Nat) (t : List Nat) (wl : va_W) (hw : BW G a t wl) (x : Nat) (hx8 : x < 128) (hl9 : t.length < 400) (hp : Hp G F wl Ha) : CT l G yJ5_append cJ5_append 2 (some (.object "java/lang/StringBuilder")) 6 125 1 818 [.ref a, iV (x : Nat)] F wl Ha (fun rv F' w' => rv = some (.ref a) ∧ F = F' ∧ BW G a (t ++ [x]) w') := by
  refine z_of hp (Or.inl (by decide)) (Nat.le_of_ble_eq_true rfl) ?_
  intro p e s m below meth c ls hx hb hr hml hts hown hlk hnm hk hsH V hl
  have hl : lv_has ls 2 [(0, .ref a), (1, iV (x : Nat))] := hl
  obtain ⟨fs, hcell⟩ := hw.cell
  refine lv_aload_n hx hb dJ5_append_0 rfl (lv_at hl 0 rfl) ?_
  refine lv_iload_n hx hb dJ5_append_1 rfl (lv_at hl 1 rfl) ?_
  refine z_callSU (z_at hk 3 rfl) ⟨hx, hb, hml, hown, hts⟩ hk hl.1 V (wc := wl) (wr := []) ([] ++ tIx [] wl) [] (idxT (w := []) (t := wl) (wC := []) (is := []) rfl) (idxN (w := []) (t := wl) (wC := []) (is := []) rfl) (ndT (w := []) (t := wl) (wC := []) (is := []) rfl rfl) rfl (disT (w := []) (t := wl) (wR := []) (isR := []) rfl (by decide)) (As := [iV (x : Nat)]) (rest := []) (fun hp => ct_SB_append4 l G a t wl hw x hx8 hl9 hp) (va_cwSU 1 hts (lw_app (lw_in5 q614 q3124 q250 q615 q79) (lw_meth q616)) rfl rfl rfl (by decide +kernel) ⟨Nat.le_of_ble_eq_true rfl, Nat.le_of_ble_eq_true rfl⟩) (z_rc hk (V.mem (q := (a, ob 3 fs)) (by first | exact hcell | simp [hcell])) (q := (RJ5, TJ5, 4)) rfl) rfl rfl (Nat.le_of_ble_eq_true rfl) dJ5_append_2 ⟨Nat.le_of_ble_eq_true rfl, Nat.le_of_ble_eq_true rfl⟩ (fun v F1 w1 H locs hq hle hou V => ?_)
  obtain ⟨rfl, rfl, hw1⟩ := hq
  have V := VV.asc (z := []) (t := w1) V
  refine W.eq (g2 := F0 m 5 ls [.ref a]) rfl ?_
  have V : VV G _ _ F ([] ++ w1) _ _ _ := V
  refine lv_pop hx hb dJ5_append_5 rfl ?_
  refine lv_aload_n hx hb dJ5_append_6 rfl (lv_at hl 0 rfl) ?_
  exact z_aret hx hb hr hlk V (Or.inl ⟨_, rfl⟩) (Or.inr ⟨_, rfl⟩) dJ5_append_7 ⟨rfl, rfl, hw1⟩ ⟨Nat.le_of_ble_eq_true rfl, Nat.le_of_ble_eq_true rfl⟩
theorem BW.app {G : gG} {a v n : Nat} {t r : List Nat} {g f : Nat → Int} {ml : Int} (h0 : ∀ c ∈ t, c < 128) (hx : ∀ c ∈ r, c < 128) (h1 : t.length + r.length ≤ 400) (h2 : t.length + r.length ≤ n) (h3 : n ≤ 818) (h4 : ∀ i, i < t.length → g i = (t.getD i 0 : Nat)) (h7 : ∀ i, i < r.length → f i = (r.getD i 0 : Nat)) (h5 : ∀ i, i < n → -128 ≤ g i ∧ g i < 128) (h6 : 0 ≤ ml ∧ ml ≤ 1) : BW G a (t ++ r) [(a, ob 3 [.ref v, iV 0, iV ml, iV ((t.length : Int) + r.length)]), (v, aB G n (va_cpy f g 0 t.length r.length))] := by
  refine ⟨v, n, va_cpy f g 0 t.length r.length, ml, ?_, by simp; omega, by simp; omega, h3, ?_, ?_, h6, by simp⟩
  · intro c hc
    rcases List.mem_append.mp hc with h | h
    · exact h0 c h
    · exact hx c h
  · intro i hi
    simp at hi
    unfold va_cpy
    split
    · rw [h7 _ (by omega), List.getD_eq_getElem?_getD, List.getD_eq_getElem?_getD, List.getElem?_append_right (by omega), show 0 + (i - t.length) = i - t.length by omega]
    · rw [h4 i (by omega), List.getD_eq_getElem?_getD, List.getD_eq_getElem?_getD, List.getElem?_append_left (by omega)]
  · intro i hi
    unfold va_cpy
    split
    · have := ltD hx (0 + (i - t.length))
      rw [h7 _ (by omega)]
      omega
    · exact h5 i hi
set_option maxHeartbeats 4000000 in
theorem ct_S_getBytes (l : Launch) (G : gG) {F : fS} {Ha : Heap} (b : Nat) (r : List Nat) (h : SF G F b r) (u n k : Nat) (g : Nat → Int) (hrg : k + r.length ≤ n ∧ n ≤ 818) (hp : Hp G F [(u, aB G n g)] Ha) : CT l G yJ6_getBytes cJ6_getBytes 4 none 2 60 0 0 [.ref b, .ref u, iV (k : Nat), iV 0] F [(u, aB G n g)] Ha (fun rv F' w' => rv = none ∧ F = F' ∧ ∃ f : Nat → Int, (∀ c ∈ r, c < 128) ∧ (∀ i, i < r.length → f i = (r.getD i 0 : Nat)) ∧ w' = [(u, aB G n (va_cpy f g 0 k r.length))]) := by
  refine z_of hp (Or.inl (by decide)) (Nat.le_of_ble_eq_true rfl) ?_
  intro p e s m below meth c ls hx hb hr hml hts hown hlk hnm hk hsH V hl
  have hl : lv_has ls 4 [(0, .ref b), (1, .ref u), (2, iV (k : Nat)), (3, iV 0)] := hl
  obtain ⟨v, hh, zz, hat, hbf⟩ := SF.B h V
  refine lv_aload_n hx hb dJ6_getBytes_0 rfl (lv_at hl 0 rfl) ?_
  refine z_callV ⟨hx, hb, hml, hown, hts⟩ hk hl.1 V (wc := []) (wr := [(u, aB G n g)]) [] [0] rfl rfl rfl rfl (by decide) (As := []) (rest := []) (fun hp => ct_S_coder l G b r h hp) (cwV 0 hts (lw_V q804 q805 q806 q81 q807) rfl rfl rfl (by decide +kernel) ⟨Nat.le_of_ble_eq_true rfl, Nat.le_of_ble_eq_true rfl⟩) (z_rc hk hat (q := (RJ6, TJ6, 4)) rfl) rfl rfl (Nat.le_of_ble_eq_true rfl) dJ6_getBytes_1 ⟨Nat.le_of_ble_eq_true rfl, Nat.le_of_ble_eq_true rfl⟩ (fun v F1 w1 H locs hq hle hou V => ?_)
  obtain ⟨rfl, rfl, rfl⟩ := hq
  refine W.eq (g2 := F0 m 4 ls [iV 0]) rfl ?_
  have V : VV G _ _ F [(u, aB G n g)] _ _ _ := V
  refine lv_iload_n hx hb dJ6_getBytes_4 rfl (lv_at hl 3 rfl) ?_
  refine z_icmp_ne (tgt := 28) hx hb (by omega) dJ6_getBytes_5 (by decide) (fun c5 => by omega) (fun c5 => ?_)
  obtain ⟨v, hh, zz, hat, hbf⟩ := SF.B h V
  obtain ⟨hc, hl9, f, hv, hf⟩ := hbf
  refine lv_aload_n hx hb dJ6_getBytes_8 rfl (lv_at hl 0 rfl) ?_
  refine z_get hx hb hts hk hown K_J6 hat 0 (by decide) q850 (fun _ h => h) rfl dJ6_getBytes_9 ?_
  refine lv_iconst (v := iZ 0) hx hb dJ6_getBytes_12 rfl ?_
  refine lv_aload_n hx hb dJ6_getBytes_13 rfl (lv_at hl 1 rfl) ?_
  refine lv_iload_n hx hb dJ6_getBytes_14 rfl (lv_at hl 2 rfl) ?_
  refine lv_iload_n hx hb dJ6_getBytes_15 rfl (lv_at hl 3 rfl) ?_
  refine z_ishl0 hx hb dJ6_getBytes_16 ?_
  refine lv_aload_n hx hb dJ6_getBytes_17 rfl (lv_at hl 0 rfl) ?_
  refine z_get hx hb hts hk hown K_J6 hat 0 (by decide) q850 (fun _ h => h) rfl dJ6_getBytes_18 ?_
  refine z_blen hx hb hk (V.f hv) dJ6_getBytes_21 ?_
  refine z_copyB (i := 0) (j := k) (k := r.length) hx hb (by rw [hml]; exact hl.1.symm) hts hk V hown q822 (V.f hv) 0 rfl (by omega) (fun z hz => by have := ltD hc (0 + z); rw [hf _ (by omega)]; omega) (Nat.le_of_ble_eq_true rfl) (Nat.le_of_ble_eq_true rfl) dJ6_getBytes_22 (fun H locs V => ?_)
  have V : VV G _ _ F [(u, aB G n (va_cpy f g 0 k r.length))] _ _ _ := V
  refine W.eq (g2 := F0 m 25 ls []) rfl ?_
  refine lv_goto (tgt := 43) hx hb dJ6_getBytes_25 (by decide) ?_
  exact z_vret hx hb hr hlk V dJ6_getBytes_43 ⟨rfl, rfl, f, hc, hf, rfl⟩ ⟨Nat.le_of_ble_eq_true rfl, Nat.le_of_ble_eq_true rfl⟩
set_option maxHeartbeats 4000000 in
theorem ct_SB_inflate (l : Launch) (G : gG) {F : fS} {Ha : Heap} (a v : Nat) (ml k0 : Int) (b : Nat) (r : List Nat) (h : SF G F b r) (hp : Hp G F [(a, ob 3 [.ref v, iV 0, iV ml, iV k0])] Ha) : CT l G yJ4_inflateIfNeededFor cJ4_inflateIfNeededFor 2 none 2 32 0 0 [.ref a, .ref b] F [(a, ob 3 [.ref v, iV 0, iV ml, iV k0])] Ha (fun rv F' w' => rv = none ∧ F = F' ∧ w' = [(a, ob 3 [.ref v, iV 0, iV ml, iV k0])]) := by
  refine z_of hp (Or.inl (by decide)) (Nat.le_of_ble_eq_true rfl) ?_
  intro p e s m below meth c ls hx hb hr hml hts hown hlk hnm hk hsH V hl
  have hl : lv_has ls 2 [(0, .ref a), (1, .ref b)] := hl
  obtain ⟨v1, hh1, zz1, hat1, hbf1⟩ := SF.B h V
  refine z_gets hx hb hts V (hk.Zs 1 rfl) hown q228 (fun _ h => h) dJ4_inflateIfNeededFor_0 ?_
  refine z_if_eq (tgt := 21) hx hb (by omega) dJ4_inflateIfNeededFor_3 (by decide) (fun c3 => by omega) (fun c3 => ?_)
  refine lv_aload_n hx hb dJ4_inflateIfNeededFor_6 rfl (lv_at hl 0 rfl) ?_
  refine z_get hx hb hts hk hown K_J5 (V.w 0 rfl) 1 (by decide) q238 (fun _ h => h) rfl dJ4_inflateIfNeededFor_7 ?_
  refine lv_aload_n hx hb dJ4_inflateIfNeededFor_10 rfl (lv_at hl 1 rfl) ?_
  refine z_callV ⟨hx, hb, hml, hown, hts⟩ hk hl.1 V (wc := []) (wr := [(a, ob 3 [.ref v, iV 0, iV ml, iV k0])]) [] [0] rfl rfl rfl rfl (by decide) (As := []) (rest := [iV 0]) (fun hp => ct_S_coder l G b r h hp) (cwV 0 hts (lw_V q817 q805 q806 q81 q807) rfl rfl rfl (by decide +kernel) ⟨Nat.le_of_ble_eq_true rfl, Nat.le_of_ble_eq_true rfl⟩) (z_rc hk hat1 (q := (RJ6, TJ6, 4)) rfl) rfl rfl (Nat.le_of_ble_eq_true rfl) dJ4_inflateIfNeededFor_11 ⟨Nat.le_of_ble_eq_true rfl, Nat.le_of_ble_eq_true rfl⟩ (fun v F1 w1 H locs hq hle hou V => ?_)
  obtain ⟨rfl, rfl, rfl⟩ := hq
  refine W.eq (g2 := F0 m 14 ls [iV 0, iV 0]) rfl ?_
  have V : VV G _ _ F [(a, ob 3 [.ref v, iV 0, iV ml, iV k0])] _ _ _ := V
  refine z_icmp_eq (tgt := 21) hx hb (by omega) dJ4_inflateIfNeededFor_14 (by decide) (fun c14 => ?_) (fun c14 => by omega)
  exact z_vret hx hb hr hlk V dJ4_inflateIfNeededFor_21 ⟨rfl, rfl, rfl⟩ ⟨Nat.le_of_ble_eq_true rfl, Nat.le_of_ble_eq_true rfl⟩
set_option maxHeartbeats 4000000 in
theorem ct_SB_put (l : Launch) (G : gG) {F : fS} {Ha : Heap} (a v : Nat) (ml k0 : Int) (b : Nat) (r : List Nat) (h : SF G F b r) (n k : Nat) (g : Nat → Int) (hrg : k + r.length ≤ n ∧ n ≤ 818) (hp : Hp G F [(a, ob 3 [.ref v, iV 0, iV ml, iV k0]), (v, aB G n g)] Ha) : CT l G yJ4_putStringAt cJ4_putStringAt 3 none 3 83 0 0 [.ref a, iV (k : Nat), .ref b] F [(a, ob 3 [.ref v, iV 0, iV ml, iV k0]), (v, aB G n g)] Ha (fun rv F' w' => rv = none ∧ F = F' ∧ ∃ f : Nat → Int, (∀ c ∈ r, c < 128) ∧ (∀ i, i < r.length → f i = (r.getD i 0 : Nat)) ∧ w' = [(a, ob 3 [.ref v, iV 0, iV ml, iV k0]), (v, aB G n (va_cpy f g 0 k r.length))]) := by
  refine z_of hp (Or.inl (by decide)) (Nat.le_of_ble_eq_true rfl) ?_
  intro p e s m below meth c ls hx hb hr hml hts hown hlk hnm hk hsH V hl
  have hl : lv_has ls 3 [(0, .ref a), (1, iV (k : Nat)), (2, .ref b)] := hl
  refine lv_aload_n hx hb dJ4_putStringAt_0 rfl (lv_at hl 0 rfl) ?_
  refine lv_aload_n hx hb dJ4_putStringAt_1 rfl (lv_at hl 2 rfl) ?_
  refine z_callV ⟨hx, hb, hml, hown, hts⟩ hk hl.1 V (wc := [(a, ob 3 [.ref v, iV 0, iV ml, iV k0])]) (wr := [(v, aB G n g)]) [0] [1] rfl rfl rfl rfl (by decide) (As := [.ref b]) (rest := []) (fun hp => ct_SB_inflate l G a v ml k0 b r h hp) ⟨callB_of 1 hts (lw_meth q816) rfl rfl rfl (hts _ q79) (hts _ q813) (by decide +kernel) ⟨Nat.le_of_ble_eq_true rfl, Nat.le_of_ble_eq_true rfl⟩, hts _ q815, (selP (z := ⟨"java/lang/AbstractStringBuilder", "isLatin1", "()Z"⟩) rfl (by decide) (hts _ q640) (hts _ q815) (va_Nw.use rfl (hk.N q814 rfl)))⟩ (z_rc hk (V.w 0 rfl) (q := (RJ5, TJ5, 4)) rfl) rfl rfl (Nat.le_of_ble_eq_true rfl) dJ4_putStringAt_2 ⟨Nat.le_of_ble_eq_true rfl, Nat.le_of_ble_eq_true rfl⟩ (fun v F1 w1 H locs hq hle hou V => ?_)
  obtain ⟨rfl, rfl, rfl⟩ := hq
  refine W.eq (g2 := F0 m 5 ls []) rfl ?_
  have V : VV G _ _ F [(v, aB G n g), (a, ob 3 [.ref v, iV 0, iV ml, iV k0])] _ _ _ := V
  obtain ⟨v1, hh, zz, hat, hbf⟩ := SF.B h V
  refine lv_aload_n hx hb dJ4_putStringAt_5 rfl (lv_at hl 2 rfl) ?_
  refine lv_aload_n hx hb dJ4_putStringAt_6 rfl (lv_at hl 0 rfl) ?_
  refine z_get hx hb hts hk hown K_J5 (V.w 1 rfl) 0 (by decide) q237 (fun _ h => h) rfl dJ4_putStringAt_7 ?_
  refine lv_iload_n hx hb dJ4_putStringAt_10 rfl (lv_at hl 1 rfl) ?_
  refine lv_aload_n hx hb dJ4_putStringAt_11 rfl (lv_at hl 0 rfl) ?_
  refine z_get hx hb hts hk hown K_J5 (V.w 1 rfl) 1 (by decide) q238 (fun _ h => h) rfl dJ4_putStringAt_12 ?_
  refine z_callV ⟨hx, hb, hml, hown, hts⟩ hk hl.1 V (wc := [(v, aB G n g)]) (wr := [(a, ob 3 [.ref v, iV 0, iV ml, iV k0])]) [0] [1] rfl rfl rfl rfl (by decide) (As := [.ref v, iV (k : Nat), iV 0]) (rest := []) (fun hp => ct_S_getBytes l G b r h v n k g hrg hp) (cwV 3 hts (lw_V q818 q819 q820 q81 q821) rfl rfl rfl (by decide +kernel) ⟨Nat.le_of_ble_eq_true rfl, Nat.le_of_ble_eq_true rfl⟩) (z_rc hk hat (q := (RJ6, TJ6, 4)) rfl) rfl rfl (Nat.le_of_ble_eq_true rfl) dJ4_putStringAt_15 ⟨Nat.le_of_ble_eq_true rfl, Nat.le_of_ble_eq_true rfl⟩ (fun v F1 w1 H locs hq hle hou V => ?_)
  obtain ⟨rfl, rfl, f, hc, hf, rfl⟩ := hq
  refine W.eq (g2 := F0 m 18 ls []) rfl ?_
  have V : VV G _ _ F [(a, ob 3 [.ref v, iV 0, iV ml, iV k0]), (v, aB G n (va_cpy f g 0 k r.length))] _ _ _ := V
  exact z_vret hx hb hr hlk V dJ4_putStringAt_18 ⟨rfl, rfl, f, hc, hf, rfl⟩ ⟨Nat.le_of_ble_eq_true rfl, Nat.le_of_ble_eq_true rfl⟩
set_option maxHeartbeats 4000000 in
theorem ct_SB_appendS4 (l : Launch) (G : gG) {F : fS} {Ha : Heap} (a : Nat) (t : List Nat) (wl : va_W) (hw : BW G a t wl) (b : Nat) (r : List Nat) (h : SF G F b r) (hl9 : t.length + r.length ≤ 400) (hp : Hp G F wl Ha) : CT l G yJ4_append_3 cJ4_append_3 3 (some (.object "java/lang/AbstractStringBuilder")) 5 105 1 818 [.ref a, .ref b] F wl Ha (fun rv F' w' => rv = some (.ref a) ∧ F = F' ∧ BW G a (t ++ r) w') := by
  refine z_of hp (Or.inl (by decide)) (Nat.le_of_ble_eq_true rfl) ?_
  intro p e s m below meth c ls hx hb hr hml hts hown hlk hnm hk hsH V hl
  have hl : lv_has ls 3 [(0, .ref a), (1, .ref b)] := hl
  obtain ⟨v, n, g, ml, b0, b1, b2, b3, b4, b5, b6, rfl⟩ := hw
  obtain ⟨v1, hh1, zz1, hat1, hbf1⟩ := SF.B h V
  refine lv_aload_n hx hb dJ4_append_3_0 rfl (lv_at hl 1 rfl) ?_
  refine lv_ifnonnull (tgt := 9) hx hb dJ4_append_3_1 (by decide) ?_
  refine lv_aload_n hx hb dJ4_append_3_9 rfl (lv_at hl 1 rfl) ?_
  refine z_callV ⟨hx, hb, hml, hown, hts⟩ hk hl.1 V (wc := []) (wr := [(a, ob 3 [.ref v, iV 0, iV ml, iV (t.length : Nat)]), (v, aB G n g)]) [] [0, 1] rfl rfl rfl rfl (by decide) (As := []) (rest := []) (fun hp => ct_S_length l G b r h hp) (cwV 0 hts (lw_V q800 q801 q802 q81 q803) rfl rfl rfl (by decide +kernel) ⟨Nat.le_of_ble_eq_true rfl, Nat.le_of_ble_eq_true rfl⟩) (z_rc hk hat1 (q := (RJ6, TJ6, 4)) rfl) rfl rfl (Nat.le_of_ble_eq_true rfl) dJ4_append_3_10 ⟨Nat.le_of_ble_eq_true rfl, Nat.le_of_ble_eq_true rfl⟩ (fun v F1 w1 H locs hq hle hou V => ?_)
  obtain ⟨rfl, rfl, rfl⟩ := hq
  refine W.eq (g2 := F0 m 13 ls [iV (r.length : Nat)]) rfl ?_
  have V : VV G _ _ F [(a, ob 3 [.ref v, iV 0, iV ml, iV (t.length : Nat)]), (v, aB G n g)] _ _ _ := V
  refine lv_istore_n (lv' := [(2, iV (r.length : Nat)), (0, .ref a), (1, .ref b)]) hx hb dJ4_append_3_13 rfl hl (by decide) rfl (fun ls hl => ?_)
  refine lv_aload_n hx hb dJ4_append_3_14 rfl (lv_at hl 1 rfl) ?_
  refine lv_aload_n hx hb dJ4_append_3_15 rfl (lv_at hl 1 rfl) ?_
  refine z_get hx hb hts hk hown K_J5 (V.w 0 rfl) 3 (by decide) q241 (fun _ h => h) rfl dJ4_append_3_16 ?_
  refine lv_iload_n hx hb dJ4_append_3_19 rfl (lv_at hl 0 rfl) ?_
  refine z_iadd hx hb dJ4_append_3_20 ?_
  refine z_callV ⟨hx, hb, hml, hown, hts⟩ hk hl.1 V (wc := [(a, ob 3 [.ref v, iV 0, iV ml, iV (t.length : Nat)]), (v, aB G n g)]) (wr := []) [0, 1] [] rfl rfl rfl rfl (by decide) (As := [iV ((t.length : Nat) + (r.length : Nat))]) (rest := []) (fun hp => ct_SB_ensure l G a v n g ml t.length (t.length + r.length) (by omega) b5 hp) ⟨callB_of 1 hts (lw_meth q620) rfl rfl rfl (hts _ q79) (hts _ q617) (by decide +kernel) ⟨Nat.le_of_ble_eq_true rfl, Nat.le_of_ble_eq_true rfl⟩, hts _ q619, (selP (z := ⟨"java/lang/AbstractStringBuilder", "isLatin1", "()Z"⟩) rfl (by decide) (hts _ q640) (hts _ q619) (va_Nw.use rfl (hk.N q618 rfl)))⟩ (z_rc hk (V.w 0 rfl) (q := (RJ5, TJ5, 4)) rfl) rfl rfl (Nat.le_of_ble_eq_true rfl) dJ4_append_3_21 ⟨Nat.le_of_ble_eq_true rfl, Nat.le_of_ble_eq_true rfl⟩ (fun v F1 w1 H locs hq hle hou V => ?_)
  obtain ⟨rfl, rfl, v', n', g', e1, e2, e3, e4, rfl⟩ := hq
  refine W.eq (g2 := F0 m 24 ls []) rfl ?_
  have V : VV G _ _ F [(a, ob 3 [.ref v', iV 0, iV ml, iV (t.length : Nat)]), (v', aB G n' g')] _ _ _ := V
  refine lv_aload_n hx hb dJ4_append_3_24 rfl (lv_at hl 1 rfl) ?_
  refine lv_aload_n hx hb dJ4_append_3_25 rfl (lv_at hl 1 rfl) ?_
  refine z_get hx hb hts hk hown K_J5 (V.w 0 rfl) 3 (by decide) q241 (fun _ h => h) rfl dJ4_append_3_26 ?_
  refine lv_aload_n hx hb dJ4_append_3_29 rfl (lv_at hl 2 rfl) ?_
  refine z_callV ⟨hx, hb, hml, hown, hts⟩ hk hl.1 V (wc := [(a, ob 3 [.ref v', iV 0, iV ml, iV (t.length : Nat)]), (v', aB G n' g')]) (wr := []) [0, 1] [] rfl rfl rfl rfl (by decide) (As := [iV (t.length : Nat), .ref b]) (rest := []) (fun hp => ct_SB_put l G a v' ml t.length b r h n' t.length g' (by omega) hp) ⟨callB_of 2 hts (lw_meth q812) rfl rfl rfl (hts _ q79) (hts _ q809) (by decide +kernel) ⟨Nat.le_of_ble_eq_true rfl, Nat.le_of_ble_eq_true rfl⟩, hts _ q811, (selP (z := ⟨"java/lang/AbstractStringBuilder", "isLatin1", "()Z"⟩) rfl (by decide) (hts _ q640) (hts _ q811) (va_Nw.use rfl (hk.N q810 rfl)))⟩ (z_rc hk (V.w 0 rfl) (q := (RJ5, TJ5, 4)) rfl) rfl rfl (Nat.le_of_ble_eq_true rfl) dJ4_append_3_30 ⟨Nat.le_of_ble_eq_true rfl, Nat.le_of_ble_eq_true rfl⟩ (fun v F1 w1 H locs hq hle hou V => ?_)
  obtain ⟨rfl, rfl, f, hc, hf, rfl⟩ := hq
  refine W.eq (g2 := F0 m 33 ls []) rfl ?_
  have V : VV G _ _ F [(a, ob 3 [.ref v', iV 0, iV ml, iV (t.length : Nat)]), (v', aB G n' (va_cpy f g' 0 t.length r.length))] _ _ _ := V
  refine lv_aload_n hx hb dJ4_append_3_33 rfl (lv_at hl 1 rfl) ?_
  refine lv_dup hx hb dJ4_append_3_34 rfl ?_
  refine z_get hx hb hts hk hown K_J5 (V.w 0 rfl) 3 (by decide) q241 (fun _ h => h) rfl dJ4_append_3_35 ?_
  refine lv_iload_n hx hb dJ4_append_3_38 rfl (lv_at hl 0 rfl) ?_
  refine z_iadd hx hb dJ4_append_3_39 ?_
  refine z_put hx hb hts hk V hown K_J5 0 rfl 3 (by decide) q241 (fun _ h => h) rfl rfl rfl (Nat.le_of_ble_eq_true rfl) dJ4_append_3_40 (fun H locs V => ?_)
  have V : VV G _ _ F [(a, ob 3 [.ref v', iV 0, iV ml, iV ((t.length : Nat) + (r.length : Nat))]), (v', aB G n' (va_cpy f g' 0 t.length r.length))] _ _ _ := V
  refine lv_aload_n hx hb dJ4_append_3_43 rfl (lv_at hl 1 rfl) ?_
  exact z_aret hx hb hr hlk V (Or.inl ⟨_, rfl⟩) (Or.inr ⟨_, rfl⟩) dJ4_append_3_44 ⟨rfl, rfl, BW.app b0 hc hl9 (by omega) e2 (fun i hi => by rw [e3 i (by omega)]; exact b4 i hi) hf e4 b6⟩ ⟨Nat.le_of_ble_eq_true rfl, Nat.le_of_ble_eq_true rfl⟩
set_option maxHeartbeats 4000000 in
theorem ct_SB_appendS (l : Launch) (G : gG) {F : fS} {Ha : Heap} (a : Nat) (t : List Nat) (wl : va_W) (hw : BW G a t wl) (b : Nat) (r : List Nat) (h : SF G F b r) (hl9 : t.length + r.length ≤ 400) (hp : Hp G F wl Ha) : CT l G yJ5_append_3 cJ5_append_3 2 (some (.object "java/lang/StringBuilder")) 6 127 1 818 [.ref a, .ref b] F wl Ha (fun rv F' w' => rv = some (.ref a) ∧ F = F' ∧ BW G a (t ++ r) w') := by
  refine z_of hp (Or.inl (by decide)) (Nat.le_of_ble_eq_true rfl) ?_
  intro p e s m below meth c ls hx hb hr hml hts hown hlk hnm hk hsH V hl
  have hl : lv_has ls 2 [(0, .ref a), (1, .ref b)] := hl
  obtain ⟨fs, hcell⟩ := hw.cell
  refine lv_aload_n hx hb dJ5_append_3_0 rfl (lv_at hl 0 rfl) ?_
  refine lv_aload_n hx hb dJ5_append_3_1 rfl (lv_at hl 1 rfl) ?_
  refine z_callSU (z_at hk 3 rfl) ⟨hx, hb, hml, hown, hts⟩ hk hl.1 V (wc := wl) (wr := []) ([] ++ tIx [] wl) [] (idxT (w := []) (t := wl) (wC := []) (is := []) rfl) (idxN (w := []) (t := wl) (wC := []) (is := []) rfl) (ndT (w := []) (t := wl) (wC := []) (is := []) rfl rfl) rfl (disT (w := []) (t := wl) (wR := []) (isR := []) rfl (by decide)) (As := [.ref b]) (rest := []) (fun hp => ct_SB_appendS4 l G a t wl hw b r h hl9 hp) (va_cwSU 1 hts (lw_app (lw_in5 q790 q3130 q250 q791 q79) (lw_meth q792)) rfl rfl rfl (by decide +kernel) ⟨Nat.le_of_ble_eq_true rfl, Nat.le_of_ble_eq_true rfl⟩) (z_rc hk (V.mem (q := (a, ob 3 fs)) (by first | exact hcell | simp [hcell])) (q := (RJ5, TJ5, 4)) rfl) rfl rfl (Nat.le_of_ble_eq_true rfl) dJ5_append_3_2 ⟨Nat.le_of_ble_eq_true rfl, Nat.le_of_ble_eq_true rfl⟩ (fun v F1 w1 H locs hq hle hou V => ?_)
  obtain ⟨rfl, rfl, hw1⟩ := hq
  have V := VV.asc (z := []) (t := w1) V
  refine W.eq (g2 := F0 m 5 ls [.ref a]) rfl ?_
  have V : VV G _ _ F ([] ++ w1) _ _ _ := V
  refine lv_pop hx hb dJ5_append_3_5 rfl ?_
  refine lv_aload_n hx hb dJ5_append_3_6 rfl (lv_at hl 0 rfl) ?_
  exact z_aret hx hb hr hlk V (Or.inl ⟨_, rfl⟩) (Or.inr ⟨_, rfl⟩) dJ5_append_3_7 ⟨rfl, rfl, hw1⟩ ⟨Nat.le_of_ble_eq_true rfl, Nat.le_of_ble_eq_true rfl⟩
set_option maxHeartbeats 4000000 in
theorem ct_SB_length4 (l : Launch) (G : gG) {F : fS} {Ha : Heap} (a : Nat) (t : List Nat) (wl : va_W) (hw : BW G a t wl) (hp : Hp G F wl Ha) : CT l G yJ4_length cJ4_length 1 (some .int) 1 12 0 0 [.ref a] F wl Ha (fun rv F' w' => rv = some (iV (t.length : Nat)) ∧ F = F' ∧ wl = w') := by
  refine z_of hp (Or.inl (by decide)) (Nat.le_of_ble_eq_true rfl) ?_
  intro p e s m below meth c ls hx hb hr hml hts hown hlk hnm hk hsH V hl
  have hl : lv_has ls 1 [(0, .ref a)] := hl
  obtain ⟨v, n, g, ml, b0, b1, b2, b3, b4, b5, b6, rfl⟩ := hw
  refine lv_aload_n hx hb dJ4_length_0 rfl (lv_at hl 0 rfl) ?_
  refine z_get hx hb hts hk hown K_J5 (V.w 0 rfl) 3 (by decide) q241 (fun _ h => h) rfl dJ4_length_1 ?_
  exact z_iret hx hb hr hlk V rfl dJ4_length_4 ⟨rfl, rfl, rfl⟩ ⟨Nat.le_of_ble_eq_true rfl, Nat.le_of_ble_eq_true rfl⟩
set_option maxHeartbeats 4000000 in
theorem ct_SB_length (l : Launch) (G : gG) {F : fS} {Ha : Heap} (a : Nat) (t : List Nat) (wl : va_W) (hw : BW G a t wl) (hp : Hp G F wl Ha) : CT l G yJ5_length cJ5_length 1 (some .int) 2 32 0 0 [.ref a] F wl Ha (fun rv F' w' => rv = some (iV (t.length : Nat)) ∧ F = F' ∧ wl = w') := by
  refine z_of hp (Or.inl (by decide)) (Nat.le_of_ble_eq_true rfl) ?_
  intro p e s m below meth c ls hx hb hr hml hts hown hlk hnm hk hsH V hl
  have hl : lv_has ls 1 [(0, .ref a)] := hl
  obtain ⟨fs, hcell⟩ := hw.cell
  refine lv_aload_n hx hb dJ5_length_0 rfl (lv_at hl 0 rfl) ?_
  refine z_callSU (z_at hk 3 rfl) ⟨hx, hb, hml, hown, hts⟩ hk hl.1 V (wc := wl) (wr := []) ([] ++ tIx [] wl) [] (idxT (w := []) (t := wl) (wC := []) (is := []) rfl) (idxN (w := []) (t := wl) (wC := []) (is := []) rfl) (ndT (w := []) (t := wl) (wC := []) (is := []) rfl rfl) rfl (disT (w := []) (t := wl) (wR := []) (isR := []) rfl (by decide)) (As := []) (rest := []) (fun hp => ct_SB_length4 l G a t wl hw hp) (va_cwSU 0 hts (lw_app (lw_in5 q589 q3123 q250 q590 q79) (lw_meth q591)) rfl rfl rfl (by decide +kernel) ⟨Nat.le_of_ble_eq_true rfl, Nat.le_of_ble_eq_true rfl⟩) (z_rc hk (V.mem (q := (a, ob 3 fs)) (by first | exact hcell | simp [hcell])) (q := (RJ5, TJ5, 4)) rfl) rfl rfl (Nat.le_of_ble_eq_true rfl) dJ5_length_1 ⟨Nat.le_of_ble_eq_true rfl, Nat.le_of_ble_eq_true rfl⟩ (fun v F1 w1 H locs hq hle hou V => ?_)
  obtain ⟨rfl, rfl, rfl⟩ := hq
  have V := VV.asc (z := []) (t := wl) V
  refine W.eq (g2 := F0 m 4 ls [iV (t.length : Nat)]) rfl ?_
  have V : VV G _ _ F ([] ++ wl) _ _ _ := V
  exact z_iret hx hb hr hlk V rfl dJ5_length_4 ⟨rfl, rfl, rfl⟩ ⟨Nat.le_of_ble_eq_true rfl, Nat.le_of_ble_eq_true rfl⟩
set_option maxHeartbeats 4000000 in
theorem ct_SB_setLength4 (l : Launch) (G : gG) {F : fS} {Ha : Heap} (a : Nat) (t : List Nat) (wl : va_W) (hw : BW G a t wl) (hp : Hp G F wl Ha) : CT l G yJ4_setLength cJ4_setLength 2 none 5 104 1 818 [.ref a, iV 0] F wl Ha (fun rv F' w' => rv = none ∧ F = F' ∧ BW G a [] w') := by
  refine z_of hp (Or.inl (by decide)) (Nat.le_of_ble_eq_true rfl) ?_
  intro p e s m below meth c ls hx hb hr hml hts hown hlk hnm hk hsH V hl
  have hl : lv_has ls 2 [(0, .ref a), (1, iV 0)] := hl
  obtain ⟨v, n, g, ml, b0, b1, b2, b3, b4, b5, b6, rfl⟩ := hw
  refine lv_iload_n hx hb dJ4_setLength_0 rfl (lv_at hl 1 rfl) ?_
  refine z_if_ge (tgt := 13) hx hb (by omega) dJ4_setLength_1 (by decide) (fun c1 => ?_) (fun c1 => by omega)
  refine lv_aload_n hx hb dJ4_setLength_13 rfl (lv_at hl 0 rfl) ?_
  refine lv_iload_n hx hb dJ4_setLength_14 rfl (lv_at hl 1 rfl) ?_
  refine z_callV ⟨hx, hb, hml, hown, hts⟩ hk hl.1 V (wc := [(a, ob 3 [.ref v, iV 0, iV ml, iV (t.length : Nat)]), (v, aB G n g)]) (wr := []) [0, 1] [] rfl rfl rfl rfl (by decide) (As := [iV 0]) (rest := []) (fun hp => ct_SB_ensure l G a v n g ml t.length 0 (by omega) b5 hp) ⟨callB_of 1 hts (lw_meth q620) rfl rfl rfl (hts _ q79) (hts _ q617) (by decide +kernel) ⟨Nat.le_of_ble_eq_true rfl, Nat.le_of_ble_eq_true rfl⟩, hts _ q619, (selP (z := ⟨"java/lang/AbstractStringBuilder", "isLatin1", "()Z"⟩) rfl (by decide) (hts _ q640) (hts _ q619) (va_Nw.use rfl (hk.N q618 rfl)))⟩ (z_rc hk (V.w 0 rfl) (q := (RJ5, TJ5, 4)) rfl) rfl rfl (Nat.le_of_ble_eq_true rfl) dJ4_setLength_15 ⟨Nat.le_of_ble_eq_true rfl, Nat.le_of_ble_eq_true rfl⟩ (fun v F1 w1 H locs hq hle hou V => ?_)
  obtain ⟨rfl, rfl, v', n', g', e1, e2, e3, e4, rfl⟩ := hq
  refine W.eq (g2 := F0 m 18 ls []) rfl ?_
  have V : VV G _ _ F [(a, ob 3 [.ref v', iV 0, iV ml, iV (t.length : Nat)]), (v', aB G n' g')] _ _ _ := V
  refine lv_aload_n hx hb dJ4_setLength_18 rfl (lv_at hl 0 rfl) ?_
  refine z_get hx hb hts hk hown K_J5 (V.w 0 rfl) 3 (by decide) q241 (fun _ h => h) rfl dJ4_setLength_19 ?_
  refine lv_iload_n hx hb dJ4_setLength_22 rfl (lv_at hl 1 rfl) ?_
  refine z_icmp_ge (tgt := 63) hx hb (by omega) dJ4_setLength_23 (by decide) (fun c23 => ?_) (fun c23 => by omega)
  refine lv_aload_n hx hb dJ4_setLength_63 rfl (lv_at hl 0 rfl) ?_
  refine z_get hx hb hts hk hown K_J5 (V.w 0 rfl) 3 (by decide) q241 (fun _ h => h) rfl dJ4_setLength_64 ?_
  refine lv_iload_n hx hb dJ4_setLength_67 rfl (lv_at hl 1 rfl) ?_
  refine z_icmp_le (tgt := 76) hx hb (by omega) dJ4_setLength_68 (by decide) (fun c68 => ?_) (fun c68 => ?_)
  · skip
    refine lv_aload_n hx hb dJ4_setLength_76 rfl (lv_at hl 0 rfl) ?_
    refine lv_iload_n hx hb dJ4_setLength_77 rfl (lv_at hl 1 rfl) ?_
    refine z_put hx hb hts hk V hown K_J5 0 rfl 3 (by decide) q241 (fun _ h => h) rfl rfl rfl (Nat.le_of_ble_eq_true rfl) dJ4_setLength_78 (fun H locs V => ?_)
    have V : VV G _ _ F [(a, ob 3 [.ref v', iV 0, iV ml, iV 0]), (v', aB G n' g')] _ _ _ := V
    exact z_vret hx hb hr hlk V dJ4_setLength_81 ⟨rfl, rfl, ⟨v', n', g', ml, by simp, by simp, by simp, e2, (fun i hi => absurd hi (Nat.not_lt_zero i)), e4, by omega, rfl⟩⟩ ⟨Nat.le_of_ble_eq_true rfl, Nat.le_of_ble_eq_true rfl⟩
  · skip
    refine lv_aload_n hx hb dJ4_setLength_71 rfl (lv_at hl 0 rfl) ?_
    refine lv_iconst (v := iZ 1) hx hb dJ4_setLength_72 rfl ?_
    refine z_put hx hb hts hk V hown K_J5 0 rfl 2 (by decide) q239 (fun _ h => h) rfl rfl rfl (Nat.le_of_ble_eq_true rfl) dJ4_setLength_73 (fun H locs V => ?_)
    have V : VV G _ _ F [(a, ob 3 [.ref v', iV 0, iV 1, iV (t.length : Nat)]), (v', aB G n' g')] _ _ _ := V
    refine lv_aload_n hx hb dJ4_setLength_76 rfl (lv_at hl 0 rfl) ?_
    refine lv_iload_n hx hb dJ4_setLength_77 rfl (lv_at hl 1 rfl) ?_
    refine z_put hx hb hts hk V hown K_J5 0 rfl 3 (by decide) q241 (fun _ h => h) rfl rfl rfl (Nat.le_of_ble_eq_true rfl) dJ4_setLength_78 (fun H locs V => ?_)
    have V : VV G _ _ F [(a, ob 3 [.ref v', iV 0, iV 1, iV 0]), (v', aB G n' g')] _ _ _ := V
    exact z_vret hx hb hr hlk V dJ4_setLength_81 ⟨rfl, rfl, ⟨v', n', g', 1, by simp, by simp, by simp, e2, (fun i hi => absurd hi (Nat.not_lt_zero i)), e4, by omega, rfl⟩⟩ ⟨Nat.le_of_ble_eq_true rfl, Nat.le_of_ble_eq_true rfl⟩
set_option maxHeartbeats 4000000 in
theorem ct_SB_setLength (l : Launch) (G : gG) {F : fS} {Ha : Heap} (a : Nat) (t : List Nat) (wl : va_W) (hw : BW G a t wl) (hp : Hp G F wl Ha) : CT l G yJ5_setLength cJ5_setLength 2 none 6 125 1 818 [.ref a, iV 0] F wl Ha (fun rv F' w' => rv = none ∧ F = F' ∧ BW G a [] w') := by
  refine z_of hp (Or.inl (by decide)) (Nat.le_of_ble_eq_true rfl) ?_
  intro p e s m below meth c ls hx hb hr hml hts hown hlk hnm hk hsH V hl
  have hl : lv_has ls 2 [(0, .ref a), (1, iV 0)] := hl
  obtain ⟨fs, hcell⟩ := hw.cell
  refine lv_aload_n hx hb dJ5_setLength_0 rfl (lv_at hl 0 rfl) ?_
  refine lv_iload_n hx hb dJ5_setLength_1 rfl (lv_at hl 1 rfl) ?_
  refine z_callSU (z_at hk 3 rfl) ⟨hx, hb, hml, hown, hts⟩ hk hl.1 V (wc := wl) (wr := []) ([] ++ tIx [] wl) [] (idxT (w := []) (t := wl) (wC := []) (is := []) rfl) (idxN (w := []) (t := wl) (wC := []) (is := []) rfl) (ndT (w := []) (t := wl) (wC := []) (is := []) rfl rfl) rfl (disT (w := []) (t := wl) (wR := []) (isR := []) rfl (by decide)) (As := [iV 0]) (rest := []) (fun hp => ct_SB_setLength4 l G a t wl hw hp) (va_cwSU 1 hts (lw_app (lw_in5 q878 q3134 q250 q879 q79) (lw_meth q880)) rfl rfl rfl (by decide +kernel) ⟨Nat.le_of_ble_eq_true rfl, Nat.le_of_ble_eq_true rfl⟩) (z_rc hk (V.mem (q := (a, ob 3 fs)) (by first | exact hcell | simp [hcell])) (q := (RJ5, TJ5, 4)) rfl) rfl rfl (Nat.le_of_ble_eq_true rfl) dJ5_setLength_2 ⟨Nat.le_of_ble_eq_true rfl, Nat.le_of_ble_eq_true rfl⟩ (fun v F1 w1 H locs hq hle hou V => ?_)
  obtain ⟨rfl, rfl, hw1⟩ := hq
  have V := VV.asc (z := []) (t := w1) V
  refine W.eq (g2 := F0 m 5 ls []) rfl ?_
  have V : VV G _ _ F ([] ++ w1) _ _ _ := V
  exact z_vret hx hb hr hlk V dJ5_setLength_5 ⟨rfl, rfl, hw1⟩ ⟨Nat.le_of_ble_eq_true rfl, Nat.le_of_ble_eq_true rfl⟩
set_option maxHeartbeats 4000000 in
theorem ct_checkLength (l : Launch) (G : gG) {F : fS} {Ha : Heap} (i j : Int) (hrg : 0 ≤ i ∧ i ≤ j ∧ j < 2147483648) (hp : Hp G F [] Ha) : CT l G yJ15_checkLength cJ15_checkLength 2 none 1 12 0 0 [iV i, iV j] F [] Ha (fun rv F' w' => rv = none ∧ F = F' ∧ w' = []) := by
  refine z_of hp (Or.inl (by decide)) (Nat.le_of_ble_eq_true rfl) ?_
  intro p e s m below meth c ls hx hb hr hml hts hown hlk hnm hk hsH V hl
  have hl : lv_has ls 2 [(0, iV i), (1, iV j)] := hl
  refine lv_iload_n hx hb dJ15_checkLength_0 rfl (lv_at hl 1 rfl) ?_
  refine lv_iload_n hx hb dJ15_checkLength_1 rfl (lv_at hl 0 rfl) ?_
  refine z_icmp_ge (tgt := 37) hx hb (by omega) dJ15_checkLength_2 (by decide) (fun c2 => ?_) (fun c2 => by omega)
  exact z_vret hx hb hr hlk V dJ15_checkLength_37 ⟨rfl, rfl, rfl⟩ ⟨Nat.le_of_ble_eq_true rfl, Nat.le_of_ble_eq_true rfl⟩
set_option maxHeartbeats 4000000 in
theorem ct_copyRangeB (l : Launch) (G : gG) {F : fS} {Ha : Heap} (v n i j : Nat) (g : Nat → Int) (hrg : i ≤ j ∧ j ≤ n ∧ n ≤ 1000) (hbd : ∀ i, i < n → -128 ≤ g i ∧ g i < 128) (hp : Hp G F [(v, aB G n g)] Ha) : CT l G yJ15_copyOfRangeByte cJ15_copyOfRangeByte 5 (some (.array .byte)) 2 60 1 (j - i) [.ref v, iV (i : Nat), iV (j : Nat)] F [(v, aB G n g)] Ha (fun rv F' w' => ∃ (r : Nat) (f : Nat → Int), rv = some (.ref r) ∧ F = F' ∧ (∀ q, q < j - i → f q = g (i + q)) ∧ w' = [(v, aB G n g), (r, aB G (j - i) f)]) := by
  refine z_of hp (Or.inl (by decide)) (Nat.le_of_ble_eq_true rfl) ?_
  intro p e s m below meth c ls hx hb hr hml hts hown hlk hnm hk hsH V hl
  have hl : lv_has ls 5 [(0, .ref v), (1, iV (i : Nat)), (2, iV (j : Nat))] := hl
  refine lv_iload_n hx hb dJ15_copyOfRangeByte_0 rfl (lv_at hl 1 rfl) ?_
  refine lv_iload_n hx hb dJ15_copyOfRangeByte_1 rfl (lv_at hl 2 rfl) ?_
  refine z_callS ⟨hx, hb, hml, hown, hts⟩ hk hl.1 V (wc := []) (wr := [(v, aB G n g)]) [] [0] rfl rfl rfl rfl (by decide) (As := [iV (i : Nat), iV (j : Nat)]) (rest := []) (fun hp => ct_checkLength l G i j (by omega) hp) (va_cwS 2 hts (lw_S q745 q746 q91 q747) rfl rfl rfl (by decide +kernel) ⟨Nat.le_of_ble_eq_true rfl, Nat.le_of_ble_eq_true rfl⟩) rfl rfl (Nat.le_of_ble_eq_true rfl) dJ15_copyOfRangeByte_2 ⟨Nat.le_of_ble_eq_true rfl, Nat.le_of_ble_eq_true rfl⟩ (fun v F1 w1 H locs hq hle hou V => ?_)
  obtain ⟨rfl, rfl, rfl⟩ := hq
  refine W.eq (g2 := F0 m 5 ls []) rfl ?_
  have V : VV G _ _ F [(v, aB G n g)] _ _ _ := V
  refine lv_iload_n hx hb dJ15_copyOfRangeByte_5 rfl (lv_at hl 2 rfl) ?_
  refine lv_iload_n hx hb dJ15_copyOfRangeByte_6 rfl (lv_at hl 1 rfl) ?_
  refine z_isub hx hb dJ15_copyOfRangeByte_7 ?_
  refine lv_istore_n (lv' := [(3, iV ((j : Nat) - (i : Nat))), (0, .ref v), (1, iV (i : Nat)), (2, iV (j : Nat))]) hx hb dJ15_copyOfRangeByte_8 rfl hl (by decide) rfl (fun ls hl => ?_)
  refine lv_iload_n hx hb dJ15_copyOfRangeByte_9 rfl (lv_at hl 0 rfl) ?_
  rw [show ((j : Nat) : Int) - (i : Nat) = ((j - i : Nat) : Int) by omega] at hl ⊢
  refine z_newB (n := (j - i)) hx hb hts hk V q251 (by omega) (Nat.le_of_ble_eq_true rfl) (by first | omega | (dsimp only; omega)) dJ15_copyOfRangeByte_10 (fun r_1 H V => ?_)
  have V : VV G _ _ F [(v, aB G n g), (r_1, aB G (j - i) (fun _ => 0))] _ _ _ := V
  refine lv_astore (lv' := [(4, .ref r_1), (3, iV ((j - i : Nat) : Int)), (0, .ref v), (1, iV (i : Nat)), (2, iV (j : Nat))]) hx hb dJ15_copyOfRangeByte_12 hl (by decide) rfl (fun ls hl => ?_)
  refine lv_aload_n hx hb dJ15_copyOfRangeByte_14 rfl (lv_at hl 2 rfl) ?_
  refine lv_iload_n hx hb dJ15_copyOfRangeByte_15 rfl (lv_at hl 3 rfl) ?_
  refine lv_aload hx hb dJ15_copyOfRangeByte_16 (lv_at hl 0 rfl) ?_
  refine lv_iconst (v := iZ 0) hx hb dJ15_copyOfRangeByte_18 rfl ?_
  refine lv_aload_n hx hb dJ15_copyOfRangeByte_19 rfl (lv_at hl 2 rfl) ?_
  refine z_blen hx hb hk (V.w 0 rfl) dJ15_copyOfRangeByte_20 ?_
  refine lv_iload_n hx hb dJ15_copyOfRangeByte_21 rfl (lv_at hl 3 rfl) ?_
  refine z_isub hx hb dJ15_copyOfRangeByte_22 ?_
  refine lv_iload_n hx hb dJ15_copyOfRangeByte_23 rfl (lv_at hl 1 rfl) ?_
  refine z_callS ⟨hx, hb, hml, hown, hts⟩ hk hl.1 V (wc := []) (wr := [(v, aB G n g), (r_1, aB G (j - i) (fun _ => 0))]) [] [0, 1] rfl rfl rfl rfl (by decide) (As := [iV ((n : Nat) - (i : Nat)), iV ((j - i : Nat) : Int)]) (rest := [iV 0, .ref r_1, iV (i : Nat), .ref v]) (fun hp => ct_min l G ((n : Int) - i) ((j - i : Nat) : Int) (by omega) hp) (va_cwS 2 hts (lw_S q536 q537 q90 q538) rfl rfl rfl (by decide +kernel) ⟨Nat.le_of_ble_eq_true rfl, Nat.le_of_ble_eq_true rfl⟩) rfl rfl (Nat.le_of_ble_eq_true rfl) dJ15_copyOfRangeByte_24 ⟨by first | omega | (dsimp only; omega), by first | omega | (dsimp only; omega)⟩ (fun v F1 w1 H locs hq hle hou V => ?_)
  obtain ⟨rfl, rfl, rfl⟩ := hq
  refine W.eq (g2 := F0 m 27 ls [iV (min ((n : Int) - i) ((j - i : Nat) : Int)), iV 0, .ref r_1, iV (i : Nat), .ref v]) rfl ?_
  have V : VV G _ _ F [(v, aB G n g), (r_1, aB G (j - i) (fun _ => 0))] _ _ _ := V
  rw [show min ((n : Int) - (i : Nat)) ((j - i : Nat) : Int) = ((j - i : Nat) : Int) by omega]
  refine z_copyB (i := i) (j := 0) (k := (j - i)) hx hb (by rw [hml]; exact hl.1.symm) hts hk V hown q539 (V.w 0 rfl) 1 rfl (by omega) (fun z hz => hbd _ (by omega)) (Nat.le_of_ble_eq_true rfl) (Nat.le_of_ble_eq_true rfl) dJ15_copyOfRangeByte_27 (fun H locs V => ?_)
  have V : VV G _ _ F [(v, aB G n g), (r_1, aB G (j - i) (va_cpy g (fun _ => 0) i 0 (j - i)))] _ _ _ := V
  refine W.eq (g2 := F0 m 30 ls []) rfl ?_
  refine lv_aload hx hb dJ15_copyOfRangeByte_30 (lv_at hl 0 rfl) ?_
  exact z_aret hx hb hr hlk V (Or.inr ⟨_, rfl⟩) (Or.inr ⟨_, rfl⟩) dJ15_copyOfRangeByte_32 ⟨r_1, _, rfl, rfl, (fun q hq => by unfold va_cpy; rw [if_pos (by omega), Nat.sub_zero]), rfl⟩ ⟨by omega, by omega⟩
set_option maxHeartbeats 4000000 in
theorem ct_copyRangeBF (l : Launch) (G : gG) {F : fS} {Ha : Heap} (v n i j : Nat) (g : Nat → Int) (hrg : i ≤ j ∧ j ≤ n ∧ n ≤ 1000) (hbd : ∀ i, i < n → -128 ≤ g i ∧ g i < 128) (hv : F v = some (.inl (aB G n g))) (hp : Hp G F [] Ha) : CT l G yJ15_copyOfRangeByte cJ15_copyOfRangeByte 5 (some (.array .byte)) 2 60 1 (j - i) [.ref v, iV (i : Nat), iV (j : Nat)] F [] Ha (fun rv F' w' => ∃ (r : Nat) (f : Nat → Int), rv = some (.ref r) ∧ F = F' ∧ (∀ q, q < j - i → f q = g (i + q)) ∧ w' = [(r, aB G (j - i) f)]) := by
  refine z_of hp (Or.inl (by decide)) (Nat.le_of_ble_eq_true rfl) ?_
  intro p e s m below meth c ls hx hb hr hml hts hown hlk hnm hk hsH V hl
  have hl : lv_has ls 5 [(0, .ref v), (1, iV (i : Nat)), (2, iV (j : Nat))] := hl
  refine lv_iload_n hx hb dJ15_copyOfRangeByte_0 rfl (lv_at hl 1 rfl) ?_
  refine lv_iload_n hx hb dJ15_copyOfRangeByte_1 rfl (lv_at hl 2 rfl) ?_
  refine z_callS ⟨hx, hb, hml, hown, hts⟩ hk hl.1 V (wc := []) (wr := []) [] [] rfl rfl rfl rfl (by decide) (As := [iV (i : Nat), iV (j : Nat)]) (rest := []) (fun hp => ct_checkLength l G i j (by omega) hp) (va_cwS 2 hts (lw_S q745 q746 q91 q747) rfl rfl rfl (by decide +kernel) ⟨Nat.le_of_ble_eq_true rfl, Nat.le_of_ble_eq_true rfl⟩) rfl rfl (Nat.le_of_ble_eq_true rfl) dJ15_copyOfRangeByte_2 ⟨Nat.le_of_ble_eq_true rfl, Nat.le_of_ble_eq_true rfl⟩ (fun v F1 w1 H locs hq hle hou V => ?_)
  obtain ⟨rfl, rfl, rfl⟩ := hq
  refine W.eq (g2 := F0 m 5 ls []) rfl ?_
  have V : VV G _ _ F [] _ _ _ := V
  refine lv_iload_n hx hb dJ15_copyOfRangeByte_5 rfl (lv_at hl 2 rfl) ?_
  refine lv_iload_n hx hb dJ15_copyOfRangeByte_6 rfl (lv_at hl 1 rfl) ?_
  refine z_isub hx hb dJ15_copyOfRangeByte_7 ?_
  refine lv_istore_n (lv' := [(3, iV ((j : Nat) - (i : Nat))), (0, .ref v), (1, iV (i : Nat)), (2, iV (j : Nat))]) hx hb dJ15_copyOfRangeByte_8 rfl hl (by decide) rfl (fun ls hl => ?_)
  refine lv_iload_n hx hb dJ15_copyOfRangeByte_9 rfl (lv_at hl 0 rfl) ?_
  rw [show ((j : Nat) : Int) - (i : Nat) = ((j - i : Nat) : Int) by omega] at hl ⊢
  refine z_newB (n := (j - i)) hx hb hts hk V q251 (by omega) (Nat.le_of_ble_eq_true rfl) (by first | omega | (dsimp only; omega)) dJ15_copyOfRangeByte_10 (fun r_1 H V => ?_)
  have V : VV G _ _ F [(r_1, aB G (j - i) (fun _ => 0))] _ _ _ := V
  refine lv_astore (lv' := [(4, .ref r_1), (3, iV ((j - i : Nat) : Int)), (0, .ref v), (1, iV (i : Nat)), (2, iV (j : Nat))]) hx hb dJ15_copyOfRangeByte_12 hl (by decide) rfl (fun ls hl => ?_)
  refine lv_aload_n hx hb dJ15_copyOfRangeByte_14 rfl (lv_at hl 2 rfl) ?_
  refine lv_iload_n hx hb dJ15_copyOfRangeByte_15 rfl (lv_at hl 3 rfl) ?_
  refine lv_aload hx hb dJ15_copyOfRangeByte_16 (lv_at hl 0 rfl) ?_
  refine lv_iconst (v := iZ 0) hx hb dJ15_copyOfRangeByte_18 rfl ?_
  refine lv_aload_n hx hb dJ15_copyOfRangeByte_19 rfl (lv_at hl 2 rfl) ?_
  refine z_blen hx hb hk (V.f hv) dJ15_copyOfRangeByte_20 ?_
  refine lv_iload_n hx hb dJ15_copyOfRangeByte_21 rfl (lv_at hl 3 rfl) ?_
  refine z_isub hx hb dJ15_copyOfRangeByte_22 ?_
  refine lv_iload_n hx hb dJ15_copyOfRangeByte_23 rfl (lv_at hl 1 rfl) ?_
  refine z_callS ⟨hx, hb, hml, hown, hts⟩ hk hl.1 V (wc := []) (wr := [(r_1, aB G (j - i) (fun _ => 0))]) [] [0] rfl rfl rfl rfl (by decide) (As := [iV ((n : Nat) - (i : Nat)), iV ((j - i : Nat) : Int)]) (rest := [iV 0, .ref r_1, iV (i : Nat), .ref v]) (fun hp => ct_min l G ((n : Int) - i) ((j - i : Nat) : Int) (by omega) hp) (va_cwS 2 hts (lw_S q536 q537 q90 q538) rfl rfl rfl (by decide +kernel) ⟨Nat.le_of_ble_eq_true rfl, Nat.le_of_ble_eq_true rfl⟩) rfl rfl (Nat.le_of_ble_eq_true rfl) dJ15_copyOfRangeByte_24 ⟨by first | omega | (dsimp only; omega), by first | omega | (dsimp only; omega)⟩ (fun v F1 w1 H locs hq hle hou V => ?_)
  obtain ⟨rfl, rfl, rfl⟩ := hq
  refine W.eq (g2 := F0 m 27 ls [iV (min ((n : Int) - i) ((j - i : Nat) : Int)), iV 0, .ref r_1, iV (i : Nat), .ref v]) rfl ?_
  have V : VV G _ _ F [(r_1, aB G (j - i) (fun _ => 0))] _ _ _ := V
  rw [show min ((n : Int) - (i : Nat)) ((j - i : Nat) : Int) = ((j - i : Nat) : Int) by omega]
  refine z_copyB (i := i) (j := 0) (k := (j - i)) hx hb (by rw [hml]; exact hl.1.symm) hts hk V hown q539 (V.f hv) 0 rfl (by omega) (fun z hz => hbd _ (by omega)) (Nat.le_of_ble_eq_true rfl) (Nat.le_of_ble_eq_true rfl) dJ15_copyOfRangeByte_27 (fun H locs V => ?_)
  have V : VV G _ _ F [(r_1, aB G (j - i) (va_cpy g (fun _ => 0) i 0 (j - i)))] _ _ _ := V
  refine W.eq (g2 := F0 m 30 ls []) rfl ?_
  refine lv_aload hx hb dJ15_copyOfRangeByte_30 (lv_at hl 0 rfl) ?_
  exact z_aret hx hb hr hlk V (Or.inr ⟨_, rfl⟩) (Or.inr ⟨_, rfl⟩) dJ15_copyOfRangeByte_32 ⟨r_1, _, rfl, rfl, (fun q hq => by unfold va_cpy; rw [if_pos (by omega), Nat.sub_zero]), rfl⟩ ⟨by omega, by omega⟩
set_option maxHeartbeats 4000000 in
theorem ct_copyRange (l : Launch) (G : gG) {F : fS} {Ha : Heap} (v n i j : Nat) (g : Nat → Int) (hrg : i ≤ j ∧ j ≤ n ∧ n ≤ 1000) (hbd : ∀ i, i < n → -128 ≤ g i ∧ g i < 128) (hp : Hp G F [(v, aB G n g)] Ha) : CT l G yJ15_copyOfRange cJ15_copyOfRange 3 (some (.array .byte)) 3 84 1 n [.ref v, iV (i : Nat), iV (j : Nat)] F [(v, aB G n g)] Ha (fun rv F' w' => ∃ (r : Nat) (f : Nat → Int), rv = some (.ref r) ∧ F = F' ∧ (∀ q, q < j - i → f q = g (i + q)) ∧ w' = [(v, aB G n g), (r, aB G (j - i) f)]) := by
  refine z_of hp (Or.inl (by decide)) (Nat.le_of_ble_eq_true rfl) ?_
  intro p e s m below meth c ls hx hb hr hml hts hown hlk hnm hk hsH V hl
  have hl : lv_has ls 3 [(0, .ref v), (1, iV (i : Nat)), (2, iV (j : Nat))] := hl
  refine lv_iload_n hx hb dJ15_copyOfRange_0 rfl (lv_at hl 1 rfl) ?_
  refine z_if_ne (tgt := 10) hx hb (by omega) dJ15_copyOfRange_1 (by decide) (fun c1 => ?_) (fun c1 => ?_)
  · skip
    refine lv_aload_n hx hb dJ15_copyOfRange_10 rfl (lv_at hl 0 rfl) ?_
    refine lv_iload_n hx hb dJ15_copyOfRange_11 rfl (lv_at hl 1 rfl) ?_
    refine lv_iload_n hx hb dJ15_copyOfRange_12 rfl (lv_at hl 2 rfl) ?_
    refine z_callS ⟨hx, hb, hml, hown, hts⟩ hk hl.1 V (wc := [(v, aB G n g)]) (wr := []) [0] [] rfl rfl rfl rfl (by decide) (As := [.ref v, iV (i : Nat), iV (j : Nat)]) (rest := []) (fun hp => ct_copyRangeB l G v n i j g hrg hbd hp) (va_cwS 3 hts (lw_S q742 q743 q91 q744) rfl rfl rfl (by decide +kernel) ⟨Nat.le_of_ble_eq_true rfl, Nat.le_of_ble_eq_true rfl⟩) rfl rfl (Nat.le_of_ble_eq_true rfl) dJ15_copyOfRange_13 ⟨by first | omega | (dsimp only; omega), by first | omega | (dsimp only; omega)⟩ (fun v F1 w1 H locs hq hle hou V => ?_)
    obtain ⟨r9, f9, rfl, rfl, hf9, rfl⟩ := hq
    refine W.eq (g2 := F0 m 16 ls [.ref r9]) rfl ?_
    have V : VV G _ _ F [(v, aB G n g), (r9, aB G (j - i) f9)] _ _ _ := V
    exact z_aret hx hb hr hlk V (Or.inr ⟨_, rfl⟩) (Or.inr ⟨_, rfl⟩) dJ15_copyOfRange_16 ⟨r9, f9, rfl, rfl, hf9, rfl⟩ ⟨by omega, by omega⟩
  · skip
    refine lv_iload_n hx hb dJ15_copyOfRange_4 rfl (lv_at hl 2 rfl) ?_
    refine lv_aload_n hx hb dJ15_copyOfRange_5 rfl (lv_at hl 0 rfl) ?_
    refine z_blen hx hb hk (V.w 0 rfl) dJ15_copyOfRange_6 ?_
    refine z_icmp_eq (tgt := 17) hx hb (by omega) dJ15_copyOfRange_7 (by decide) (fun c7 => ?_) (fun c7 => ?_)
    · skip
      refine lv_aload_n hx hb dJ15_copyOfRange_17 rfl (lv_at hl 0 rfl) ?_
      refine z_cloneB hx hb (by rw [hml]; exact hl.1.symm) hts hk V hown q630 q631 q632 q633 q634 q635 (V.w 0 rfl) hbd (Nat.le_of_ble_eq_true rfl) (Nat.le_of_ble_eq_true rfl) (Nat.le_of_ble_eq_true rfl) (by first | omega | (dsimp only; omega)) dJ15_copyOfRange_18 (fun r_1 H V => ?_)
      have V : VV G _ _ F [(v, aB G n g), (r_1, aB G n g)] _ _ _ := V
      refine va_castA hx hb hown (hts _ q636) (one_P (V.w 1 rfl)) 0 rfl (hk.K.2 0 _ rfl).2 dJ15_copyOfRange_21 ?_
      exact z_aret hx hb hr hlk V (Or.inr ⟨_, rfl⟩) (Or.inr ⟨_, rfl⟩) dJ15_copyOfRange_24 ⟨r_1, g, rfl, rfl, (fun q hq => by rw [show i = 0 by omega, Nat.zero_add]), by rw [show j - i = n by omega]⟩ ⟨by omega, by omega⟩
    · skip
      refine lv_aload_n hx hb dJ15_copyOfRange_10 rfl (lv_at hl 0 rfl) ?_
      refine lv_iload_n hx hb dJ15_copyOfRange_11 rfl (lv_at hl 1 rfl) ?_
      refine lv_iload_n hx hb dJ15_copyOfRange_12 rfl (lv_at hl 2 rfl) ?_
      refine z_callS ⟨hx, hb, hml, hown, hts⟩ hk hl.1 V (wc := [(v, aB G n g)]) (wr := []) [0] [] rfl rfl rfl rfl (by decide) (As := [.ref v, iV (i : Nat), iV (j : Nat)]) (rest := []) (fun hp => ct_copyRangeB l G v n i j g hrg hbd hp) (va_cwS 3 hts (lw_S q742 q743 q91 q744) rfl rfl rfl (by decide +kernel) ⟨Nat.le_of_ble_eq_true rfl, Nat.le_of_ble_eq_true rfl⟩) rfl rfl (Nat.le_of_ble_eq_true rfl) dJ15_copyOfRange_13 ⟨by first | omega | (dsimp only; omega), by first | omega | (dsimp only; omega)⟩ (fun v F1 w1 H locs hq hle hou V => ?_)
      obtain ⟨r9, f9, rfl, rfl, hf9, rfl⟩ := hq
      refine W.eq (g2 := F0 m 16 ls [.ref r9]) rfl ?_
      have V : VV G _ _ F [(v, aB G n g), (r9, aB G (j - i) f9)] _ _ _ := V
      exact z_aret hx hb hr hlk V (Or.inr ⟨_, rfl⟩) (Or.inr ⟨_, rfl⟩) dJ15_copyOfRange_16 ⟨r9, f9, rfl, rfl, hf9, rfl⟩ ⟨by omega, by omega⟩
set_option maxHeartbeats 4000000 in
theorem ct_copyRangeF (l : Launch) (G : gG) {F : fS} {Ha : Heap} (v n i j : Nat) (g : Nat → Int) (hrg : i ≤ j ∧ j ≤ n ∧ n ≤ 1000) (hbd : ∀ i, i < n → -128 ≤ g i ∧ g i < 128) (hv : F v = some (.inl (aB G n g))) (hp : Hp G F [] Ha) : CT l G yJ15_copyOfRange cJ15_copyOfRange 3 (some (.array .byte)) 3 84 1 n [.ref v, iV (i : Nat), iV (j : Nat)] F [] Ha (fun rv F' w' => ∃ (r : Nat) (f : Nat → Int), rv = some (.ref r) ∧ F = F' ∧ (∀ q, q < j - i → f q = g (i + q)) ∧ w' = [(r, aB G (j - i) f)]) := by
  refine z_of hp (Or.inl (by decide)) (Nat.le_of_ble_eq_true rfl) ?_
  intro p e s m below meth c ls hx hb hr hml hts hown hlk hnm hk hsH V hl
  have hl : lv_has ls 3 [(0, .ref v), (1, iV (i : Nat)), (2, iV (j : Nat))] := hl
  refine lv_iload_n hx hb dJ15_copyOfRange_0 rfl (lv_at hl 1 rfl) ?_
  refine z_if_ne (tgt := 10) hx hb (by omega) dJ15_copyOfRange_1 (by decide) (fun c1 => ?_) (fun c1 => ?_)
  · skip
    refine lv_aload_n hx hb dJ15_copyOfRange_10 rfl (lv_at hl 0 rfl) ?_
    refine lv_iload_n hx hb dJ15_copyOfRange_11 rfl (lv_at hl 1 rfl) ?_
    refine lv_iload_n hx hb dJ15_copyOfRange_12 rfl (lv_at hl 2 rfl) ?_
    refine z_callS ⟨hx, hb, hml, hown, hts⟩ hk hl.1 V (wc := []) (wr := []) [] [] rfl rfl rfl rfl (by decide) (As := [.ref v, iV (i : Nat), iV (j : Nat)]) (rest := []) (fun hp => ct_copyRangeBF l G v n i j g hrg hbd hv hp) (va_cwS 3 hts (lw_S q742 q743 q91 q744) rfl rfl rfl (by decide +kernel) ⟨Nat.le_of_ble_eq_true rfl, Nat.le_of_ble_eq_true rfl⟩) rfl rfl (Nat.le_of_ble_eq_true rfl) dJ15_copyOfRange_13 ⟨by first | omega | (dsimp only; omega), by first | omega | (dsimp only; omega)⟩ (fun v F1 w1 H locs hq hle hou V => ?_)
    obtain ⟨r9, f9, rfl, rfl, hf9, rfl⟩ := hq
    refine W.eq (g2 := F0 m 16 ls [.ref r9]) rfl ?_
    have V : VV G _ _ F [(r9, aB G (j - i) f9)] _ _ _ := V
    exact z_aret hx hb hr hlk V (Or.inr ⟨_, rfl⟩) (Or.inr ⟨_, rfl⟩) dJ15_copyOfRange_16 ⟨r9, f9, rfl, rfl, hf9, rfl⟩ ⟨by omega, by omega⟩
  · skip
    refine lv_iload_n hx hb dJ15_copyOfRange_4 rfl (lv_at hl 2 rfl) ?_
    refine lv_aload_n hx hb dJ15_copyOfRange_5 rfl (lv_at hl 0 rfl) ?_
    refine z_blen hx hb hk (V.f hv) dJ15_copyOfRange_6 ?_
    refine z_icmp_eq (tgt := 17) hx hb (by omega) dJ15_copyOfRange_7 (by decide) (fun c7 => ?_) (fun c7 => ?_)
    · skip
      refine lv_aload_n hx hb dJ15_copyOfRange_17 rfl (lv_at hl 0 rfl) ?_
      refine z_cloneB hx hb (by rw [hml]; exact hl.1.symm) hts hk V hown q630 q631 q632 q633 q634 q635 (V.f hv) hbd (Nat.le_of_ble_eq_true rfl) (Nat.le_of_ble_eq_true rfl) (Nat.le_of_ble_eq_true rfl) (by first | omega | (dsimp only; omega)) dJ15_copyOfRange_18 (fun r_1 H V => ?_)
      have V : VV G _ _ F [(r_1, aB G n g)] _ _ _ := V
      refine va_castA hx hb hown (hts _ q636) (one_P (V.w 0 rfl)) 0 rfl (hk.K.2 0 _ rfl).2 dJ15_copyOfRange_21 ?_
      exact z_aret hx hb hr hlk V (Or.inr ⟨_, rfl⟩) (Or.inr ⟨_, rfl⟩) dJ15_copyOfRange_24 ⟨r_1, g, rfl, rfl, (fun q hq => by rw [show i = 0 by omega, Nat.zero_add]), by rw [show j - i = n by omega]⟩ ⟨by omega, by omega⟩
    · skip
      refine lv_aload_n hx hb dJ15_copyOfRange_10 rfl (lv_at hl 0 rfl) ?_
      refine lv_iload_n hx hb dJ15_copyOfRange_11 rfl (lv_at hl 1 rfl) ?_
      refine lv_iload_n hx hb dJ15_copyOfRange_12 rfl (lv_at hl 2 rfl) ?_
      refine z_callS ⟨hx, hb, hml, hown, hts⟩ hk hl.1 V (wc := []) (wr := []) [] [] rfl rfl rfl rfl (by decide) (As := [.ref v, iV (i : Nat), iV (j : Nat)]) (rest := []) (fun hp => ct_copyRangeBF l G v n i j g hrg hbd hv hp) (va_cwS 3 hts (lw_S q742 q743 q91 q744) rfl rfl rfl (by decide +kernel) ⟨Nat.le_of_ble_eq_true rfl, Nat.le_of_ble_eq_true rfl⟩) rfl rfl (Nat.le_of_ble_eq_true rfl) dJ15_copyOfRange_13 ⟨by first | omega | (dsimp only; omega), by first | omega | (dsimp only; omega)⟩ (fun v F1 w1 H locs hq hle hou V => ?_)
      obtain ⟨r9, f9, rfl, rfl, hf9, rfl⟩ := hq
      refine W.eq (g2 := F0 m 16 ls [.ref r9]) rfl ?_
      have V : VV G _ _ F [(r9, aB G (j - i) f9)] _ _ _ := V
      exact z_aret hx hb hr hlk V (Or.inr ⟨_, rfl⟩) (Or.inr ⟨_, rfl⟩) dJ15_copyOfRange_16 ⟨r9, f9, rfl, rfl, hf9, rfl⟩ ⟨by omega, by omega⟩
set_option maxHeartbeats 4000000 in
theorem ct_SB_getValue (l : Launch) (G : gG) {F : fS} {Ha : Heap} (a v : Nat) (ml k : Int) (hp : Hp G F [(a, ob 3 [.ref v, iV 0, iV ml, iV k])] Ha) : CT l G yJ4_getValue cJ4_getValue 1 (some (.array .byte)) 1 12 0 0 [.ref a] F [(a, ob 3 [.ref v, iV 0, iV ml, iV k])] Ha (fun rv F' w' => rv = some (.ref v) ∧ F = F' ∧ w' = [(a, ob 3 [.ref v, iV 0, iV ml, iV k])]) := by
  refine z_of hp (Or.inl (by decide)) (Nat.le_of_ble_eq_true rfl) ?_
  intro p e s m below meth c ls hx hb hr hml hts hown hlk hnm hk hsH V hl
  have hl : lv_has ls 1 [(0, .ref a)] := hl
  refine lv_aload_n hx hb dJ4_getValue_0 rfl (lv_at hl 0 rfl) ?_
  refine z_get hx hb hts hk hown K_J5 (V.w 0 rfl) 0 (by decide) q237 (fun _ h => h) rfl dJ4_getValue_1 ?_
  exact z_aret hx hb hr hlk V (Or.inr ⟨_, rfl⟩) (Or.inr ⟨_, rfl⟩) dJ4_getValue_4 ⟨rfl, rfl, rfl⟩ ⟨Nat.le_of_ble_eq_true rfl, Nat.le_of_ble_eq_true rfl⟩
theorem TW.mk {G : gG} {r : Nat} {t : List Nat} {g f : Nat → Int} (h0 : ∀ c ∈ t, c < 128) (h4 : ∀ i, i < t.length → g i = (t.getD i 0 : Nat)) (hf : ∀ q, q < t.length - 0 → f q = g (0 + q)) : ∀ i, i < t.length → f i = (t.getD i 0 : Nat) := fun i hi => by rw [hf i (by omega), Nat.zero_add, h4 i hi]
theorem asc1W {G : gG} {A : Nat → Prop} {F0 F : fS} {q : Nat × va_E} {w : va_W} {H0 H : Heap} {locs : List Loc} (V : VV G A F0 F ([q] ++ w) H0 H locs) : VV G A F0 F (q :: w) H0 H locs := V
set_option maxHeartbeats 4000000 in
theorem ct_S_init2 (l : Launch) (G : gG) {F : fS} {Ha : Heap} (o a : Nat) (t : List Nat) (wl : va_W) (hw : BW G a t wl) (hp : Hp G F ([(o, ob 4 [.null, iV 0, iV 0, iV 0])] ++ wl) Ha) : CT l G yJ6_init_2 cJ6_init_2 5 none 4 106 1 818 [.ref o, .ref a, .null] F ([(o, ob 4 [.null, iV 0, iV 0, iV 0])] ++ wl) Ha (fun rv F' w' => ∃ (r : Nat) (f : Nat → Int), rv = none ∧ F = F' ∧ (∀ i, i < t.length → f i = (t.getD i 0 : Nat)) ∧ ∃ w1, BW G a t w1 ∧ w' = [(o, ob 4 [.ref r, iV 0, iV 0, iV 0]), (r, aB G t.length f)] ++ w1) := by
  refine z_of hp (Or.inl (by decide)) (Nat.le_of_ble_eq_true rfl) ?_
  intro p e s m below meth c ls hx hb hr hml hts hown hlk hnm hk hsH V hl
  have hl : lv_has ls 5 [(0, .ref o), (1, .ref a), (2, .null)] := hl
  obtain ⟨v, n, g, ml, b0, b1, b2, b3, b4, b5, b6, rfl⟩ := hw
  refine lv_aload_n hx hb dJ6_init_2_0 rfl (lv_at hl 0 rfl) ?_
  refine W.objInit hx hb hown (hts _ q731) (hts _ q138) (hts _ q139) rfl (by rw [hml]; exact hl.1) rfl dJ6_init_2_1 (Nat.le_of_ble_eq_true rfl) (Nat.le_of_ble_eq_true rfl) ?_
  refine W.eq (g2 := F0 m 4 ls []) rfl ?_
  refine lv_aload_n hx hb dJ6_init_2_4 rfl (lv_at hl 1 rfl) ?_
  refine z_callV ⟨hx, hb, hml, hown, hts⟩ hk hl.1 V (wc := [(a, ob 3 [.ref v, iV 0, iV ml, iV (t.length : Nat)])]) (wr := [(o, ob 4 [.null, iV 0, iV 0, iV 0]), (v, aB G n g)]) [1] [0, 2] rfl rfl rfl rfl (by decide) (As := []) (rest := []) (fun hp => ct_SB_getValue l G a v ml t.length hp) ⟨callB_of 0 hts (lw_meth q736) rfl rfl rfl (hts _ q79) (hts _ q732) (by decide +kernel) ⟨Nat.le_of_ble_eq_true rfl, Nat.le_of_ble_eq_true rfl⟩, hts _ q733, (hts _ q735)⟩ (z_rc hk (V.w 1 rfl) (q := (RJ5, TJ5, 4)) rfl) rfl rfl (Nat.le_of_ble_eq_true rfl) dJ6_init_2_5 ⟨Nat.le_of_ble_eq_true rfl, Nat.le_of_ble_eq_true rfl⟩ (fun v F1 w1 H locs hq hle hou V => ?_)
  obtain ⟨rfl, rfl, rfl⟩ := hq
  refine W.eq (g2 := F0 m 8 ls [.ref v]) rfl ?_
  have V : VV G _ _ F [(o, ob 4 [.null, iV 0, iV 0, iV 0]), (v, aB G n g), (a, ob 3 [.ref v, iV 0, iV ml, iV (t.length : Nat)])] _ _ _ := V
  refine lv_astore_n (lv' := [(3, .ref v), (0, .ref o), (1, .ref a), (2, .null)]) hx hb dJ6_init_2_8 rfl hl (by decide) rfl (fun ls hl => ?_)
  refine lv_aload_n hx hb dJ6_init_2_9 rfl (lv_at hl 2 rfl) ?_
  refine z_callU ⟨hx, hb, hml, hown, hts⟩ hk hl.1 V (wc := [(a, ob 3 [.ref v, iV 0, iV ml, iV (t.length : Nat)]), (v, aB G n g)]) (wr := [(o, ob 4 [.null, iV 0, iV 0, iV 0])]) [2, 1] [0] rfl rfl rfl rfl (by decide) (As := []) (rest := []) (fun hp => ct_SB_length l G a t [(a, ob 3 [.ref v, iV 0, iV ml, iV (t.length : Nat)]), (v, aB G n g)] ⟨v, n, g, ml, b0, b1, b2, b3, b4, b5, b6, rfl⟩ hp) (va_cwO (owner := "java/lang/AbstractStringBuilder") 0 hts (lw_app (lw_in6 q737 q3123 q590 q3128 q586 q80) (lw_meth q588)) rfl rfl rfl q591 (by decide +kernel) ⟨Nat.le_of_ble_eq_true rfl, Nat.le_of_ble_eq_true rfl⟩) (z_rc hk (V.w 2 rfl) (q := (RJ5, TJ5, 4)) rfl) rfl rfl (Nat.le_of_ble_eq_true rfl) dJ6_init_2_10 ⟨Nat.le_of_ble_eq_true rfl, Nat.le_of_ble_eq_true rfl⟩ (fun v F1 w1 H locs hq hle hou V => ?_)
  obtain ⟨rfl, rfl, rfl⟩ := hq
  refine W.eq (g2 := F0 m 13 ls [iV (t.length : Nat)]) rfl ?_
  have V : VV G _ _ F [(o, ob 4 [.null, iV 0, iV 0, iV 0]), (a, ob 3 [.ref v, iV 0, iV ml, iV (t.length : Nat)]), (v, aB G n g)] _ _ _ := V
  refine lv_istore (lv' := [(4, iV (t.length : Nat)), (3, .ref v), (0, .ref o), (1, .ref a), (2, .null)]) hx hb dJ6_init_2_13 hl (by decide) rfl (fun ls hl => ?_)
  refine lv_aload_n hx hb dJ6_init_2_15 rfl (lv_at hl 3 rfl) ?_
  refine z_callV ⟨hx, hb, hml, hown, hts⟩ hk hl.1 V (wc := [(a, ob 3 [.ref v, iV 0, iV ml, iV (t.length : Nat)])]) (wr := [(o, ob 4 [.null, iV 0, iV 0, iV 0]), (v, aB G n g)]) [1] [0, 2] rfl rfl rfl rfl (by decide) (As := []) (rest := []) (fun hp => ct_SB_isLatin1 l G a v ml t.length hp) ⟨callB_of 0 hts (lw_meth q641) rfl rfl rfl (hts _ q79) (hts _ q738) (by decide +kernel) ⟨Nat.le_of_ble_eq_true rfl, Nat.le_of_ble_eq_true rfl⟩, hts _ q638, (hts _ q640)⟩ (z_rc hk (V.w 1 rfl) (q := (RJ5, TJ5, 4)) rfl) rfl rfl (Nat.le_of_ble_eq_true rfl) dJ6_init_2_16 ⟨Nat.le_of_ble_eq_true rfl, Nat.le_of_ble_eq_true rfl⟩ (fun v F1 w1 H locs hq hle hou V => ?_)
  obtain ⟨rfl, rfl, rfl⟩ := hq
  refine W.eq (g2 := F0 m 19 ls [iV 1]) rfl ?_
  have V : VV G _ _ F [(o, ob 4 [.null, iV 0, iV 0, iV 0]), (v, aB G n g), (a, ob 3 [.ref v, iV 0, iV ml, iV (t.length : Nat)])] _ _ _ := V
  refine z_if_eq (tgt := 41) hx hb (by omega) dJ6_init_2_19 (by decide) (fun c19 => by omega) (fun c19 => ?_)
  refine lv_aload_n hx hb dJ6_init_2_22 rfl (lv_at hl 2 rfl) ?_
  refine lv_iconst (v := iZ 0) hx hb dJ6_init_2_23 rfl ?_
  refine z_putF hx hb hts hk V hown K_J6 0 rfl 1 (by decide) q851 (fun _ h => h) rfl hnm rfl rfl rfl (Nat.le_of_ble_eq_true rfl) dJ6_init_2_24 (fun H locs V => ?_)
  have V : VV G _ _ F [(o, ob 4 [.null, iV 0, iV 0, iV 0]), (v, aB G n g), (a, ob 3 [.ref v, iV 0, iV ml, iV (t.length : Nat)])] _ _ _ := V
  refine lv_aload_n hx hb dJ6_init_2_27 rfl (lv_at hl 2 rfl) ?_
  refine lv_aload_n hx hb dJ6_init_2_28 rfl (lv_at hl 1 rfl) ?_
  refine lv_iconst (v := iZ 0) hx hb dJ6_init_2_29 rfl ?_
  refine lv_iload hx hb dJ6_init_2_30 (lv_at hl 0 rfl) ?_
  refine z_callS ⟨hx, hb, hml, hown, hts⟩ hk hl.1 V (wc := [(v, aB G n g)]) (wr := [(o, ob 4 [.null, iV 0, iV 0, iV 0]), (a, ob 3 [.ref v, iV 0, iV ml, iV (t.length : Nat)])]) [1] [0, 2] rfl rfl rfl rfl (by decide) (As := [.ref v, iV 0, iV (t.length : Nat)]) (rest := [.ref o]) (fun hp => ct_copyRange l G v n 0 t.length g (by omega) b5 hp) (va_cwS 3 hts (lw_S q739 q740 q91 q741) rfl rfl rfl (by decide +kernel) ⟨Nat.le_of_ble_eq_true rfl, Nat.le_of_ble_eq_true rfl⟩) rfl rfl (Nat.le_of_ble_eq_true rfl) dJ6_init_2_32 ⟨by first | omega | (dsimp only; omega), by first | omega | (dsimp only; omega)⟩ (fun v F1 w1 H locs hq hle hou V => ?_)
  obtain ⟨r, f, rfl, rfl, hf, rfl⟩ := hq
  refine W.eq (g2 := F0 m 35 ls [.ref r, .ref o]) rfl ?_
  have V : VV G _ _ F [(o, ob 4 [.null, iV 0, iV 0, iV 0]), (a, ob 3 [.ref v, iV 0, iV ml, iV (t.length : Nat)]), (v, aB G n g), (r, aB G (t.length - 0) f)] _ _ _ := V
  refine z_putF hx hb hts hk V hown K_J6 0 rfl 0 (by decide) q850 (fun _ h => h) rfl hnm rfl rfl rfl (Nat.le_of_ble_eq_true rfl) dJ6_init_2_35 (fun H locs V => ?_)
  have V : VV G _ _ F [(o, ob 4 [.ref r, iV 0, iV 0, iV 0]), (a, ob 3 [.ref v, iV 0, iV ml, iV (t.length : Nat)]), (v, aB G n g), (r, aB G (t.length - 0) f)] _ _ _ := V
  refine lv_goto (tgt := 97) hx hb dJ6_init_2_38 (by decide) ?_
  have V := V.sub (w1 := [(o, ob 4 [.ref r, iV 0, iV 0, iV 0]), (r, aB G (t.length - 0) f), (a, ob 3 [.ref v, iV 0, iV ml, iV (t.length : Nat)]), (v, aB G n g)]) [0, 3, 1, 2] rfl rfl
  exact z_vret hx hb hr hlk V dJ6_init_2_97 ⟨r, f, rfl, rfl, TW.mk (r := r) (G := G) b0 b4 hf, _, ⟨v, n, g, ml, b0, b1, b2, b3, b4, b5, b6, rfl⟩, rfl⟩ ⟨by omega, by omega⟩
set_option maxHeartbeats 4000000 in
theorem ct_S_init (l : Launch) (G : gG) {F : fS} {Ha : Heap} (o a : Nat) (t : List Nat) (wl : va_W) (hw : BW G a t wl) (hp : Hp G F ([(o, ob 4 [.null, iV 0, iV 0, iV 0])] ++ wl) Ha) : CT l G yJ6_init cJ6_init 2 none 5 130 1 818 [.ref o, .ref a] F ([(o, ob 4 [.null, iV 0, iV 0, iV 0])] ++ wl) Ha (fun rv F' w' => ∃ (r : Nat) (f : Nat → Int), rv = none ∧ F = F' ∧ (∀ i, i < t.length → f i = (t.getD i 0 : Nat)) ∧ ∃ w1, BW G a t w1 ∧ w' = [(o, ob 4 [.ref r, iV 0, iV 0, iV 0]), (r, aB G t.length f)] ++ w1) := by
  refine z_of hp (Or.inl (by decide)) (Nat.le_of_ble_eq_true rfl) ?_
  intro p e s m below meth c ls hx hb hr hml hts hown hlk hnm hk hsH V hl
  have hl : lv_has ls 2 [(0, .ref o), (1, .ref a)] := hl
  refine lv_aload_n hx hb dJ6_init_0 rfl (lv_at hl 0 rfl) ?_
  refine lv_aload_n hx hb dJ6_init_1 rfl (lv_at hl 1 rfl) ?_
  refine lv_null hx hb dJ6_init_2 ?_
  refine z_callI ⟨hx, hb, hml, hown, hts⟩ hk hl.1 V (wc := ([(o, ob 4 [.null, iV 0, iV 0, iV 0])] ++ wl)) (wr := []) ([0] ++ tIx [(o, ob 4 [.null, iV 0, iV 0, iV 0])] wl) [] (idxT (w := [(o, ob 4 [.null, iV 0, iV 0, iV 0])]) (t := wl) (wC := [(o, ob 4 [.null, iV 0, iV 0, iV 0])]) (is := [0]) rfl) (idxN (w := [(o, ob 4 [.null, iV 0, iV 0, iV 0])]) (t := wl) (wC := []) (is := []) rfl) (ndT (w := [(o, ob 4 [.null, iV 0, iV 0, iV 0])]) (t := wl) (wC := [(o, ob 4 [.null, iV 0, iV 0, iV 0])]) (is := [0]) rfl rfl) rfl (disT (w := [(o, ob 4 [.null, iV 0, iV 0, iV 0])]) (t := wl) (wR := []) (isR := []) rfl (by decide)) (As := [.ref a, .null]) (rest := []) (fun hp => ct_S_init2 l G o a t wl hw hp) (cwI 2 hts (lw_meth q730) rfl rfl rfl (hts _ q81) (hts _ q728) (hts _ q729) rfl (by decide +kernel) ⟨Nat.le_of_ble_eq_true rfl, Nat.le_of_ble_eq_true rfl⟩) rfl rfl (Nat.le_of_ble_eq_true rfl) dJ6_init_3 ⟨Nat.le_of_ble_eq_true rfl, Nat.le_of_ble_eq_true rfl⟩ (fun v F1 w1 H locs hq hle hou V => ?_)
  obtain ⟨r, f, rfl, rfl, hf, w2, hw2, rfl⟩ := hq
  have V := VV.asc (z := [(o, ob 4 [.ref r, iV 0, iV 0, iV 0]), (r, aB G t.length f)]) (t := w2) V
  refine W.eq (g2 := F0 m 6 ls []) rfl ?_
  have V : VV G _ _ F ([(o, ob 4 [.ref r, iV 0, iV 0, iV 0]), (r, aB G t.length f)] ++ w2) _ _ _ := V
  exact z_vret hx hb hr hlk V dJ6_init_6 ⟨r, f, rfl, rfl, hf, w2, hw2, rfl⟩ ⟨Nat.le_of_ble_eq_true rfl, Nat.le_of_ble_eq_true rfl⟩
theorem BW.lt {G : gG} {a : Nat} {t : List Nat} {w : va_W} (h : BW G a t w) : (∀ c ∈ t, c < 128) ∧ t.length ≤ 400 := by
  obtain ⟨v, n, g, ml, b0, b1, -⟩ := h
  exact ⟨b0, b1⟩
set_option maxHeartbeats 4000000 in
theorem ct_SB_toString (l : Launch) (G : gG) {F : fS} {Ha : Heap} (a : Nat) (t : List Nat) (wl : va_W) (hw : BW G a t wl) (hp : Hp G F wl Ha) : CT l G yJ5_toString cJ5_toString 1 (some (.object "java/lang/String")) 6 151 2 822 [.ref a] F wl Ha (fun rv F' w' => ∃ o : Nat, rv = some (.ref o) ∧ SH G F' o t ∧ BW G a t w') := by
  refine z_of hp (Or.inl (by decide)) (Nat.le_of_ble_eq_true rfl) ?_
  intro p e s m below meth c ls hx hb hr hml hts hown hlk hnm hk hsH V hl
  have hl : lv_has ls 1 [(0, .ref a)] := hl
  obtain ⟨fs, hcell⟩ := hw.cell
  refine z_new (fs := [.null, iV 0, iV 0, iV 0]) hx hb hts hk V hown K_J6 q723 q724 q81 df_J6 (Nat.le_of_ble_eq_true rfl) (Nat.le_of_ble_eq_true rfl) dJ5_toString_0 (fun o_1 H V => ?_)
  have V := VV.rot1 (w := []) V
  have V : VV G _ _ F ([(o_1, ob 4 [.null, iV 0, iV 0, iV 0])] ++ wl) _ _ _ := V
  refine lv_dup hx hb dJ5_toString_3 rfl ?_
  refine lv_aload_n hx hb dJ5_toString_4 rfl (lv_at hl 0 rfl) ?_
  refine z_callI ⟨hx, hb, hml, hown, hts⟩ hk hl.1 V (wc := ([(o_1, ob 4 [.null, iV 0, iV 0, iV 0])] ++ wl)) (wr := []) ([0] ++ tIx [(o_1, ob 4 [.null, iV 0, iV 0, iV 0])] wl) [] (idxT (w := [(o_1, ob 4 [.null, iV 0, iV 0, iV 0])]) (t := wl) (wC := [(o_1, ob 4 [.null, iV 0, iV 0, iV 0])]) (is := [0]) rfl) (idxN (w := [(o_1, ob 4 [.null, iV 0, iV 0, iV 0])]) (t := wl) (wC := []) (is := []) rfl) (ndT (w := [(o_1, ob 4 [.null, iV 0, iV 0, iV 0])]) (t := wl) (wC := [(o_1, ob 4 [.null, iV 0, iV 0, iV 0])]) (is := [0]) rfl rfl) rfl (disT (w := [(o_1, ob 4 [.null, iV 0, iV 0, iV 0])]) (t := wl) (wR := []) (isR := []) rfl (by decide)) (As := [.ref a]) (rest := [.ref o_1]) (fun hp => ct_S_init l G o_1 a t wl hw hp) (cwI 1 hts (lw_meth q727) rfl rfl rfl (hts _ q81) (hts _ q725) (hts _ q726) rfl (by decide +kernel) ⟨Nat.le_of_ble_eq_true rfl, Nat.le_of_ble_eq_true rfl⟩) rfl rfl (Nat.le_of_ble_eq_true rfl) dJ5_toString_5 ⟨Nat.le_of_ble_eq_true rfl, Nat.le_of_ble_eq_true rfl⟩ (fun v F1 w1 H locs hq hle hou V => ?_)
  obtain ⟨r, f, rfl, rfl, hf, w2, hw2, rfl⟩ := hq
  have V := VV.asc (z := [(o_1, ob 4 [.ref r, iV 0, iV 0, iV 0]), (r, aB G t.length f)]) (t := w2) V
  refine W.eq (g2 := F0 m 8 ls [.ref o_1]) rfl ?_
  have V : VV G _ _ F ([(o_1, ob 4 [.ref r, iV 0, iV 0, iV 0]), (r, aB G t.length f)] ++ w2) _ _ _ := V
  obtain ⟨F2, hle_F2, hS, V⟩ := VV.frzS (wr := ([] ++ w2)) V [0, 1] ([] ++ tIx [(o_1, ob 4 [.ref r, iV 0, iV 0, iV 0]), (r, aB G t.length f)] w2) (idxN (w := [(o_1, ob 4 [.ref r, iV 0, iV 0, iV 0]), (r, aB G t.length f)]) (t := w2) (wC := [(o_1, ob 4 [.ref r, iV 0, iV 0, iV 0]), (r, aB G t.length f)]) (is := [0, 1]) rfl) (idxT (w := [(o_1, ob 4 [.ref r, iV 0, iV 0, iV 0]), (r, aB G t.length f)]) (t := w2) (wC := []) (is := []) rfl) rfl (ndT (w := [(o_1, ob 4 [.ref r, iV 0, iV 0, iV 0]), (r, aB G t.length f)]) (t := w2) (wC := []) (is := []) rfl rfl) (disT2 (w := [(o_1, ob 4 [.ref r, iV 0, iV 0, iV 0]), (r, aB G t.length f)]) (t := w2) (wC := [(o_1, ob 4 [.ref r, iV 0, iV 0, iV 0]), (r, aB G t.length f)]) (isC := [0, 1]) rfl (by decide)) t hw.lt.1 rfl (by have := hw.lt.2; omega) hf
  have V : VV G _ _ F2 ([] ++ w2) _ _ _ := V
  exact z_aret hx hb hr hlk V (Or.inl ⟨_, rfl⟩) (Or.inr ⟨_, rfl⟩) dJ5_toString_8 ⟨o_1, rfl, hS, hw2⟩ ⟨Nat.le_of_ble_eq_true rfl, Nat.le_of_ble_eq_true rfl⟩
