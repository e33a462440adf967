/-! JDK: substring, hashes (printed by gen/jdk5.py) -/
set_option maxRecDepth 100000
set_option maxHeartbeats 4000000 in
theorem ct_S_init3 (l : Launch) (G : gG) {F : fS} {Ha : Heap} (o r : Nat) (hp : Hp G F [(o, ob 4 [.null, iV 0, iV 0, iV 0])] Ha) : CT l G yJ6_init_3 cJ6_init_3 3 none 1 40 0 0 [.ref o, .ref r, iV 0] F [(o, ob 4 [.null, iV 0, iV 0, iV 0])] Ha (fun rv F' w' => rv = none ∧ F = F' ∧ w' = [(o, ob 4 [.ref r, iV 0, iV 0, iV 0])]) := by
  refine z_of hp (Or.inl (by decide)) (Nat.le_of_ble_eq_true rfl) ?_
  intro p e s m below meth c ls hx hb hr hml hts hown hlk hnm hk hsH V hl
  have hl : lv_has ls 3 [(0, .ref o), (1, .ref r), (2, iV 0)] := hl
  refine lv_aload_n hx hb dJ6_init_3_0 rfl (lv_at hl 0 rfl) ?_
  refine W.objInit hx hb hown (hts _ q731) (hts _ q138) (hts _ q139) rfl (by rw [hml]; exact hl.1) rfl dJ6_init_3_1 (Nat.le_of_ble_eq_true rfl) (Nat.le_of_ble_eq_true rfl) ?_
  refine W.eq (g2 := F0 m 4 ls []) rfl ?_
  refine lv_aload_n hx hb dJ6_init_3_4 rfl (lv_at hl 0 rfl) ?_
  refine lv_aload_n hx hb dJ6_init_3_5 rfl (lv_at hl 1 rfl) ?_
  refine z_putF hx hb hts hk V hown K_J6 0 rfl 0 (by decide) q850 (fun _ h => h) rfl hnm rfl rfl rfl (Nat.le_of_ble_eq_true rfl) dJ6_init_3_6 (fun H locs V => ?_)
  have V : VV G _ _ F [(o, ob 4 [.ref r, iV 0, iV 0, iV 0])] _ _ _ := V
  refine lv_aload_n hx hb dJ6_init_3_9 rfl (lv_at hl 0 rfl) ?_
  refine lv_iload_n hx hb dJ6_init_3_10 rfl (lv_at hl 2 rfl) ?_
  refine z_putF hx hb hts hk V hown K_J6 0 rfl 1 (by decide) q851 (fun _ h => h) rfl hnm rfl rfl rfl (Nat.le_of_ble_eq_true rfl) dJ6_init_3_11 (fun H locs V => ?_)
  have V : VV G _ _ F [(o, ob 4 [.ref r, iV 0, iV 0, iV 0])] _ _ _ := V
  exact z_vret hx hb hr hlk V dJ6_init_3_14 ⟨rfl, rfl, rfl⟩ ⟨Nat.le_of_ble_eq_true rfl, Nat.le_of_ble_eq_true rfl⟩
theorem sub_get {t : List Nat} {i k q : Nat} (hi : i + k ≤ t.length) (hq : q < k) : ((t.drop i).take k).getD q 0 = t.getD (i + q) 0 := by
  rw [List.getD_eq_getElem?_getD, List.getD_eq_getElem?_getD, List.getElem?_take, if_pos hq, List.getElem?_drop]
theorem sub_len {t : List Nat} {i k : Nat} (hi : i + k ≤ t.length) : ((t.drop i).take k).length = k := by
  rw [List.length_take, List.length_drop]
  omega
theorem sub_lt {t : List Nat} {i k : Nat} (h : ∀ c ∈ t, c < 128) : ∀ c ∈ (t.drop i).take k, c < 128 := fun c hc => h c (List.mem_of_mem_drop (List.mem_of_mem_take hc))
set_option maxHeartbeats 4000000 in
theorem ct_L_newString (l : Launch) (G : gG) {F : fS} {Ha : Heap} (v : Nat) (t : List Nat) (h : BF G F v t) (i k : Nat) (hrg : 0 < k ∧ i + k ≤ t.length) (hp : Hp G F [] Ha) : CT l G yJ16_newString cJ16_newString 3 (some (.object "java/lang/String")) 4 106 2 1004 [.ref v, iV (i : Nat), iV (k : Nat)] F [] Ha (fun rv F' w' => ∃ o : Nat, rv = some (.ref o) ∧ SH G F' o ((t.drop i).take k) ∧ w' = []) := by
  refine z_of hp (Or.inl (by decide)) (Nat.le_of_ble_eq_true rfl) ?_
  intro p e s m below meth c ls hx hb hr hml hts hown hlk hnm hk hsH V hl
  have hl : lv_has ls 3 [(0, .ref v), (1, iV (i : Nat)), (2, iV (k : Nat))] := hl
  obtain ⟨hc, hl9, g, hv, hg⟩ := h
  have hbd : ∀ z, z < t.length → -128 ≤ g z ∧ g z < 128 := fun z hz => by have := ltD hc z; rw [hg z hz]; omega
  refine lv_iload_n hx hb dJ16_newString_0 rfl (lv_at hl 2 rfl) ?_
  refine z_if_ne (tgt := 7) hx hb (by omega) dJ16_newString_1 (by decide) (fun c1 => ?_) (fun c1 => by omega)
  refine z_new (fs := [.null, iV 0, iV 0, iV 0]) hx hb hts hk V hown K_J6 q1033 q724 q81 df_J6 (Nat.le_of_ble_eq_true rfl) (Nat.le_of_ble_eq_true rfl) dJ16_newString_7 (fun o_1 H V => ?_)
  have V : VV G _ _ F [(o_1, ob 4 [.null, iV 0, iV 0, iV 0])] _ _ _ := V
  refine lv_dup hx hb dJ16_newString_10 rfl ?_
  refine lv_aload_n hx hb dJ16_newString_11 rfl (lv_at hl 0 rfl) ?_
  refine lv_iload_n hx hb dJ16_newString_12 rfl (lv_at hl 1 rfl) ?_
  refine lv_iload_n hx hb dJ16_newString_13 rfl (lv_at hl 1 rfl) ?_
  refine lv_iload_n hx hb dJ16_newString_14 rfl (lv_at hl 2 rfl) ?_
  refine z_iadd hx hb dJ16_newString_15 ?_
  have ev : ((i : Nat) : Int) + (k : Nat) = ((i + k : Nat) : Int) := by omega
  rw [ev]
  refine z_callS ⟨hx, hb, hml, hown, hts⟩ hk hl.1 V (wc := []) (wr := [(o_1, ob 4 [.null, iV 0, iV 0, iV 0])]) [] [0] rfl rfl rfl rfl (by decide) (As := [.ref v, iV (i : Nat), iV ((i + k : Nat) : Int)]) (rest := [.ref o_1, .ref o_1]) (fun hp => ct_copyRangeF l G v t.length i (i + k) g (by omega) hbd hv hp) (va_cwS 3 hts (lw_S q1034 q740 q91 q741) rfl rfl rfl (by decide +kernel) ⟨Nat.le_of_ble_eq_true rfl, Nat.le_of_ble_eq_true rfl⟩) rfl rfl (Nat.le_of_ble_eq_true rfl) dJ16_newString_16 ⟨by first | omega | (dsimp only; omega), by first | omega | (dsimp only; omega)⟩ (fun v F1 w1 H locs hq hle hou V => ?_)
  obtain ⟨r, f, rfl, rfl, hf, rfl⟩ := hq
  refine W.eq (g2 := F0 m 19 ls [.ref r, .ref o_1, .ref o_1]) rfl ?_
  have V : VV G _ _ F [(o_1, ob 4 [.null, iV 0, iV 0, iV 0]), (r, aB G (i + k - i) f)] _ _ _ := V
  refine lv_iconst (v := iZ 0) hx hb dJ16_newString_19 rfl ?_
  refine z_callI ⟨hx, hb, hml, hown, hts⟩ hk hl.1 V (wc := [(o_1, ob 4 [.null, iV 0, iV 0, iV 0])]) (wr := [(r, aB G (i + k - i) f)]) [0] [1] rfl rfl rfl rfl (by decide) (As := [.ref r, iV 0]) (rest := [.ref o_1]) (fun hp => ct_S_init3 l G o_1 r hp) (cwI 2 hts (lw_meth q1037) rfl rfl rfl (hts _ q81) (hts _ q1035) (hts _ q1036) rfl (by decide +kernel) ⟨Nat.le_of_ble_eq_true rfl, Nat.le_of_ble_eq_true rfl⟩) rfl rfl (Nat.le_of_ble_eq_true rfl) dJ16_newString_20 ⟨by first | omega | (dsimp only; omega), by first | omega | (dsimp only; omega)⟩ (fun v F1 w1 H locs hq hle hou V => ?_)
  obtain ⟨rfl, rfl, rfl⟩ := hq
  refine W.eq (g2 := F0 m 23 ls [.ref o_1]) rfl ?_
  have V : VV G _ _ F [(r, aB G (i + k - i) f), (o_1, ob 4 [.ref r, iV 0, iV 0, iV 0])] _ _ _ := V
  obtain ⟨F2, hle_F2, hS, V⟩ := VV.frzS (wr := []) V [1, 0] [] rfl rfl rfl rfl (by decide) ((t.drop i).take k) (sub_lt hc) (by rw [sub_len (by omega)]; omega) (by rw [sub_len (by omega)]; omega) (fun q hq => by rw [sub_len (by omega)] at hq; rw [hf q (by omega), hg _ (by omega), sub_get (by omega) hq])
  have V : VV G _ _ F2 [] _ _ _ := V
  have hv := hle_F2 _ _ hv
  exact z_aret hx hb hr hlk V (Or.inl ⟨_, rfl⟩) (Or.inr ⟨_, rfl⟩) dJ16_newString_23 ⟨o_1, rfl, hS, rfl⟩ ⟨by omega, by omega⟩
set_option maxHeartbeats 4000000 in
theorem ct_S_substring (l : Launch) (G : gG) {F : fS} {Ha : Heap} (a : Nat) (t : List Nat) (h : SH G F a t) (i j : Nat) (hrg : i < j ∧ j ≤ t.length) (hp : Hp G F [] Ha) : CT l G yJ6_substring cJ6_substring 5 (some (.object "java/lang/String")) 5 128 2 1004 [.ref a, iV (i : Nat), iV (j : Nat)] F [] Ha (fun rv F' w' => ∃ o : Nat, rv = some (.ref o) ∧ SH G F' o ((t.drop i).take (j - i)) ∧ w' = []) := by
  refine z_of hp (Or.inl (by decide)) (Nat.le_of_ble_eq_true rfl) ?_
  intro p e s m below meth c ls hx hb hr hml hts hown hlk hnm hk hsH V hl
  have hl : lv_has ls 5 [(0, .ref a), (1, iV (i : Nat)), (2, iV (j : Nat))] := hl
  have h' : SF G F a t := Or.inl h
  obtain ⟨v, hh, zz, hat, hbf⟩ := SF.B h' V
  have hlt := hbf.2.1
  refine lv_aload_n hx hb dJ6_substring_0 rfl (lv_at hl 0 rfl) ?_
  refine z_callV ⟨hx, hb, hml, hown, hts⟩ hk hl.1 V (wc := []) (wr := []) [] [] rfl rfl rfl rfl (by decide) (As := []) (rest := []) (fun hp => ct_S_length l G a t h' hp) (cwV 0 hts (lw_V q1027 q801 q802 q81 q803) rfl rfl rfl (by decide +kernel) ⟨Nat.le_of_ble_eq_true rfl, Nat.le_of_ble_eq_true rfl⟩) (z_rc hk hat (q := (RJ6, TJ6, 4)) rfl) rfl rfl (Nat.le_of_ble_eq_true rfl) dJ6_substring_1 ⟨Nat.le_of_ble_eq_true rfl, Nat.le_of_ble_eq_true rfl⟩ (fun v F1 w1 H locs hq hle hou V => ?_)
  obtain ⟨rfl, rfl, rfl⟩ := hq
  refine W.eq (g2 := F0 m 4 ls [iV (t.length : Nat)]) rfl ?_
  have V : VV G _ _ F [] _ _ _ := V
  refine lv_istore_n (lv' := [(3, iV (t.length : Nat)), (0, .ref a), (1, iV (i : Nat)), (2, iV (j : Nat))]) hx hb dJ6_substring_4 rfl hl (by decide) rfl (fun ls hl => ?_)
  refine lv_iload_n hx hb dJ6_substring_5 rfl (lv_at hl 2 rfl) ?_
  refine lv_iload_n hx hb dJ6_substring_6 rfl (lv_at hl 3 rfl) ?_
  refine lv_iload_n hx hb dJ6_substring_7 rfl (lv_at hl 0 rfl) ?_
  refine z_callS ⟨hx, hb, hml, hown, hts⟩ hk hl.1 V (wc := []) (wr := []) [] [] rfl rfl rfl rfl (by decide) (As := [iV (i : Nat), iV (j : Nat), iV (t.length : Nat)]) (rest := []) (fun hp => ct_S_checkBounds l G i j t.length (by have := hbf.2.1; omega) hp) (va_cwS 3 hts (lw_S q1028 q775 q81 q776) rfl rfl rfl (by decide +kernel) ⟨Nat.le_of_ble_eq_true rfl, Nat.le_of_ble_eq_true rfl⟩) rfl rfl (Nat.le_of_ble_eq_true rfl) dJ6_substring_8 ⟨Nat.le_of_ble_eq_true rfl, Nat.le_of_ble_eq_true rfl⟩ (fun v F1 w1 H locs hq hle hou V => ?_)
  obtain ⟨rfl, rfl, rfl⟩ := hq
  refine W.eq (g2 := F0 m 11 ls []) rfl ?_
  have V : VV G _ _ F [] _ _ _ := V
  refine lv_iload_n hx hb dJ6_substring_11 rfl (lv_at hl 2 rfl) ?_
  refine z_if_ne (tgt := 22) hx hb (by omega) dJ6_substring_12 (by decide) (fun c12 => ?_) (fun c12 => ?_)
  · skip
    obtain ⟨v, hh, zz, hat, hbf⟩ := SF.B h' V
    refine lv_iload_n hx hb dJ6_substring_22 rfl (lv_at hl 3 rfl) ?_
    refine lv_iload_n hx hb dJ6_substring_23 rfl (lv_at hl 2 rfl) ?_
    refine z_isub hx hb dJ6_substring_24 ?_
    refine lv_istore (lv' := [(4, iV ((j : Nat) - (i : Nat))), (3, iV (t.length : Nat)), (0, .ref a), (1, iV (i : Nat)), (2, iV (j : Nat))]) hx hb dJ6_substring_25 hl (by decide) rfl (fun ls hl => ?_)
    refine lv_aload_n hx hb dJ6_substring_27 rfl (lv_at hl 2 rfl) ?_
    refine z_callV ⟨hx, hb, hml, hown, hts⟩ hk hl.1 V (wc := []) (wr := []) [] [] rfl rfl rfl rfl (by decide) (As := []) (rest := []) (fun hp => ct_S_isLatin1 l G a t h' hp) (cwV 0 hts (lw_V q985 q986 q987 q81 q988) rfl rfl rfl (by decide +kernel) ⟨Nat.le_of_ble_eq_true rfl, Nat.le_of_ble_eq_true rfl⟩) (z_rc hk hat (q := (RJ6, TJ6, 4)) rfl) rfl rfl (Nat.le_of_ble_eq_true rfl) dJ6_substring_28 ⟨Nat.le_of_ble_eq_true rfl, Nat.le_of_ble_eq_true rfl⟩ (fun v F1 w1 H locs hq hle hou V => ?_)
    obtain ⟨rfl, rfl, rfl⟩ := hq
    refine W.eq (g2 := F0 m 31 ls [iV 1]) rfl ?_
    have V : VV G _ _ F [] _ _ _ := V
    refine z_if_eq (tgt := 47) hx hb (by omega) dJ6_substring_31 (by decide) (fun c31 => by omega) (fun c31 => ?_)
    obtain ⟨v, hh, zz, hat, hbf⟩ := SF.B h' V
    refine lv_aload_n hx hb dJ6_substring_34 rfl (lv_at hl 2 rfl) ?_
    refine z_get hx hb hts hk hown K_J6 hat 0 (by decide) q850 (fun _ h => h) rfl dJ6_substring_35 ?_
    refine lv_iload_n hx hb dJ6_substring_38 rfl (lv_at hl 3 rfl) ?_
    refine lv_iload hx hb dJ6_substring_39 (lv_at hl 0 rfl) ?_
    have ev : ((j : Nat) : Int) - (i : Nat) = ((j - i : Nat) : Int) := by omega
    rw [ev]
    refine z_callS ⟨hx, hb, hml, hown, hts⟩ hk hl.1 V (wc := []) (wr := []) [] [] rfl rfl rfl rfl (by decide) (As := [.ref v, iV (i : Nat), iV ((j - i : Nat) : Int)]) (rest := []) (fun hp => ct_L_newString l G v t hbf i (j - i) (by omega) hp) (va_cwS 3 hts (lw_S q1029 q1030 q93 q1031) rfl rfl rfl (by decide +kernel) ⟨Nat.le_of_ble_eq_true rfl, Nat.le_of_ble_eq_true rfl⟩) rfl rfl (Nat.le_of_ble_eq_true rfl) dJ6_substring_41 ⟨Nat.le_of_ble_eq_true rfl, Nat.le_of_ble_eq_true rfl⟩ (fun v F1 w1 H locs hq hle hou V => ?_)
    obtain ⟨o, rfl, hS, rfl⟩ := hq
    refine W.eq (g2 := F0 m 44 ls [.ref o]) rfl ?_
    have V : VV G _ _ F1 [] _ _ _ := V
    refine lv_goto (tgt := 57) hx hb dJ6_substring_44 (by decide) ?_
    exact z_aret hx hb hr hlk V (Or.inl ⟨_, rfl⟩) (Or.inr ⟨_, rfl⟩) dJ6_substring_57 ⟨o, rfl, hS, rfl⟩ ⟨Nat.le_of_ble_eq_true rfl, Nat.le_of_ble_eq_true rfl⟩
  · skip
    refine lv_iload_n hx hb dJ6_substring_15 rfl (lv_at hl 3 rfl) ?_
    refine lv_iload_n hx hb dJ6_substring_16 rfl (lv_at hl 0 rfl) ?_
    refine z_icmp_ne (tgt := 22) hx hb (by omega) dJ6_substring_17 (by decide) (fun c17 => ?_) (fun c17 => ?_)
    · skip
      obtain ⟨v, hh, zz, hat, hbf⟩ := SF.B h' V
      refine lv_iload_n hx hb dJ6_substring_22 rfl (lv_at hl 3 rfl) ?_
      refine lv_iload_n hx hb dJ6_substring_23 rfl (lv_at hl 2 rfl) ?_
      refine z_isub hx hb dJ6_substring_24 ?_
      refine lv_istore (lv' := [(4, iV ((j : Nat) - (i : Nat))), (3, iV (t.length : Nat)), (0, .ref a), (1, iV (i : Nat)), (2, iV (j : Nat))]) hx hb dJ6_substring_25 hl (by decide) rfl (fun ls hl => ?_)
      refine lv_aload_n hx hb dJ6_substring_27 rfl (lv_at hl 2 rfl) ?_
      refine z_callV ⟨hx, hb, hml, hown, hts⟩ hk hl.1 V (wc := []) (wr := []) [] [] rfl rfl rfl rfl (by decide) (As := []) (rest := []) (fun hp => ct_S_isLatin1 l G a t h' hp) (cwV 0 hts (lw_V q985 q986 q987 q81 q988) rfl rfl rfl (by decide +kernel) ⟨Nat.le_of_ble_eq_true rfl, Nat.le_of_ble_eq_true rfl⟩) (z_rc hk hat (q := (RJ6, TJ6, 4)) rfl) rfl rfl (Nat.le_of_ble_eq_true rfl) dJ6_substring_28 ⟨Nat.le_of_ble_eq_true rfl, Nat.le_of_ble_eq_true rfl⟩ (fun v F1 w1 H locs hq hle hou V => ?_)
      obtain ⟨rfl, rfl, rfl⟩ := hq
      refine W.eq (g2 := F0 m 31 ls [iV 1]) rfl ?_
      have V : VV G _ _ F [] _ _ _ := V
      refine z_if_eq (tgt := 47) hx hb (by omega) dJ6_substring_31 (by decide) (fun c31 => by omega) (fun c31 => ?_)
      obtain ⟨v, hh, zz, hat, hbf⟩ := SF.B h' V
      refine lv_aload_n hx hb dJ6_substring_34 rfl (lv_at hl 2 rfl) ?_
      refine z_get hx hb hts hk hown K_J6 hat 0 (by decide) q850 (fun _ h => h) rfl dJ6_substring_35 ?_
      refine lv_iload_n hx hb dJ6_substring_38 rfl (lv_at hl 3 rfl) ?_
      refine lv_iload hx hb dJ6_substring_39 (lv_at hl 0 rfl) ?_
      have ev : ((j : Nat) : Int) - (i : Nat) = ((j - i : Nat) : Int) := by omega
      rw [ev]
      refine z_callS ⟨hx, hb, hml, hown, hts⟩ hk hl.1 V (wc := []) (wr := []) [] [] rfl rfl rfl rfl (by decide) (As := [.ref v, iV (i : Nat), iV ((j - i : Nat) : Int)]) (rest := []) (fun hp => ct_L_newString l G v t hbf i (j - i) (by omega) hp) (va_cwS 3 hts (lw_S q1029 q1030 q93 q1031) rfl rfl rfl (by decide +kernel) ⟨Nat.le_of_ble_eq_true rfl, Nat.le_of_ble_eq_true rfl⟩) rfl rfl (Nat.le_of_ble_eq_true rfl) dJ6_substring_41 ⟨Nat.le_of_ble_eq_true rfl, Nat.le_of_ble_eq_true rfl⟩ (fun v F1 w1 H locs hq hle hou V => ?_)
      obtain ⟨o, rfl, hS, rfl⟩ := hq
      refine W.eq (g2 := F0 m 44 ls [.ref o]) rfl ?_
      have V : VV G _ _ F1 [] _ _ _ := V
      refine lv_goto (tgt := 57) hx hb dJ6_substring_44 (by decide) ?_
      exact z_aret hx hb hr hlk V (Or.inl ⟨_, rfl⟩) (Or.inr ⟨_, rfl⟩) dJ6_substring_57 ⟨o, rfl, hS, rfl⟩ ⟨Nat.le_of_ble_eq_true rfl, Nat.le_of_ble_eq_true rfl⟩
    · skip
      refine lv_aload_n hx hb dJ6_substring_20 rfl (lv_at hl 1 rfl) ?_
      exact z_aret hx hb hr hlk V (Or.inl ⟨_, rfl⟩) (Or.inr ⟨_, rfl⟩) dJ6_substring_21 ⟨a, rfl, (by rw [show i = 0 by omega, show j - 0 = t.length by omega]; simpa using h), rfl⟩ ⟨Nat.le_of_ble_eq_true rfl, Nat.le_of_ble_eq_true rfl⟩
set_option maxHeartbeats 4000000 in
theorem ct_signedHash (l : Launch) (G : gG) {F : fS} {Ha : Heap} (v : Nat) (t : List Nat) (h : BF G F v t) (hp : Hp G F [] Ha) : CT l G yJ13_signedHashCode cJ13_signedHashCode 6 (some .int) 1 12 0 0 [iV 0, .ref v, iV 0, iV (t.length : Nat)] F [] Ha (fun rv F' w' => rv = some (iV (jz t)) ∧ F = F' ∧ w' = []) := by
  refine z_of hp (Or.inl (by decide)) (Nat.le_of_ble_eq_true rfl) ?_
  intro p e s m below meth c ls hx hb hr hml hts hown hlk hnm hk hsH V hl
  have hl : lv_has ls 6 [(0, iV 0), (1, .ref v), (2, iV 0), (3, iV (t.length : Nat))] := hl
  obtain ⟨hc, hl9, g, hv, hg⟩ := h
  refine lv_iload_n hx hb dJ13_signedHashCode_0 rfl (lv_at hl 2 rfl) ?_
  refine lv_iload_n hx hb dJ13_signedHashCode_1 rfl (lv_at hl 3 rfl) ?_
  refine z_iadd hx hb dJ13_signedHashCode_2 ?_
  refine lv_istore (lv' := [(4, iV (0 + (t.length : Nat))), (0, iV 0), (1, .ref v), (2, iV 0), (3, iV (t.length : Nat))]) hx hb dJ13_signedHashCode_3 hl (by decide) rfl (fun ls hl => ?_)
  refine lv_iload_n hx hb dJ13_signedHashCode_5 rfl (lv_at hl 3 rfl) ?_
  refine lv_istore (lv' := [(5, iV 0), (4, iV (0 + (t.length : Nat))), (0, iV 0), (1, .ref v), (2, iV 0), (3, iV (t.length : Nat))]) hx hb dJ13_signedHashCode_6 hl (by decide) rfl (fun ls hl => ?_)
  rw [Int.zero_add] at hl
  have loop : ∀ (n : Nat) (i : Nat) (H : Heap) (locs : List Loc) (ls : Array Slot), t.length - i < n → (i ≤ t.length) → VV G (FR F [] Ha) F F [] Ha H locs → lv_has ls 6 [(0, iV (jzz (t.take i))), (1, .ref v), (2, iV 0), (3, iV (t.length : Nat)), (4, iV (t.length : Nat)), (5, iV (i : Nat))] → W p l e ({ frames := 1, cells := 0, slots := 0, locals := 12 } : Room) s m [iV 0, .ref v, iV 0, iV (t.length : Nat)].toArray below meth c H locs 0 0 (MQ below (Qz G F [] Ha (fun rv F' w' => rv = some (iV (jz t)) ∧ F = F' ∧ w' = [])) [iV 0, .ref v, iV 0, iV (t.length : Nat)].toArray s 0 0 (FR F [] Ha)) (F0 m 8 ls []) := by
    intro n
    induction n with
    | zero => intro i H locs ls hm9; exact absurd hm9 (Nat.not_lt_zero _)
    | succ n ih_loop =>
      intro i H locs ls hm9 hi V hl
      refine lv_iload hx hb dJ13_signedHashCode_8 (lv_at hl 5 rfl) ?_
      refine lv_iload hx hb dJ13_signedHashCode_10 (lv_at hl 4 rfl) ?_
      refine z_icmp_ge (tgt := 35) hx hb (by omega) dJ13_signedHashCode_12 (by decide) (fun c12 => ?_) (fun c12 => ?_)
      · skip
        refine lv_iload_n hx hb dJ13_signedHashCode_35 rfl (lv_at hl 0 rfl) ?_
        have e9 : i = t.length := by omega
        exact z_iret hx hb hr hlk V rfl dJ13_signedHashCode_36 ⟨by rw [jz_V, e9, List.take_length], rfl, rfl⟩ ⟨Nat.le_of_ble_eq_true rfl, Nat.le_of_ble_eq_true rfl⟩
      · skip
        have hd := ltD hc i
        refine lv_bipush (v := iZ 31) hx hb dJ13_signedHashCode_15 (by decide) ?_
        refine lv_iload_n hx hb dJ13_signedHashCode_17 rfl (lv_at hl 0 rfl) ?_
        refine z_imul hx hb dJ13_signedHashCode_18 ?_
        refine lv_aload_n hx hb dJ13_signedHashCode_19 rfl (lv_at hl 1 rfl) ?_
        refine lv_iload hx hb dJ13_signedHashCode_20 (lv_at hl 5 rfl) ?_
        refine z_bald hx hb hk (V.f hv) i (by omega) dJ13_signedHashCode_22 ?_
        rw [show g i = (t.getD i 0 : Nat) from hg i (by omega)]
        refine lv_sipush (v := iZ 255) hx hb dJ13_signedHashCode_23 (by decide) ?_
        refine z_and255 hx hb (by omega) dJ13_signedHashCode_26 ?_
        refine z_iadd hx hb dJ13_signedHashCode_27 ?_
        refine lv_istore_n (lv' := [(0, iV ((31 * (jzz (t.take i))) + (t.getD i 0 : Nat))), (1, .ref v), (2, iV 0), (3, iV (t.length : Nat)), (4, iV (t.length : Nat)), (5, iV (i : Nat))]) hx hb dJ13_signedHashCode_28 rfl hl (by decide) rfl (fun ls hl => ?_)
        refine lv_iinc (v := iZ ((i : Nat) + 1)) (lv' := [(5, iV ((i : Nat) + 1)), (0, iV ((31 * (jzz (t.take i))) + (t.getD i 0 : Nat))), (1, .ref v), (2, iV 0), (3, iV (t.length : Nat)), (4, iV (t.length : Nat))]) hx hb dJ13_signedHashCode_29 hl (k := 5) rfl (iZ_add _ _) (by decide) rfl (fun ls hl => ?_)
        rw [show 31 * jzz (t.take i) + ((t.getD i 0 : Nat) : Int) = jzz (t.take (i + 1)) from (jzz_snoc t i (by omega)).symm] at hl
        refine lv_goto (tgt := 8) hx hb dJ13_signedHashCode_32 (by decide) ?_
        exact ih_loop (i + 1) _ _ _ (by omega) (by omega) V (lv_sub hl [1, 2, 3, 4, 5, 0] rfl)
  exact loop _ 0 _ _ _ (Nat.lt_succ_self _) (Nat.zero_le _) V (lv_sub hl [2, 3, 4, 5, 1, 0] rfl)
set_option maxHeartbeats 4000000 in
theorem ct_vecHash (l : Launch) (G : gG) {F : fS} {Ha : Heap} (v : Nat) (t : List Nat) (h : BF G F v t) (hp : Hp G F [] Ha) : CT l G yJ13_vectorizedHashCode cJ13_vectorizedHashCode 5 (some .int) 2 37 0 0 [.ref v, iV 0, iV (t.length : Nat), iV 0, iV 4] F [] Ha (fun rv F' w' => rv = some (iV (jz t)) ∧ F = F' ∧ w' = []) := by
  refine z_of hp (Or.inl (by decide)) (Nat.le_of_ble_eq_true rfl) ?_
  intro p e s m below meth c ls hx hb hr hml hts hown hlk hnm hk hsH V hl
  have hl : lv_has ls 5 [(0, .ref v), (1, iV 0), (2, iV (t.length : Nat)), (3, iV 0), (4, iV 4)] := hl
  have hbf := h
  obtain ⟨hc, hl9, g, hv, hg⟩ := h
  refine lv_iload hx hb dJ13_vectorizedHashCode_0 (lv_at hl 4 rfl) ?_
  refine z_tableIn (off := 42) (tgt := 44) hx hb (by omega) dJ13_vectorizedHashCode_2 (by omega) rfl (by decide) ?_
  refine lv_iload_n hx hb dJ13_vectorizedHashCode_44 rfl (lv_at hl 3 rfl) ?_
  refine lv_aload_n hx hb dJ13_vectorizedHashCode_45 rfl (lv_at hl 0 rfl) ?_
  refine va_castA hx hb hown (hts _ q1864) (one_P (V.f hv)) 0 rfl (hk.K.2 0 _ rfl).2 dJ13_vectorizedHashCode_46 ?_
  refine lv_iload_n hx hb dJ13_vectorizedHashCode_49 rfl (lv_at hl 1 rfl) ?_
  refine lv_iload_n hx hb dJ13_vectorizedHashCode_50 rfl (lv_at hl 2 rfl) ?_
  refine z_callS ⟨hx, hb, hml, hown, hts⟩ hk hl.1 V (wc := []) (wr := []) [] [] rfl rfl rfl rfl (by decide) (As := [iV 0, .ref v, iV 0, iV (t.length : Nat)]) (rest := []) (fun hp => ct_signedHash l G v t hbf hp) (va_cwS 4 hts (lw_S q1865 q1866 q89 q1867) rfl rfl rfl (by decide +kernel) ⟨Nat.le_of_ble_eq_true rfl, Nat.le_of_ble_eq_true rfl⟩) rfl rfl (Nat.le_of_ble_eq_true rfl) dJ13_vectorizedHashCode_51 ⟨Nat.le_of_ble_eq_true rfl, Nat.le_of_ble_eq_true rfl⟩ (fun v F1 w1 H locs hq hle hou V => ?_)
  obtain ⟨rfl, rfl, rfl⟩ := hq
  refine W.eq (g2 := F0 m 54 ls [iV (jz t)]) rfl ?_
  have V : VV G _ _ F [] _ _ _ := V
  refine lv_goto (tgt := 157) hx hb dJ13_vectorizedHashCode_54 (by decide) ?_
  exact z_iret hx hb hr hlk V rfl dJ13_vectorizedHashCode_157 ⟨rfl, rfl, rfl⟩ ⟨Nat.le_of_ble_eq_true rfl, Nat.le_of_ble_eq_true rfl⟩
theorem z_lk2 {x : Int} (h : 2 ≤ x) : Op.lookupswitch.offset (#[(0, 26), (1, 30)] : Array (Int × Int)).toList 40 x = 40 := by
  rw [Op.lookupswitch.offset_cons, if_neg (by omega), Op.lookupswitch.offset_cons, if_neg (by omega)]
  rfl
set_option maxHeartbeats 4000000 in
theorem ct_L_hashCode (l : Launch) (G : gG) {F : fS} {Ha : Heap} (v : Nat) (t : List Nat) (h : BF G F v t) (hp : Hp G F [] Ha) : CT l G yJ16_hashCode cJ16_hashCode 1 (some .int) 3 61 0 0 [.ref v] F [] Ha (fun rv F' w' => rv = some (iV (jz t)) ∧ F = F' ∧ w' = []) := by
  refine z_of hp (Or.inl (by decide)) (Nat.le_of_ble_eq_true rfl) ?_
  intro p e s m below meth c ls hx hb hr hml hts hown hlk hnm hk hsH V hl
  have hl : lv_has ls 1 [(0, .ref v)] := hl
  have hbf := h
  obtain ⟨hc, hl9, g, hv, hg⟩ := h
  refine lv_aload_n hx hb dJ16_hashCode_0 rfl (lv_at hl 0 rfl) ?_
  refine z_blen hx hb hk (V.f hv) dJ16_hashCode_1 ?_
  rcases (by omega : t.length = 0 ∨ t.length = 1 ∨ 2 ≤ t.length) with e0 | e0 | e0
  · skip
    refine z_lookup (off := 26) (tgt := 28) hx hb (by omega) dJ16_hashCode_2 (by decide) (by rw [e0]; rfl) (by decide) ?_
    refine lv_iconst (v := iZ 0) hx hb dJ16_hashCode_28 rfl ?_
    refine lv_goto (tgt := 51) hx hb dJ16_hashCode_29 (by decide) ?_
    exact z_iret hx hb hr hlk V rfl dJ16_hashCode_51 ⟨by rw [jz_V, List.length_eq_zero_iff.mp e0]; rfl, rfl, rfl⟩ ⟨Nat.le_of_ble_eq_true rfl, Nat.le_of_ble_eq_true rfl⟩
  · skip
    refine z_lookup (off := 30) (tgt := 32) hx hb (by omega) dJ16_hashCode_2 (by decide) (by rw [e0]; rfl) (by decide) ?_
    have hd := ltD hc 0
    refine lv_aload_n hx hb dJ16_hashCode_32 rfl (lv_at hl 0 rfl) ?_
    refine lv_iconst (v := iZ 0) hx hb dJ16_hashCode_33 rfl ?_
    refine z_bald hx hb hk (V.f hv) 0 (by omega) dJ16_hashCode_34 ?_
    rw [show g 0 = (t.getD 0 0 : Nat) from hg 0 (by omega)]
    refine lv_sipush (v := iZ 255) hx hb dJ16_hashCode_35 (by decide) ?_
    refine z_and255 hx hb (by omega) dJ16_hashCode_38 ?_
    refine lv_goto (tgt := 51) hx hb dJ16_hashCode_39 (by decide) ?_
    exact z_iret hx hb hr hlk V rfl dJ16_hashCode_51 ⟨by rw [jz_V]; obtain ⟨x, rfl⟩ := List.length_eq_one_iff.mp e0; simp [jzz], rfl, rfl⟩ ⟨Nat.le_of_ble_eq_true rfl, Nat.le_of_ble_eq_true rfl⟩
  · skip
    refine z_lookup (off := 40) (tgt := 42) hx hb (by omega) dJ16_hashCode_2 (by decide) (z_lk2 (by omega)) (by decide) ?_
    refine lv_aload_n hx hb dJ16_hashCode_42 rfl (lv_at hl 0 rfl) ?_
    refine lv_iconst (v := iZ 0) hx hb dJ16_hashCode_43 rfl ?_
    refine lv_aload_n hx hb dJ16_hashCode_44 rfl (lv_at hl 0 rfl) ?_
    refine z_blen hx hb hk (V.f hv) dJ16_hashCode_45 ?_
    refine lv_iconst (v := iZ 0) hx hb dJ16_hashCode_46 rfl ?_
    refine lv_iconst (v := iZ 4) hx hb dJ16_hashCode_47 rfl ?_
    refine z_callS ⟨hx, hb, hml, hown, hts⟩ hk hl.1 V (wc := []) (wr := []) [] [] rfl rfl rfl rfl (by decide) (As := [.ref v, iV 0, iV (t.length : Nat), iV 0, iV 4]) (rest := []) (fun hp => ct_vecHash l G v t hbf hp) (va_cwS 5 hts (lw_S q1861 q1862 q89 q1863) rfl rfl rfl (by decide +kernel) ⟨Nat.le_of_ble_eq_true rfl, Nat.le_of_ble_eq_true rfl⟩) rfl rfl (Nat.le_of_ble_eq_true rfl) dJ16_hashCode_48 ⟨Nat.le_of_ble_eq_true rfl, Nat.le_of_ble_eq_true rfl⟩ (fun v F1 w1 H locs hq hle hou V => ?_)
    obtain ⟨rfl, rfl, rfl⟩ := hq
    refine W.eq (g2 := F0 m 51 ls [iV (jz t)]) rfl ?_
    have V : VV G _ _ F [] _ _ _ := V
    exact z_iret hx hb hr hlk V rfl dJ16_hashCode_51 ⟨rfl, rfl, rfl⟩ ⟨Nat.le_of_ble_eq_true rfl, Nat.le_of_ble_eq_true rfl⟩
