/-! JDK: Objects, ArrayList (printed by gen/jdk1.py) -/
set_option maxRecDepth 100000
set_option maxHeartbeats 4000000 in
theorem ct_pcheck (l : Launch) (G : gG) {F : fS} {Ha : Heap} (i n : Int) (hrg : 0 ≤ i ∧ i < n ∧ n < 2147483648) (hp : Hp G F [] Ha) : CT l G yJ17_checkIndex cJ17_checkIndex 3 (some .int) 1 12 0 0 [iV i, iV n, .null] F [] Ha (fun rv F' w' => rv = some (iV i) ∧ F = F' ∧ w' = []) := by
  refine z_of hp (Or.inl (by decide)) (Nat.le_of_ble_eq_true rfl) ?_
  intro p e s m below meth c ls hx hb hr hml hts hown hlk hnm hk hsH V hl
  have hl : lv_has ls 3 [(0, iV i), (1, iV n), (2, .null)] := hl
  refine lv_iload_n hx hb dJ17_checkIndex_0 rfl (lv_at hl 0 rfl) ?_
  refine z_if_lt (tgt := 9) hx hb (by omega) dJ17_checkIndex_1 (by decide) (fun c1 => by omega) (fun c1 => ?_)
  refine lv_iload_n hx hb dJ17_checkIndex_4 rfl (lv_at hl 0 rfl) ?_
  refine lv_iload_n hx hb dJ17_checkIndex_5 rfl (lv_at hl 1 rfl) ?_
  refine z_icmp_lt (tgt := 16) hx hb (by omega) dJ17_checkIndex_6 (by decide) (fun c6 => ?_) (fun c6 => by omega)
  refine lv_iload_n hx hb dJ17_checkIndex_16 rfl (lv_at hl 0 rfl) ?_
  exact z_iret hx hb hr hlk V rfl dJ17_checkIndex_17 ⟨rfl, rfl, rfl⟩ ⟨Nat.le_of_ble_eq_true rfl, Nat.le_of_ble_eq_true rfl⟩
set_option maxHeartbeats 4000000 in
theorem ct_pcheckR (l : Launch) (G : gG) {F : fS} {Ha : Heap} (u : Nat) (i n : Int) (hrg : 0 ≤ i ∧ i < n ∧ n < 2147483648) (hp : Hp G F [] Ha) : CT l G yJ17_checkIndex cJ17_checkIndex 3 (some .int) 1 12 0 0 [iV i, iV n, .ref u] F [] Ha (fun rv F' w' => rv = some (iV i) ∧ F = F' ∧ w' = []) := by
  refine z_of hp (Or.inl (by decide)) (Nat.le_of_ble_eq_true rfl) ?_
  intro p e s m below meth c ls hx hb hr hml hts hown hlk hnm hk hsH V hl
  have hl : lv_has ls 3 [(0, iV i), (1, iV n), (2, .ref u)] := hl
  refine lv_iload_n hx hb dJ17_checkIndex_0 rfl (lv_at hl 0 rfl) ?_
  refine z_if_lt (tgt := 9) hx hb (by omega) dJ17_checkIndex_1 (by decide) (fun c1 => by omega) (fun c1 => ?_)
  refine lv_iload_n hx hb dJ17_checkIndex_4 rfl (lv_at hl 0 rfl) ?_
  refine lv_iload_n hx hb dJ17_checkIndex_5 rfl (lv_at hl 1 rfl) ?_
  refine z_icmp_lt (tgt := 16) hx hb (by omega) dJ17_checkIndex_6 (by decide) (fun c6 => ?_) (fun c6 => by omega)
  refine lv_iload_n hx hb dJ17_checkIndex_16 rfl (lv_at hl 0 rfl) ?_
  exact z_iret hx hb hr hlk V rfl dJ17_checkIndex_17 ⟨rfl, rfl, rfl⟩ ⟨Nat.le_of_ble_eq_true rfl, Nat.le_of_ble_eq_true rfl⟩
set_option maxHeartbeats 4000000 in
theorem ct_ocheck (l : Launch) (G : gG) {F : fS} {Ha : Heap} (i n : Int) (hrg : 0 ≤ i ∧ i < n ∧ n < 2147483648) (hp : Hp G F [] Ha) : CT l G yJ25_checkIndex cJ25_checkIndex 2 (some .int) 2 34 0 0 [iV i, iV n] F [] Ha (fun rv F' w' => rv = some (iV i) ∧ F = F' ∧ w' = []) := by
  refine z_of hp (Or.inl (by decide)) (Nat.le_of_ble_eq_true rfl) ?_
  intro p e s m below meth c ls hx hb hr hml hts hown hlk hnm hk hsH V hl
  have hl : lv_has ls 2 [(0, iV i), (1, iV n)] := hl
  refine lv_iload_n hx hb dJ25_checkIndex_0 rfl (lv_at hl 0 rfl) ?_
  refine lv_iload_n hx hb dJ25_checkIndex_1 rfl (lv_at hl 1 rfl) ?_
  refine lv_null hx hb dJ25_checkIndex_2 ?_
  refine z_callS ⟨hx, hb, hml, hown, hts⟩ hk hl.1 V (wc := []) (wr := []) [] [] rfl rfl rfl rfl (by decide) (As := [iV i, iV n, .null]) (rest := []) (fun hp => ct_pcheck l G i n hrg hp) (va_cwS 3 hts (lw_S q1151 q688 q94 q689) rfl rfl rfl (by decide +kernel) ⟨Nat.le_of_ble_eq_true rfl, Nat.le_of_ble_eq_true rfl⟩) rfl rfl (Nat.le_of_ble_eq_true rfl) dJ25_checkIndex_3 ⟨Nat.le_of_ble_eq_true rfl, Nat.le_of_ble_eq_true rfl⟩ (fun v F1 w1 H locs hq hle hou V => ?_)
  obtain ⟨rfl, rfl, rfl⟩ := hq
  refine W.eq (g2 := F0 m 6 ls [iV i]) rfl ?_
  have V : VV G _ _ F [] _ _ _ := V
  exact z_iret hx hb hr hlk V rfl dJ25_checkIndex_6 ⟨rfl, rfl, rfl⟩ ⟨Nat.le_of_ble_eq_true rfl, Nat.le_of_ble_eq_true rfl⟩
set_option maxHeartbeats 4000000 in
theorem ct_AC_init (l : Launch) (G : gG) {F : fS} {Ha : Heap} (a : Nat) (hp : Hp G F [] Ha) : CT l G yJ0_init cJ0_init 1 none 1 40 0 0 [.ref a] F [] Ha (fun rv F' w' => rv = none ∧ F = F' ∧ w' = []) := by
  refine z_of hp (Or.inl (by decide)) (Nat.le_of_ble_eq_true rfl) ?_
  intro p e s m below meth c ls hx hb hr hml hts hown hlk hnm hk hsH V hl
  have hl : lv_has ls 1 [(0, .ref a)] := hl
  refine lv_aload_n hx hb dJ0_init_0 rfl (lv_at hl 0 rfl) ?_
  refine W.objInit hx hb hown (hts _ q157) (hts _ q138) (hts _ q139) rfl (by rw [hml]; exact hl.1) rfl dJ0_init_1 (Nat.le_of_ble_eq_true rfl) (Nat.le_of_ble_eq_true rfl) ?_
  refine W.eq (g2 := F0 m 4 ls []) rfl ?_
  exact z_vret hx hb hr hlk V dJ0_init_4 ⟨rfl, rfl, rfl⟩ ⟨Nat.le_of_ble_eq_true rfl, Nat.le_of_ble_eq_true rfl⟩
set_option maxHeartbeats 4000000 in
theorem ct_ALi (l : Launch) (G : gG) {F : fS} {Ha : Heap} (a : Nat) (x : Int) (u u2 : Value) (hp : Hp G F [(a, ob 0 [iV x, u, u2])] Ha) : CT l G yJ1_init cJ1_init 1 none 2 60 0 0 [.ref a] F [(a, ob 0 [iV x, u, u2])] Ha (fun rv F' w' => rv = none ∧ F = F' ∧ w' = [(a, ob 0 [iV 0, u, u2])]) := by
  refine z_of hp (Or.inl (by decide)) (Nat.le_of_ble_eq_true rfl) ?_
  intro p e s m below meth c ls hx hb hr hml hts hown hlk hnm hk hsH V hl
  have hl : lv_has ls 1 [(0, .ref a)] := hl
  refine lv_aload_n hx hb dJ1_init_0 rfl (lv_at hl 0 rfl) ?_
  refine z_callI ⟨hx, hb, hml, hown, hts⟩ hk hl.1 V (wc := []) (wr := [(a, ob 0 [iV x, u, u2])]) [] [0] rfl rfl rfl rfl (by decide) (As := []) (rest := []) (fun hp => ct_AC_init l G a hp) (cwI 0 hts (lw_meth q156) rfl rfl rfl (hts _ q75) (hts _ q154) (hts _ q155) rfl (by decide +kernel) ⟨Nat.le_of_ble_eq_true rfl, Nat.le_of_ble_eq_true rfl⟩) rfl rfl (Nat.le_of_ble_eq_true rfl) dJ1_init_1 ⟨Nat.le_of_ble_eq_true rfl, Nat.le_of_ble_eq_true rfl⟩ (fun v F1 w1 H locs hq hle hou V => ?_)
  obtain ⟨rfl, rfl, rfl⟩ := hq
  refine W.eq (g2 := F0 m 4 ls []) rfl ?_
  have V : VV G _ _ F [(a, ob 0 [iV x, u, u2])] _ _ _ := V
  refine lv_aload_n hx hb dJ1_init_4 rfl (lv_at hl 0 rfl) ?_
  refine lv_iconst (v := iZ 0) hx hb dJ1_init_5 rfl ?_
  refine z_put hx hb hts hk V hown K_J2 0 rfl 0 (by decide) q164 (fun _ h => h) rfl rfl rfl (Nat.le_of_ble_eq_true rfl) dJ1_init_6 (fun H locs V => ?_)
  have V : VV G _ _ F [(a, ob 0 [iV 0, u, u2])] _ _ _ := V
  exact z_vret hx hb hr hlk V dJ1_init_9 ⟨rfl, rfl, rfl⟩ ⟨Nat.le_of_ble_eq_true rfl, Nat.le_of_ble_eq_true rfl⟩
set_option maxHeartbeats 4000000 in
theorem ct_AL_init (l : Launch) (G : gG) {F : fS} {Ha : Heap} (a : Nat) (hp : Hp G F [(a, ob 0 [iV 0, .null, iV 0])] Ha) : CT l G yJ2_init cJ2_init 1 none 3 80 0 0 [.ref a] F [(a, ob 0 [iV 0, .null, iV 0])] Ha (fun v F' w' => v = none ∧ F = F' ∧ LW G a [] w') := by
  refine z_of hp (Or.inl (by decide)) (Nat.le_of_ble_eq_true rfl) ?_
  intro p e s m below meth c ls hx hb hr hml hts hown hlk hnm hk hsH V hl
  have hl : lv_has ls 1 [(0, .ref a)] := hl
  refine lv_aload_n hx hb dJ2_init_0 rfl (lv_at hl 0 rfl) ?_
  refine z_callI ⟨hx, hb, hml, hown, hts⟩ hk hl.1 V (wc := [(a, ob 0 [iV 0, .null, iV 0])]) (wr := []) [0] [] rfl rfl rfl rfl (by decide) (As := []) (rest := []) (fun hp => ct_ALi l G a 0 .null (iV 0) hp) (cwI 0 hts (lw_meth q153) rfl rfl rfl (hts _ q76) (hts _ q151) (hts _ q152) rfl (by decide +kernel) ⟨Nat.le_of_ble_eq_true rfl, Nat.le_of_ble_eq_true rfl⟩) rfl rfl (Nat.le_of_ble_eq_true rfl) dJ2_init_1 ⟨Nat.le_of_ble_eq_true rfl, Nat.le_of_ble_eq_true rfl⟩ (fun v F1 w1 H locs hq hle hou V => ?_)
  obtain ⟨rfl, rfl, rfl⟩ := hq
  refine W.eq (g2 := F0 m 4 ls []) rfl ?_
  have V : VV G _ _ F [(a, ob 0 [iV 0, .null, iV 0])] _ _ _ := V
  refine lv_aload_n hx hb dJ2_init_4 rfl (lv_at hl 0 rfl) ?_
  refine z_gets hx hb hts V (hk.Zs 0 rfl) hown q158 (fun _ h => h) dJ2_init_5 ?_
  refine z_put hx hb hts hk V hown K_J2 0 rfl 1 (by decide) q160 (fun _ h => h) rfl rfl rfl (Nat.le_of_ble_eq_true rfl) dJ2_init_8 (fun H locs V => ?_)
  have V : VV G _ _ F [(a, ob 0 [iV 0, .ref (G.2.2 0), iV 0])] _ _ _ := V
  exact z_vret hx hb hr hlk V dJ2_init_11 ⟨rfl, rfl, ⟨0, Or.inl ⟨rfl, rfl⟩⟩⟩ ⟨Nat.le_of_ble_eq_true rfl, Nat.le_of_ble_eq_true rfl⟩
set_option maxHeartbeats 4000000 in
theorem ct_AL_size (l : Launch) (G : gG) {F : fS} {Ha : Heap} (a : Nat) (xs : List Nat) (h : LF G F a xs) (hp : Hp G F [] Ha) : CT l G yJ2_size cJ2_size 1 (some .int) 1 12 0 0 [.ref a] F [] Ha (fun rv F' w' => rv = some (iV (xs.length : Nat)) ∧ F = F' ∧ w' = []) := by
  refine z_of hp (Or.inl (by decide)) (Nat.le_of_ble_eq_true rfl) ?_
  intro p e s m below meth c ls hx hb hr hml hts hown hlk hnm hk hsH V hl
  have hl : lv_has ls 1 [(0, .ref a)] := hl
  obtain ⟨mc, arr, n, f, h1, h2, h3, h4, h5⟩ := h
  refine lv_aload_n hx hb dJ2_size_0 rfl (lv_at hl 0 rfl) ?_
  refine z_get hx hb hts hk hown K_J2 (V.f h1) 2 (by decide) q163 (fun _ h => h) rfl dJ2_size_1 ?_
  exact z_iret hx hb hr hlk V rfl dJ2_size_4 ⟨rfl, rfl, rfl⟩ ⟨Nat.le_of_ble_eq_true rfl, Nat.le_of_ble_eq_true rfl⟩
set_option maxHeartbeats 4000000 in
theorem ct_AL_isEmpty (l : Launch) (G : gG) {F : fS} {Ha : Heap} (a : Nat) (xs : List Nat) (h : LF G F a xs) (hp : Hp G F [] Ha) : CT l G yJ2_isEmpty cJ2_isEmpty 1 (some .boolean) 1 12 0 0 [.ref a] F [] Ha (fun rv F' w' => rv = some (iV (bZ xs.isEmpty)) ∧ F = F' ∧ w' = []) := by
  refine z_of hp (Or.inl (by decide)) (Nat.le_of_ble_eq_true rfl) ?_
  intro p e s m below meth c ls hx hb hr hml hts hown hlk hnm hk hsH V hl
  have hl : lv_has ls 1 [(0, .ref a)] := hl
  obtain ⟨mc, arr, n, f, h1, h2, h3, h4, h5⟩ := h
  refine lv_aload_n hx hb dJ2_isEmpty_0 rfl (lv_at hl 0 rfl) ?_
  refine z_get hx hb hts hk hown K_J2 (V.f h1) 2 (by decide) q163 (fun _ h => h) rfl dJ2_isEmpty_1 ?_
  refine z_if_ne (tgt := 11) hx hb (by omega) dJ2_isEmpty_4 (by decide) (fun c4 => ?_) (fun c4 => ?_)
  · skip
    refine lv_iconst (v := iZ 0) hx hb dJ2_isEmpty_11 rfl ?_
    exact z_iret hx hb hr hlk V rfl dJ2_isEmpty_12 ⟨by rw [show xs.isEmpty = false by cases xs <;> simp_all]; rfl, rfl, rfl⟩ ⟨Nat.le_of_ble_eq_true rfl, Nat.le_of_ble_eq_true rfl⟩
  · skip
    refine lv_iconst (v := iZ 1) hx hb dJ2_isEmpty_7 rfl ?_
    refine lv_goto (tgt := 12) hx hb dJ2_isEmpty_8 (by decide) ?_
    exact z_iret hx hb hr hlk V rfl dJ2_isEmpty_12 ⟨by rw [show xs.isEmpty = true by cases xs <;> simp_all; omega]; rfl, rfl, rfl⟩ ⟨Nat.le_of_ble_eq_true rfl, Nat.le_of_ble_eq_true rfl⟩
set_option maxHeartbeats 4000000 in
theorem ct_AL_elem (l : Launch) (G : gG) {F : fS} {Ha : Heap} (a : Nat) (xs : List Nat) (h : LF G F a xs) (i : Nat) (hi : i < xs.length) (hp : Hp G F [] Ha) : CT l G yJ2_elementData cJ2_elementData 2 (some (.object "java/lang/Object")) 1 12 0 0 [.ref a, iV i] F [] Ha (fun rv F' w' => rv = some (.ref (xs.getD i 0)) ∧ F = F' ∧ w' = []) := by
  refine z_of hp (Or.inl (by decide)) (Nat.le_of_ble_eq_true rfl) ?_
  intro p e s m below meth c ls hx hb hr hml hts hown hlk hnm hk hsH V hl
  have hl : lv_has ls 2 [(0, .ref a), (1, iV i)] := hl
  obtain ⟨mc, arr, n, f, h1, h2, h3, h4, h5⟩ := h
  refine lv_aload_n hx hb dJ2_elementData_0 rfl (lv_at hl 0 rfl) ?_
  refine z_get hx hb hts hk hown K_J2 (V.f h1) 1 (by decide) q160 (fun _ h => h) rfl dJ2_elementData_1 ?_
  refine lv_iload_n hx hb dJ2_elementData_4 rfl (lv_at hl 1 rfl) ?_
  refine z_aald (v := .ref (xs.getD i 0)) hx hb hk (V.f h2) i (by omega) dJ2_elementData_5 (by rw [h5 i hi]; rfl) ?_
  exact z_aret hx hb hr hlk V (Or.inl ⟨_, rfl⟩) (Or.inr ⟨_, rfl⟩) dJ2_elementData_6 ⟨rfl, rfl, rfl⟩ ⟨Nat.le_of_ble_eq_true rfl, Nat.le_of_ble_eq_true rfl⟩
set_option maxHeartbeats 4000000 in
theorem ct_AL_get (l : Launch) (G : gG) {F : fS} {Ha : Heap} (a : Nat) (xs : List Nat) (h : LF G F a xs) (i : Nat) (hi : i < xs.length) (hp : Hp G F [] Ha) : CT l G yJ2_get cJ2_get 2 (some (.object "java/lang/Object")) 3 55 0 0 [.ref a, iV i] F [] Ha (fun rv F' w' => rv = some (.ref (xs.getD i 0)) ∧ F = F' ∧ w' = []) := by
  refine z_of hp (Or.inl (by decide)) (Nat.le_of_ble_eq_true rfl) ?_
  intro p e s m below meth c ls hx hb hr hml hts hown hlk hnm hk hsH V hl
  have hl : lv_has ls 2 [(0, .ref a), (1, iV i)] := hl
  have hxs := h
  obtain ⟨mc, arr, n, f, h1, h2, h3, h4, h5⟩ := h
  refine lv_iload_n hx hb dJ2_get_0 rfl (lv_at hl 1 rfl) ?_
  refine lv_aload_n hx hb dJ2_get_1 rfl (lv_at hl 0 rfl) ?_
  refine z_get hx hb hts hk hown K_J2 (V.f h1) 2 (by decide) q163 (fun _ h => h) rfl dJ2_get_2 ?_
  refine z_callS ⟨hx, hb, hml, hown, hts⟩ hk hl.1 V (wc := []) (wr := []) [] [] rfl rfl rfl rfl (by decide) (As := [iV i, iV xs.length]) (rest := []) (fun hp => ct_ocheck l G i xs.length (by omega) hp) (va_cwS 2 hts (lw_S q1148 q1149 q108 q1150) rfl rfl rfl (by decide +kernel) ⟨Nat.le_of_ble_eq_true rfl, Nat.le_of_ble_eq_true rfl⟩) rfl rfl (Nat.le_of_ble_eq_true rfl) dJ2_get_5 ⟨Nat.le_of_ble_eq_true rfl, Nat.le_of_ble_eq_true rfl⟩ (fun v F1 w1 H locs hq hle hou V => ?_)
  obtain ⟨rfl, rfl, rfl⟩ := hq
  refine W.eq (g2 := F0 m 8 ls [iV i]) rfl ?_
  have V : VV G _ _ F [] _ _ _ := V
  refine lv_pop hx hb dJ2_get_8 rfl ?_
  refine lv_aload_n hx hb dJ2_get_9 rfl (lv_at hl 0 rfl) ?_
  refine lv_iload_n hx hb dJ2_get_10 rfl (lv_at hl 1 rfl) ?_
  refine z_callV ⟨hx, hb, hml, hown, hts⟩ hk hl.1 V (wc := []) (wr := []) [] [] rfl rfl rfl rfl (by decide) (As := [iV i]) (rest := []) (fun hp => ct_AL_elem l G a xs hxs i hi hp) (cwV 1 hts (lw_V q1152 q1153 q1154 q77 q1155) rfl rfl rfl (by decide +kernel) ⟨Nat.le_of_ble_eq_true rfl, Nat.le_of_ble_eq_true rfl⟩) (z_rc hk (V.f h1) (q := (RJ2, TJ2, 3)) rfl) rfl rfl (Nat.le_of_ble_eq_true rfl) dJ2_get_11 ⟨Nat.le_of_ble_eq_true rfl, Nat.le_of_ble_eq_true rfl⟩ (fun v F1 w1 H locs hq hle hou V => ?_)
  obtain ⟨rfl, rfl, rfl⟩ := hq
  refine W.eq (g2 := F0 m 14 ls [.ref (xs.getD i 0)]) rfl ?_
  have V : VV G _ _ F [] _ _ _ := V
  exact z_aret hx hb hr hlk V (Or.inl ⟨_, rfl⟩) (Or.inr ⟨_, rfl⟩) dJ2_get_14 ⟨rfl, rfl, rfl⟩ ⟨Nat.le_of_ble_eq_true rfl, Nat.le_of_ble_eq_true rfl⟩
set_option maxHeartbeats 4000000 in
theorem ct_AL_grow2 (l : Launch) (G : gG) {F : fS} {Ha : Heap} (a : Nat) (mc : Int) (hp : Hp G F [(a, ob 0 [iV mc, .ref (G.2.2 0), iV 0])] Ha) : CT l G yJ2_grow_2 cJ2_grow_2 4 (some (.array (.object "java/lang/Object"))) 2 33 1 10 [.ref a, iV 1] F [(a, ob 0 [iV mc, .ref (G.2.2 0), iV 0])] Ha (fun v F' w' => ∃ arr : Nat, v = some (.ref arr) ∧ F = F' ∧ w' = [(a, ob 0 [iV mc, .ref arr, iV 0]), (arr, aR G 10 (fun _ => none))]) := by
  refine z_of hp (Or.inl (by decide)) (Nat.le_of_ble_eq_true rfl) ?_
  intro p e s m below meth c ls hx hb hr hml hts hown hlk hnm hk hsH V hl
  have hl : lv_has ls 4 [(0, .ref a), (1, iV 1)] := hl
  have hE := hk.so.1
  refine lv_aload_n hx hb dJ2_grow_2_0 rfl (lv_at hl 0 rfl) ?_
  refine z_get hx hb hts hk hown K_J2 (V.w 0 rfl) 1 (by decide) q160 (fun _ h => h) rfl dJ2_grow_2_1 ?_
  refine z_alen hx hb hk (V.f hE) dJ2_grow_2_4 ?_
  refine lv_istore_n (lv' := [(2, iV 0), (0, .ref a), (1, iV 1)]) hx hb dJ2_grow_2_5 rfl hl (by decide) rfl (fun ls hl => ?_)
  refine lv_iload_n hx hb dJ2_grow_2_6 rfl (lv_at hl 0 rfl) ?_
  refine z_if_gt (tgt := 20) hx hb (by omega) dJ2_grow_2_7 (by decide) (fun c7 => by omega) (fun c7 => ?_)
  refine lv_aload_n hx hb dJ2_grow_2_10 rfl (lv_at hl 1 rfl) ?_
  refine z_get hx hb hts hk hown K_J2 (V.w 0 rfl) 1 (by decide) q160 (fun _ h => h) rfl dJ2_grow_2_11 ?_
  refine z_gets hx hb hts V (hk.Zs 0 rfl) hown q158 (fun _ h => h) dJ2_grow_2_14 ?_
  refine z_acmp_eqT (tgt := 45) hx hb dJ2_grow_2_17 (by decide) ?_
  refine lv_aload_n hx hb dJ2_grow_2_45 rfl (lv_at hl 1 rfl) ?_
  refine lv_bipush (v := iZ 10) hx hb dJ2_grow_2_46 (by decide) ?_
  refine lv_iload_n hx hb dJ2_grow_2_48 rfl (lv_at hl 2 rfl) ?_
  refine z_callS ⟨hx, hb, hml, hown, hts⟩ hk hl.1 V (wc := []) (wr := [(a, ob 0 [iV mc, .ref (G.2.2 0), iV 0])]) [] [0] rfl rfl rfl rfl (by decide) (As := [iV 10, iV 1]) (rest := [.ref a]) (fun hp => ct_max l G 10 1 (by decide) hp) (va_cwS 2 hts (lw_S q542 q479 q90 q480) rfl rfl rfl (by decide +kernel) ⟨Nat.le_of_ble_eq_true rfl, Nat.le_of_ble_eq_true rfl⟩) rfl rfl (Nat.le_of_ble_eq_true rfl) dJ2_grow_2_49 ⟨Nat.le_of_ble_eq_true rfl, Nat.le_of_ble_eq_true rfl⟩ (fun v F1 w1 H locs hq hle hou V => ?_)
  obtain ⟨rfl, rfl, rfl⟩ := hq
  refine W.eq (g2 := F0 m 52 ls [iV 10, .ref a]) rfl ?_
  have V : VV G _ _ F [(a, ob 0 [iV mc, .ref (G.2.2 0), iV 0])] _ _ _ := V
  refine z_newA (n := 10) hx hb hts hk V hown q543 (by omega) (Nat.le_of_ble_eq_true rfl) (Nat.le_of_ble_eq_true rfl) dJ2_grow_2_52 (fun r_1 H V => ?_)
  have V : VV G _ _ F [(a, ob 0 [iV mc, .ref (G.2.2 0), iV 0]), (r_1, aR G 10 (fun _ => none))] _ _ _ := V
  refine lv_dup_x1 hx hb dJ2_grow_2_55 rfl rfl ?_
  refine z_put hx hb hts hk V hown K_J2 0 rfl 1 (by decide) q160 (fun _ h => h) rfl rfl rfl (Nat.le_of_ble_eq_true rfl) dJ2_grow_2_56 (fun H locs V => ?_)
  have V : VV G _ _ F [(a, ob 0 [iV mc, .ref r_1, iV 0]), (r_1, aR G 10 (fun _ => none))] _ _ _ := V
  exact z_aret hx hb hr hlk V (Or.inr ⟨_, rfl⟩) (Or.inr ⟨_, rfl⟩) dJ2_grow_2_59 ⟨r_1, rfl, rfl, rfl⟩ ⟨Nat.le_of_ble_eq_true rfl, Nat.le_of_ble_eq_true rfl⟩
set_option maxHeartbeats 4000000 in
theorem ct_AL_grow (l : Launch) (G : gG) {F : fS} {Ha : Heap} (a : Nat) (mc : Int) (hp : Hp G F [(a, ob 0 [iV mc, .ref (G.2.2 0), iV 0])] Ha) : CT l G yJ2_grow cJ2_grow 1 (some (.array (.object "java/lang/Object"))) 3 56 1 10 [.ref a] F [(a, ob 0 [iV mc, .ref (G.2.2 0), iV 0])] Ha (fun v F' w' => ∃ arr : Nat, v = some (.ref arr) ∧ F = F' ∧ w' = [(a, ob 0 [iV mc, .ref arr, iV 0]), (arr, aR G 10 (fun _ => none))]) := by
  refine z_of hp (Or.inl (by decide)) (Nat.le_of_ble_eq_true rfl) ?_
  intro p e s m below meth c ls hx hb hr hml hts hown hlk hnm hk hsH V hl
  have hl : lv_has ls 1 [(0, .ref a)] := hl
  refine lv_aload_n hx hb dJ2_grow_0 rfl (lv_at hl 0 rfl) ?_
  refine lv_aload_n hx hb dJ2_grow_1 rfl (lv_at hl 0 rfl) ?_
  refine z_get hx hb hts hk hown K_J2 (V.w 0 rfl) 2 (by decide) q163 (fun _ h => h) rfl dJ2_grow_2 ?_
  refine lv_iconst (v := iZ 1) hx hb dJ2_grow_5 rfl ?_
  refine z_iadd hx hb dJ2_grow_6 ?_
  refine z_callV ⟨hx, hb, hml, hown, hts⟩ hk hl.1 V (wc := [(a, ob 0 [iV mc, .ref (G.2.2 0), iV 0])]) (wr := []) [0] [] rfl rfl rfl rfl (by decide) (As := [iV (0 + 1)]) (rest := []) (fun hp => ct_AL_grow2 l G a mc hp) (cwV 1 hts (lw_V q471 q473 qs3 q77 q474) rfl rfl rfl (by decide +kernel) ⟨Nat.le_of_ble_eq_true rfl, Nat.le_of_ble_eq_true rfl⟩) (z_rc hk (V.w 0 rfl) (q := (RJ2, TJ2, 3)) rfl) rfl rfl (Nat.le_of_ble_eq_true rfl) dJ2_grow_7 ⟨Nat.le_of_ble_eq_true rfl, Nat.le_of_ble_eq_true rfl⟩ (fun v F1 w1 H locs hq hle hou V => ?_)
  obtain ⟨arr, rfl, rfl, rfl⟩ := hq
  refine W.eq (g2 := F0 m 10 ls [.ref arr]) rfl ?_
  have V : VV G _ _ F [(a, ob 0 [iV mc, .ref arr, iV 0]), (arr, aR G 10 (fun _ => none))] _ _ _ := V
  exact z_aret hx hb hr hlk V (Or.inr ⟨_, rfl⟩) (Or.inr ⟨_, rfl⟩) dJ2_grow_10 ⟨arr, rfl, rfl, rfl⟩ ⟨Nat.le_of_ble_eq_true rfl, Nat.le_of_ble_eq_true rfl⟩
set_option maxHeartbeats 4000000 in
theorem ct_AL_add2e (l : Launch) (G : gG) {F : fS} {Ha : Heap} (a x : Nat) (mc : Int) (ex : va_W) (ho : oX F ex x) (hp : Hp G F ([(a, ob 0 [iV mc, .ref (G.2.2 0), iV 0])] ++ ex) Ha) : CT l G yJ2_add_2 cJ2_add_2 4 none 4 76 1 10 [.ref a, .ref x, .ref (G.2.2 0), iV 0] F ([(a, ob 0 [iV mc, .ref (G.2.2 0), iV 0])] ++ ex) Ha (fun v F' w' => ∃ arr : Nat, v = none ∧ F = F' ∧ w' = [(a, ob 0 [iV mc, .ref arr, iV 1]), (arr, aR G 10 (va_up (fun _ => none) 0 (some x)))] ++ ex) := by
  refine z_of hp (Or.inl (by decide)) (Nat.le_of_ble_eq_true rfl) ?_
  intro p e s m below meth c ls hx hb hr hml hts hown hlk hnm hk hsH V hl
  have hl : lv_has ls 4 [(0, .ref a), (1, .ref x), (2, .ref (G.2.2 0)), (3, iV 0)] := hl
  have hE := hk.so.1
  refine lv_iload_n hx hb dJ2_add_2_0 rfl (lv_at hl 3 rfl) ?_
  refine lv_aload_n hx hb dJ2_add_2_1 rfl (lv_at hl 2 rfl) ?_
  refine z_alen hx hb hk (V.f hE) dJ2_add_2_2 ?_
  refine z_icmp_ne (tgt := 11) hx hb (by omega) dJ2_add_2_3 (by decide) (fun c3 => by omega) (fun c3 => ?_)
  refine lv_aload_n hx hb dJ2_add_2_6 rfl (lv_at hl 0 rfl) ?_
  refine z_callV ⟨hx, hb, hml, hown, hts⟩ hk hl.1 V (wc := [(a, ob 0 [iV mc, .ref (G.2.2 0), iV 0])]) (wr := ([] ++ ex)) [0] ([] ++ tIx [(a, ob 0 [iV mc, .ref (G.2.2 0), iV 0])] ex) (idxN (w := [(a, ob 0 [iV mc, .ref (G.2.2 0), iV 0])]) (t := ex) (wC := [(a, ob 0 [iV mc, .ref (G.2.2 0), iV 0])]) (is := [0]) rfl) (idxT (w := [(a, ob 0 [iV mc, .ref (G.2.2 0), iV 0])]) (t := ex) (wC := []) (is := []) rfl) rfl (ndT (w := [(a, ob 0 [iV mc, .ref (G.2.2 0), iV 0])]) (t := ex) (wC := []) (is := []) rfl rfl) (disT2 (w := [(a, ob 0 [iV mc, .ref (G.2.2 0), iV 0])]) (t := ex) (wC := [(a, ob 0 [iV mc, .ref (G.2.2 0), iV 0])]) (isC := [0]) rfl (by decide)) (As := []) (rest := []) (fun hp => ct_AL_grow l G a mc hp) (cwV 0 hts (lw_V q467 q469 qs2 q77 q470) rfl rfl rfl (by decide +kernel) ⟨Nat.le_of_ble_eq_true rfl, Nat.le_of_ble_eq_true rfl⟩) (z_rc hk (V.w 0 rfl) (q := (RJ2, TJ2, 3)) rfl) rfl rfl (Nat.le_of_ble_eq_true rfl) dJ2_add_2_7 ⟨Nat.le_of_ble_eq_true rfl, Nat.le_of_ble_eq_true rfl⟩ (fun v F1 w1 H locs hq hle hou V => ?_)
  obtain ⟨arr, rfl, rfl, rfl⟩ := hq
  have V := VV.rot1 V
  refine W.eq (g2 := F0 m 10 ls [.ref arr]) rfl ?_
  have V : VV G _ _ F ([(a, ob 0 [iV mc, .ref arr, iV 0]), (arr, aR G 10 (fun _ => none))] ++ ex) _ _ _ := V
  refine lv_astore_n (lv' := [(2, .ref arr), (0, .ref a), (1, .ref x), (3, iV 0)]) hx hb dJ2_add_2_10 rfl hl (by decide) rfl (fun ls hl => ?_)
  refine lv_aload_n hx hb dJ2_add_2_11 rfl (lv_at hl 0 rfl) ?_
  refine lv_iload_n hx hb dJ2_add_2_12 rfl (lv_at hl 3 rfl) ?_
  refine lv_aload_n hx hb dJ2_add_2_13 rfl (lv_at hl 2 rfl) ?_
  refine z_aast hx hb hk V 1 rfl 0 (by omega) (ho.any hk V (fun q hq => by simp [hq])) dJ2_add_2_14 (fun H locs V => ?_)
  have V : VV G _ _ F ([(a, ob 0 [iV mc, .ref arr, iV 0]), (arr, aR G 10 (va_up (fun _ => none) 0 (some x)))] ++ ex) _ _ _ := V
  refine lv_aload_n hx hb dJ2_add_2_15 rfl (lv_at hl 1 rfl) ?_
  refine lv_iload_n hx hb dJ2_add_2_16 rfl (lv_at hl 3 rfl) ?_
  refine lv_iconst (v := iZ 1) hx hb dJ2_add_2_17 rfl ?_
  refine z_iadd hx hb dJ2_add_2_18 ?_
  refine z_put hx hb hts hk V hown K_J2 0 rfl 2 (by decide) q163 (fun _ h => h) rfl rfl rfl (Nat.le_of_ble_eq_true rfl) dJ2_add_2_19 (fun H locs V => ?_)
  have V : VV G _ _ F ([(a, ob 0 [iV mc, .ref arr, iV (0 + 1)]), (arr, aR G 10 (va_up (fun _ => none) 0 (some x)))] ++ ex) _ _ _ := V
  exact z_vret hx hb hr hlk V dJ2_add_2_22 ⟨arr, rfl, rfl, rfl⟩ ⟨Nat.le_of_ble_eq_true rfl, Nat.le_of_ble_eq_true rfl⟩
set_option maxHeartbeats 4000000 in
theorem ct_AL_add2n (l : Launch) (G : gG) {F : fS} {Ha : Heap} (a x arr n : Nat) (mc : Int) (f : Nat → Option Nat) (hn : n < 10) (ex : va_W) (ho : oX F ex x) (hp : Hp G F ([(a, ob 0 [iV mc, .ref arr, iV (n : Nat)]), (arr, aR G 10 f)] ++ ex) Ha) : CT l G yJ2_add_2 cJ2_add_2 4 none 1 12 0 0 [.ref a, .ref x, .ref arr, iV (n : Nat)] F ([(a, ob 0 [iV mc, .ref arr, iV (n : Nat)]), (arr, aR G 10 f)] ++ ex) Ha (fun v F' w' => v = none ∧ F = F' ∧ w' = [(a, ob 0 [iV mc, .ref arr, iV ((n : Int) + 1)]), (arr, aR G 10 (va_up f n (some x)))] ++ ex) := by
  refine z_of hp (Or.inl (by decide)) (Nat.le_of_ble_eq_true rfl) ?_
  intro p e s m below meth c ls hx hb hr hml hts hown hlk hnm hk hsH V hl
  have hl : lv_has ls 4 [(0, .ref a), (1, .ref x), (2, .ref arr), (3, iV (n : Nat))] := hl
  refine lv_iload_n hx hb dJ2_add_2_0 rfl (lv_at hl 3 rfl) ?_
  refine lv_aload_n hx hb dJ2_add_2_1 rfl (lv_at hl 2 rfl) ?_
  refine z_alen hx hb hk (V.w 1 rfl) dJ2_add_2_2 ?_
  refine z_icmp_ne (tgt := 11) hx hb (by omega) dJ2_add_2_3 (by decide) (fun c3 => ?_) (fun c3 => by omega)
  refine lv_aload_n hx hb dJ2_add_2_11 rfl (lv_at hl 2 rfl) ?_
  refine lv_iload_n hx hb dJ2_add_2_12 rfl (lv_at hl 3 rfl) ?_
  refine lv_aload_n hx hb dJ2_add_2_13 rfl (lv_at hl 1 rfl) ?_
  refine z_aast hx hb hk V 1 rfl n (by omega) (ho.any hk V (fun q hq => by simp [hq])) dJ2_add_2_14 (fun H locs V => ?_)
  have V : VV G _ _ F ([(a, ob 0 [iV mc, .ref arr, iV (n : Nat)]), (arr, aR G 10 (va_up f n (some x)))] ++ ex) _ _ _ := V
  refine lv_aload_n hx hb dJ2_add_2_15 rfl (lv_at hl 0 rfl) ?_
  refine lv_iload_n hx hb dJ2_add_2_16 rfl (lv_at hl 3 rfl) ?_
  refine lv_iconst (v := iZ 1) hx hb dJ2_add_2_17 rfl ?_
  refine z_iadd hx hb dJ2_add_2_18 ?_
  refine z_put hx hb hts hk V hown K_J2 0 rfl 2 (by decide) q163 (fun _ h => h) rfl rfl rfl (Nat.le_of_ble_eq_true rfl) dJ2_add_2_19 (fun H locs V => ?_)
  have V : VV G _ _ F ([(a, ob 0 [iV mc, .ref arr, iV ((n : Nat) + 1)]), (arr, aR G 10 (va_up f n (some x)))] ++ ex) _ _ _ := V
  exact z_vret hx hb hr hlk V dJ2_add_2_22 ⟨rfl, rfl, rfl⟩ ⟨Nat.le_of_ble_eq_true rfl, Nat.le_of_ble_eq_true rfl⟩
theorem LW_put {xs : List Nat} {x : Nat} {f : Nat → Option Nat} (hf : ∀ i, i < xs.length → f i = some (xs.getD i 0)) (i : Nat) (hi : i < (xs ++ [x]).length) : va_up f xs.length (some x) i = some ((xs ++ [x]).getD i 0) := by
  unfold va_up
  by_cases h : i = xs.length
  · subst h; simp [List.getD_eq_getElem?_getD]
  · have h2 : i < xs.length := by simp at hi; omega
    rw [if_neg h, hf i h2]
    simp [List.getD_eq_getElem?_getD, List.getElem?_append_left h2]
set_option maxHeartbeats 4000000 in
theorem ct_AL_add (l : Launch) (G : gG) {F : fS} {Ha : Heap} (a x : Nat) (xs : List Nat) (wl ex : va_W) (hw : LW G a xs wl) (hn9 : xs.length < 10) (ho : oX F ex x) (hp : Hp G F (([] ++ wl) ++ ex) Ha) : CT l G yJ2_add cJ2_add 2 (some .boolean) 5 99 1 10 [.ref a, .ref x] F (([] ++ wl) ++ ex) Ha (fun v F' w' => v = some (iV 1) ∧ F = F' ∧ ∃ w1, LW G a (xs ++ [x]) w1 ∧ w' = w1 ++ ex) := by
  refine z_of hp (Or.inl (by decide)) (Nat.le_of_ble_eq_true rfl) ?_
  intro p e s m below meth c ls hx hb hr hml hts hown hlk hnm hk hsH V hl
  have hl : lv_has ls 2 [(0, .ref a), (1, .ref x)] := hl
  obtain ⟨mc, hw | ⟨arr, f, hn1, hf, hw⟩⟩ := hw
  · skip
    obtain ⟨rfl, rfl⟩ := hw
    refine lv_aload_n hx hb dJ2_add_0 rfl (lv_at hl 0 rfl) ?_
    refine lv_dup hx hb dJ2_add_1 rfl ?_
    refine z_get hx hb hts hk hown K_J2 (V.w 0 rfl) 0 (by decide) q167 (u_same (hts _ q166)) rfl dJ2_add_2 ?_
    refine lv_iconst (v := iZ 1) hx hb dJ2_add_5 rfl ?_
    refine z_iadd hx hb dJ2_add_6 ?_
    refine z_put hx hb hts hk V hown K_J2 0 rfl 0 (by decide) q167 (u_same (hts _ q166)) rfl rfl rfl (Nat.le_of_ble_eq_true rfl) dJ2_add_7 (fun H locs V => ?_)
    have V : VV G _ _ F ([(a, ob 0 [iV (mc + 1), .ref (G.2.2 0), iV 0])] ++ ex) _ _ _ := V
    refine lv_aload_n hx hb dJ2_add_10 rfl (lv_at hl 0 rfl) ?_
    refine lv_aload_n hx hb dJ2_add_11 rfl (lv_at hl 1 rfl) ?_
    refine lv_aload_n hx hb dJ2_add_12 rfl (lv_at hl 0 rfl) ?_
    refine z_get hx hb hts hk hown K_J2 (V.w 0 rfl) 1 (by decide) q160 (fun _ h => h) rfl dJ2_add_13 ?_
    refine lv_aload_n hx hb dJ2_add_16 rfl (lv_at hl 0 rfl) ?_
    refine z_get hx hb hts hk hown K_J2 (V.w 0 rfl) 2 (by decide) q163 (fun _ h => h) rfl dJ2_add_17 ?_
    refine z_callV ⟨hx, hb, hml, hown, hts⟩ hk hl.1 V (wc := ([(a, ob 0 [iV (mc + 1), .ref (G.2.2 0), iV 0])] ++ ex)) (wr := []) ([0] ++ tIx [(a, ob 0 [iV (mc + 1), .ref (G.2.2 0), iV 0])] ex) [] (idxT (w := [(a, ob 0 [iV (mc + 1), .ref (G.2.2 0), iV 0])]) (t := ex) (wC := [(a, ob 0 [iV (mc + 1), .ref (G.2.2 0), iV 0])]) (is := [0]) rfl) (idxN (w := [(a, ob 0 [iV (mc + 1), .ref (G.2.2 0), iV 0])]) (t := ex) (wC := []) (is := []) rfl) (ndT (w := [(a, ob 0 [iV (mc + 1), .ref (G.2.2 0), iV 0])]) (t := ex) (wC := [(a, ob 0 [iV (mc + 1), .ref (G.2.2 0), iV 0])]) (is := [0]) rfl rfl) rfl (disT (w := [(a, ob 0 [iV (mc + 1), .ref (G.2.2 0), iV 0])]) (t := ex) (wR := []) (isR := []) rfl (by decide)) (As := [.ref x, .ref (G.2.2 0), iV 0]) (rest := []) (fun hp => ct_AL_add2e l G a x (mc + 1) ex ho hp) (cwV 3 hts (lw_V q463 q465 qs1 q77 q466) rfl rfl rfl (by decide +kernel) ⟨Nat.le_of_ble_eq_true rfl, Nat.le_of_ble_eq_true rfl⟩) (z_rc hk (V.w 0 rfl) (q := (RJ2, TJ2, 3)) rfl) rfl rfl (Nat.le_of_ble_eq_true rfl) dJ2_add_20 ⟨Nat.le_of_ble_eq_true rfl, Nat.le_of_ble_eq_true rfl⟩ (fun v F1 w1 H locs hq hle hou V => ?_)
    obtain ⟨arr, rfl, rfl, rfl⟩ := hq
    have V := VV.asc (z := [(a, ob 0 [iV (mc + 1), .ref arr, iV 1]), (arr, aR G 10 (va_up (fun _ => none) 0 (some x)))]) (t := ex) V
    refine W.eq (g2 := F0 m 23 ls []) rfl ?_
    have V : VV G _ _ F ([(a, ob 0 [iV (mc + 1), .ref arr, iV 1]), (arr, aR G 10 (va_up (fun _ => none) 0 (some x)))] ++ ex) _ _ _ := V
    refine lv_iconst (v := iZ 1) hx hb dJ2_add_23 rfl ?_
    exact z_iret hx hb hr hlk V rfl dJ2_add_24 ⟨rfl, rfl, _, ⟨mc + 1, Or.inr ⟨arr, _, (by simp), (fun i hi => by simp at hi; subst hi; rfl), rfl⟩⟩, rfl⟩ ⟨Nat.le_of_ble_eq_true rfl, Nat.le_of_ble_eq_true rfl⟩
  · skip
    subst hw
    refine lv_aload_n hx hb dJ2_add_0 rfl (lv_at hl 0 rfl) ?_
    refine lv_dup hx hb dJ2_add_1 rfl ?_
    refine z_get hx hb hts hk hown K_J2 (V.w 0 rfl) 0 (by decide) q167 (u_same (hts _ q166)) rfl dJ2_add_2 ?_
    refine lv_iconst (v := iZ 1) hx hb dJ2_add_5 rfl ?_
    refine z_iadd hx hb dJ2_add_6 ?_
    refine z_put hx hb hts hk V hown K_J2 0 rfl 0 (by decide) q167 (u_same (hts _ q166)) rfl rfl rfl (Nat.le_of_ble_eq_true rfl) dJ2_add_7 (fun H locs V => ?_)
    have V : VV G _ _ F ([(a, ob 0 [iV (mc + 1), .ref arr, iV (xs.length : Nat)]), (arr, aR G 10 f)] ++ ex) _ _ _ := V
    refine lv_aload_n hx hb dJ2_add_10 rfl (lv_at hl 0 rfl) ?_
    refine lv_aload_n hx hb dJ2_add_11 rfl (lv_at hl 1 rfl) ?_
    refine lv_aload_n hx hb dJ2_add_12 rfl (lv_at hl 0 rfl) ?_
    refine z_get hx hb hts hk hown K_J2 (V.w 0 rfl) 1 (by decide) q160 (fun _ h => h) rfl dJ2_add_13 ?_
    refine lv_aload_n hx hb dJ2_add_16 rfl (lv_at hl 0 rfl) ?_
    refine z_get hx hb hts hk hown K_J2 (V.w 0 rfl) 2 (by decide) q163 (fun _ h => h) rfl dJ2_add_17 ?_
    refine z_callV ⟨hx, hb, hml, hown, hts⟩ hk hl.1 V (wc := ([(a, ob 0 [iV (mc + 1), .ref arr, iV (xs.length : Nat)]), (arr, aR G 10 f)] ++ ex)) (wr := []) ([0, 1] ++ tIx [(a, ob 0 [iV (mc + 1), .ref arr, iV (xs.length : Nat)]), (arr, aR G 10 f)] ex) [] (idxT (w := [(a, ob 0 [iV (mc + 1), .ref arr, iV (xs.length : Nat)]), (arr, aR G 10 f)]) (t := ex) (wC := [(a, ob 0 [iV (mc + 1), .ref arr, iV (xs.length : Nat)]), (arr, aR G 10 f)]) (is := [0, 1]) rfl) (idxN (w := [(a, ob 0 [iV (mc + 1), .ref arr, iV (xs.length : Nat)]), (arr, aR G 10 f)]) (t := ex) (wC := []) (is := []) rfl) (ndT (w := [(a, ob 0 [iV (mc + 1), .ref arr, iV (xs.length : Nat)]), (arr, aR G 10 f)]) (t := ex) (wC := [(a, ob 0 [iV (mc + 1), .ref arr, iV (xs.length : Nat)]), (arr, aR G 10 f)]) (is := [0, 1]) rfl rfl) rfl (disT (w := [(a, ob 0 [iV (mc + 1), .ref arr, iV (xs.length : Nat)]), (arr, aR G 10 f)]) (t := ex) (wR := []) (isR := []) rfl (by decide)) (As := [.ref x, .ref arr, iV (xs.length : Nat)]) (rest := []) (fun hp => ct_AL_add2n l G a x arr xs.length (mc + 1) f (by omega) ex ho hp) (cwV 3 hts (lw_V q463 q465 qs1 q77 q466) rfl rfl rfl (by decide +kernel) ⟨Nat.le_of_ble_eq_true rfl, Nat.le_of_ble_eq_true rfl⟩) (z_rc hk (V.w 0 rfl) (q := (RJ2, TJ2, 3)) rfl) rfl rfl (Nat.le_of_ble_eq_true rfl) dJ2_add_20 ⟨Nat.le_of_ble_eq_true rfl, Nat.le_of_ble_eq_true rfl⟩ (fun v F1 w1 H locs hq hle hou V => ?_)
    obtain ⟨rfl, rfl, rfl⟩ := hq
    have V := VV.asc (z := [(a, ob 0 [iV (mc + 1), .ref arr, iV ((xs.length : Int) + 1)]), (arr, aR G 10 (va_up f xs.length (some x)))]) (t := ex) V
    refine W.eq (g2 := F0 m 23 ls []) rfl ?_
    have V : VV G _ _ F ([(a, ob 0 [iV (mc + 1), .ref arr, iV ((xs.length : Int) + 1)]), (arr, aR G 10 (va_up f xs.length (some x)))] ++ ex) _ _ _ := V
    refine lv_iconst (v := iZ 1) hx hb dJ2_add_23 rfl ?_
    exact z_iret hx hb hr hlk V rfl dJ2_add_24 ⟨rfl, rfl, _, ⟨mc + 1, Or.inr ⟨arr, _, (by simp; omega), (fun i hi => LW_put hf i hi), (by simp)⟩⟩, rfl⟩ ⟨Nat.le_of_ble_eq_true rfl, Nat.le_of_ble_eq_true rfl⟩
theorem LW_del {xs : List Nat} {f : Nat → Option Nat} {i : Nat} (hi : i < xs.length) (hf : ∀ j, j < xs.length → f j = some (xs.getD j 0)) (j : Nat) (hj : j < (xs.eraseIdx i).length) : va_up (va_cpy f f (i + 1) i (xs.length - 1 - i)) (xs.length - 1) none j = some ((xs.eraseIdx i).getD j 0) := by
  rw [List.length_eraseIdx_of_lt hi] at hj
  unfold va_up va_cpy
  rw [if_neg (by omega), List.getD_eq_getElem?_getD, List.getElem?_eraseIdx]
  by_cases h : j < i
  · rw [if_neg (by omega), hf j (by omega), if_pos h, List.getD_eq_getElem?_getD]
  · rw [if_pos (by omega), show i + 1 + (j - i) = j + 1 by omega, hf _ (by omega), if_neg h, List.getD_eq_getElem?_getD]
theorem LW_del2 {xs : List Nat} {f : Nat → Option Nat} {i : Nat} (hi : i + 1 = xs.length) (hf : ∀ j, j < xs.length → f j = some (xs.getD j 0)) (j : Nat) (hj : j < (xs.eraseIdx i).length) : va_up f (xs.length - 1) none j = some ((xs.eraseIdx i).getD j 0) := by
  rw [List.length_eraseIdx_of_lt (by omega)] at hj
  unfold va_up
  rw [if_neg (by omega), List.getD_eq_getElem?_getD, List.getElem?_eraseIdx, hf j (by omega), if_pos (by omega), List.getD_eq_getElem?_getD]
set_option maxHeartbeats 4000000 in
theorem ct_AL_fastRemove (l : Launch) (G : gG) {F : fS} {Ha : Heap} (a arr : Nat) (mc : Int) (xs : List Nat) (f : Nat → Option Nat) (hn9 : xs.length ≤ 10) (hf : ∀ j, j < xs.length → f j = some (xs.getD j 0)) (i : Nat) (hi : i < xs.length) (ex : va_W) (hox : ∀ y ∈ xs, oX F ex y) (hp : Hp G F ([(a, ob 0 [iV mc, .ref arr, iV (xs.length : Nat)]), (arr, aR G 10 f)] ++ ex) Ha) : CT l G yJ2_fastRemove cJ2_fastRemove 4 none 1 60 0 0 [.ref a, .ref arr, iV (i : Nat)] F ([(a, ob 0 [iV mc, .ref arr, iV (xs.length : Nat)]), (arr, aR G 10 f)] ++ ex) Ha (fun v F' w' => v = none ∧ F = F' ∧ ∃ f' : Nat → Option Nat, (∀ j, j < (xs.eraseIdx i).length → f' j = some ((xs.eraseIdx i).getD j 0)) ∧ w' = [(a, ob 0 [iV (mc + 1), .ref arr, iV ((xs.length : Int) - 1)]), (arr, aR G 10 f')] ++ ex) := by
  refine z_of hp (Or.inl (by decide)) (Nat.le_of_ble_eq_true rfl) ?_
  intro p e s m below meth c ls hx hb hr hml hts hown hlk hnm hk hsH V hl
  have hl : lv_has ls 4 [(0, .ref a), (1, .ref arr), (2, iV (i : Nat))] := hl
  refine lv_aload_n hx hb dJ2_fastRemove_0 rfl (lv_at hl 0 rfl) ?_
  refine lv_dup hx hb dJ2_fastRemove_1 rfl ?_
  refine z_get hx hb hts hk hown K_J2 (V.w 0 rfl) 0 (by decide) q167 (u_same (hts _ q166)) rfl dJ2_fastRemove_2 ?_
  refine lv_iconst (v := iZ 1) hx hb dJ2_fastRemove_5 rfl ?_
  refine z_iadd hx hb dJ2_fastRemove_6 ?_
  refine z_put hx hb hts hk V hown K_J2 0 rfl 0 (by decide) q167 (u_same (hts _ q166)) rfl rfl rfl (Nat.le_of_ble_eq_true rfl) dJ2_fastRemove_7 (fun H locs V => ?_)
  have V : VV G _ _ F ([(a, ob 0 [iV (mc + 1), .ref arr, iV (xs.length : Nat)]), (arr, aR G 10 f)] ++ ex) _ _ _ := V
  refine lv_aload_n hx hb dJ2_fastRemove_10 rfl (lv_at hl 0 rfl) ?_
  refine z_get hx hb hts hk hown K_J2 (V.w 0 rfl) 2 (by decide) q163 (fun _ h => h) rfl dJ2_fastRemove_11 ?_
  refine lv_iconst (v := iZ 1) hx hb dJ2_fastRemove_14 rfl ?_
  refine z_isub hx hb dJ2_fastRemove_15 ?_
  refine lv_dup hx hb dJ2_fastRemove_16 rfl ?_
  refine lv_istore_n (lv' := [(3, iV ((xs.length : Nat) - 1)), (0, .ref a), (1, .ref arr), (2, iV (i : Nat))]) hx hb dJ2_fastRemove_17 rfl hl (by decide) rfl (fun ls hl => ?_)
  refine lv_iload_n hx hb dJ2_fastRemove_18 rfl (lv_at hl 3 rfl) ?_
  refine z_icmp_le (tgt := 34) hx hb (by omega) dJ2_fastRemove_19 (by decide) (fun c19 => ?_) (fun c19 => ?_)
  · skip
    refine lv_aload_n hx hb dJ2_fastRemove_34 rfl (lv_at hl 2 rfl) ?_
    refine lv_aload_n hx hb dJ2_fastRemove_35 rfl (lv_at hl 1 rfl) ?_
    refine lv_iload_n hx hb dJ2_fastRemove_36 rfl (lv_at hl 0 rfl) ?_
    refine lv_dup_x1 hx hb dJ2_fastRemove_37 rfl rfl ?_
    refine z_put hx hb hts hk V hown K_J2 0 rfl 2 (by decide) q163 (fun _ h => h) rfl rfl rfl (Nat.le_of_ble_eq_true rfl) dJ2_fastRemove_38 (fun H locs V => ?_)
    have V : VV G _ _ F ([(a, ob 0 [iV (mc + 1), .ref arr, iV ((xs.length : Nat) - 1)]), (arr, aR G 10 f)] ++ ex) _ _ _ := V
    refine lv_null hx hb dJ2_fastRemove_41 ?_
    refine z_aastN hx hb hk V 1 rfl (xs.length - 1) (by omega) dJ2_fastRemove_42 (fun H locs V => ?_)
    have V : VV G _ _ F ([(a, ob 0 [iV (mc + 1), .ref arr, iV ((xs.length : Nat) - 1)]), (arr, aR G 10 (va_up f (xs.length - 1) none))] ++ ex) _ _ _ := V
    exact z_vret hx hb hr hlk V dJ2_fastRemove_43 ⟨rfl, rfl, _, ⟨fun j hj => LW_del2 (by omega) hf j hj, rfl⟩⟩ ⟨Nat.le_of_ble_eq_true rfl, Nat.le_of_ble_eq_true rfl⟩
  · skip
    refine lv_aload_n hx hb dJ2_fastRemove_22 rfl (lv_at hl 2 rfl) ?_
    refine lv_iload_n hx hb dJ2_fastRemove_23 rfl (lv_at hl 3 rfl) ?_
    refine lv_iconst (v := iZ 1) hx hb dJ2_fastRemove_24 rfl ?_
    refine z_iadd hx hb dJ2_fastRemove_25 ?_
    refine lv_aload_n hx hb dJ2_fastRemove_26 rfl (lv_at hl 2 rfl) ?_
    refine lv_iload_n hx hb dJ2_fastRemove_27 rfl (lv_at hl 3 rfl) ?_
    refine lv_iload_n hx hb dJ2_fastRemove_28 rfl (lv_at hl 0 rfl) ?_
    refine lv_iload_n hx hb dJ2_fastRemove_29 rfl (lv_at hl 3 rfl) ?_
    refine z_isub hx hb dJ2_fastRemove_30 ?_
    refine z_copyA (i := (i + 1)) (j := i) (k := (xs.length - 1 - i)) hx hb (by rw [hml]; exact hl.1.symm) hts hk V hown q1314 (V.w 1 rfl) 1 rfl (by omega) (fun z hz y hy => (hox y (by rw [hf _ (by omega)] at hy; cases hy; simp [List.getD_eq_getElem?_getD, List.getElem?_eq_getElem (show i + 1 + z < xs.length by omega)])).any hk V (fun q hq => by simp [hq])) (Nat.le_of_ble_eq_true rfl) (Nat.le_of_ble_eq_true rfl) dJ2_fastRemove_31 (fun H locs V => ?_)
    have V : VV G _ _ F ([(a, ob 0 [iV (mc + 1), .ref arr, iV (xs.length : Nat)]), (arr, aR G 10 (va_cpy f f (i + 1) i (xs.length - 1 - i)))] ++ ex) _ _ _ := V
    refine W.eq (g2 := F0 m 34 ls []) rfl ?_
    refine lv_aload_n hx hb dJ2_fastRemove_34 rfl (lv_at hl 2 rfl) ?_
    refine lv_aload_n hx hb dJ2_fastRemove_35 rfl (lv_at hl 1 rfl) ?_
    refine lv_iload_n hx hb dJ2_fastRemove_36 rfl (lv_at hl 0 rfl) ?_
    refine lv_dup_x1 hx hb dJ2_fastRemove_37 rfl rfl ?_
    refine z_put hx hb hts hk V hown K_J2 0 rfl 2 (by decide) q163 (fun _ h => h) rfl rfl rfl (Nat.le_of_ble_eq_true rfl) dJ2_fastRemove_38 (fun H locs V => ?_)
    have V : VV G _ _ F ([(a, ob 0 [iV (mc + 1), .ref arr, iV ((xs.length : Nat) - 1)]), (arr, aR G 10 (va_cpy f f (i + 1) i (xs.length - 1 - i)))] ++ ex) _ _ _ := V
    refine lv_null hx hb dJ2_fastRemove_41 ?_
    refine z_aastN hx hb hk V 1 rfl (xs.length - 1) (by omega) dJ2_fastRemove_42 (fun H locs V => ?_)
    have V : VV G _ _ F ([(a, ob 0 [iV (mc + 1), .ref arr, iV ((xs.length : Nat) - 1)]), (arr, aR G 10 (va_up (va_cpy f f (i + 1) i (xs.length - 1 - i)) (xs.length - 1) none))] ++ ex) _ _ _ := V
    exact z_vret hx hb hr hlk V dJ2_fastRemove_43 ⟨rfl, rfl, _, ⟨fun j hj => LW_del hi hf j hj, rfl⟩⟩ ⟨Nat.le_of_ble_eq_true rfl, Nat.le_of_ble_eq_true rfl⟩
set_option maxHeartbeats 4000000 in
theorem ct_AL_remove (l : Launch) (G : gG) {F : fS} {Ha : Heap} (a : Nat) (xs : List Nat) (wl ex : va_W) (hw : LW G a xs wl) (i : Nat) (hi : i < xs.length) (hox : ∀ y ∈ xs, oX F ex y) (hp : Hp G F (([] ++ wl) ++ ex) Ha) : CT l G yJ2_remove cJ2_remove 4 (some (.object "java/lang/Object")) 3 83 0 0 [.ref a, iV (i : Nat)] F (([] ++ wl) ++ ex) Ha (fun v F' w' => v = some (.ref (xs.getD i 0)) ∧ F = F' ∧ ∃ w1, LW G a (xs.eraseIdx i) w1 ∧ w' = w1 ++ ex) := by
  refine z_of hp (Or.inl (by decide)) (Nat.le_of_ble_eq_true rfl) ?_
  intro p e s m below meth c ls hx hb hr hml hts hown hlk hnm hk hsH V hl
  have hl : lv_has ls 4 [(0, .ref a), (1, iV (i : Nat))] := hl
  obtain ⟨mc, hw | ⟨arr, f, hn1, hf, hw⟩⟩ := hw
  · exact absurd hi (by rw [hw.1]; simp)
  subst hw
  refine lv_iload_n hx hb dJ2_remove_0 rfl (lv_at hl 1 rfl) ?_
  refine lv_aload_n hx hb dJ2_remove_1 rfl (lv_at hl 0 rfl) ?_
  refine z_get hx hb hts hk hown K_J2 (V.w 0 rfl) 2 (by decide) q163 (fun _ h => h) rfl dJ2_remove_2 ?_
  refine z_callS ⟨hx, hb, hml, hown, hts⟩ hk hl.1 V (wc := []) (wr := ([(a, ob 0 [iV mc, .ref arr, iV (xs.length : Nat)]), (arr, aR G 10 f)] ++ ex)) [] ([0, 1] ++ tIx [(a, ob 0 [iV mc, .ref arr, iV (xs.length : Nat)]), (arr, aR G 10 f)] ex) (idxN (w := [(a, ob 0 [iV mc, .ref arr, iV (xs.length : Nat)]), (arr, aR G 10 f)]) (t := ex) (wC := []) (is := []) rfl) (idxT (w := [(a, ob 0 [iV mc, .ref arr, iV (xs.length : Nat)]), (arr, aR G 10 f)]) (t := ex) (wC := [(a, ob 0 [iV mc, .ref arr, iV (xs.length : Nat)]), (arr, aR G 10 f)]) (is := [0, 1]) rfl) rfl (ndT (w := [(a, ob 0 [iV mc, .ref arr, iV (xs.length : Nat)]), (arr, aR G 10 f)]) (t := ex) (wC := [(a, ob 0 [iV mc, .ref arr, iV (xs.length : Nat)]), (arr, aR G 10 f)]) (is := [0, 1]) rfl rfl) (disT2 (w := [(a, ob 0 [iV mc, .ref arr, iV (xs.length : Nat)]), (arr, aR G 10 f)]) (t := ex) (wC := []) (isC := []) rfl (by decide)) (As := [iV (i : Nat), iV (xs.length : Nat)]) (rest := []) (fun hp => ct_ocheck l G i xs.length (by omega) hp) (va_cwS 2 hts (lw_S q1148 q1149 q108 q1150) rfl rfl rfl (by decide +kernel) ⟨Nat.le_of_ble_eq_true rfl, Nat.le_of_ble_eq_true rfl⟩) rfl rfl (Nat.le_of_ble_eq_true rfl) dJ2_remove_5 ⟨Nat.le_of_ble_eq_true rfl, Nat.le_of_ble_eq_true rfl⟩ (fun v F1 w1 H locs hq hle hou V => ?_)
  obtain ⟨rfl, rfl, rfl⟩ := hq
  have V := VV.rot1 V
  refine W.eq (g2 := F0 m 8 ls [iV (i : Nat)]) rfl ?_
  have V : VV G _ _ F ([(a, ob 0 [iV mc, .ref arr, iV (xs.length : Nat)]), (arr, aR G 10 f)] ++ ex) _ _ _ := V
  refine lv_pop hx hb dJ2_remove_8 rfl ?_
  refine lv_aload_n hx hb dJ2_remove_9 rfl (lv_at hl 0 rfl) ?_
  refine z_get hx hb hts hk hown K_J2 (V.w 0 rfl) 1 (by decide) q160 (fun _ h => h) rfl dJ2_remove_10 ?_
  refine lv_astore_n (lv' := [(2, .ref arr), (0, .ref a), (1, iV (i : Nat))]) hx hb dJ2_remove_13 rfl hl (by decide) rfl (fun ls hl => ?_)
  refine lv_aload_n hx hb dJ2_remove_14 rfl (lv_at hl 0 rfl) ?_
  refine lv_iload_n hx hb dJ2_remove_15 rfl (lv_at hl 2 rfl) ?_
  refine z_aald (v := .ref (xs.getD i 0)) hx hb hk (V.w 1 rfl) i (by omega) dJ2_remove_16 (by rw [hf i hi]; rfl) ?_
  refine lv_astore_n (lv' := [(3, .ref (xs.getD i 0)), (2, .ref arr), (0, .ref a), (1, iV (i : Nat))]) hx hb dJ2_remove_17 rfl hl (by decide) rfl (fun ls hl => ?_)
  refine lv_aload_n hx hb dJ2_remove_18 rfl (lv_at hl 2 rfl) ?_
  refine lv_aload_n hx hb dJ2_remove_19 rfl (lv_at hl 1 rfl) ?_
  refine lv_iload_n hx hb dJ2_remove_20 rfl (lv_at hl 3 rfl) ?_
  refine z_callV ⟨hx, hb, hml, hown, hts⟩ hk hl.1 V (wc := ([(a, ob 0 [iV mc, .ref arr, iV (xs.length : Nat)]), (arr, aR G 10 f)] ++ ex)) (wr := []) ([0, 1] ++ tIx [(a, ob 0 [iV mc, .ref arr, iV (xs.length : Nat)]), (arr, aR G 10 f)] ex) [] (idxT (w := [(a, ob 0 [iV mc, .ref arr, iV (xs.length : Nat)]), (arr, aR G 10 f)]) (t := ex) (wC := [(a, ob 0 [iV mc, .ref arr, iV (xs.length : Nat)]), (arr, aR G 10 f)]) (is := [0, 1]) rfl) (idxN (w := [(a, ob 0 [iV mc, .ref arr, iV (xs.length : Nat)]), (arr, aR G 10 f)]) (t := ex) (wC := []) (is := []) rfl) (ndT (w := [(a, ob 0 [iV mc, .ref arr, iV (xs.length : Nat)]), (arr, aR G 10 f)]) (t := ex) (wC := [(a, ob 0 [iV mc, .ref arr, iV (xs.length : Nat)]), (arr, aR G 10 f)]) (is := [0, 1]) rfl rfl) rfl (disT (w := [(a, ob 0 [iV mc, .ref arr, iV (xs.length : Nat)]), (arr, aR G 10 f)]) (t := ex) (wR := []) (isR := []) rfl (by decide)) (As := [.ref arr, iV (i : Nat)]) (rest := []) (fun hp => ct_AL_fastRemove l G a arr mc xs f hn1 hf i hi ex hox hp) (cwV 2 hts (lw_V q1310 q1312 qs12 q77 q1313) rfl rfl rfl (by decide +kernel) ⟨Nat.le_of_ble_eq_true rfl, Nat.le_of_ble_eq_true rfl⟩) (z_rc hk (V.w 0 rfl) (q := (RJ2, TJ2, 3)) rfl) rfl rfl (Nat.le_of_ble_eq_true rfl) dJ2_remove_21 ⟨Nat.le_of_ble_eq_true rfl, Nat.le_of_ble_eq_true rfl⟩ (fun v F1 w1 H locs hq hle hou V => ?_)
  obtain ⟨rfl, rfl, f', hf', rfl⟩ := hq
  have V := VV.asc (z := [(a, ob 0 [iV (mc + 1), .ref arr, iV ((xs.length : Int) - 1)]), (arr, aR G 10 f')]) (t := ex) V
  refine W.eq (g2 := F0 m 24 ls []) rfl ?_
  have V : VV G _ _ F ([(a, ob 0 [iV (mc + 1), .ref arr, iV ((xs.length : Int) - 1)]), (arr, aR G 10 f')] ++ ex) _ _ _ := V
  refine lv_aload_n hx hb dJ2_remove_24 rfl (lv_at hl 0 rfl) ?_
  exact z_aret hx hb hr hlk V (Or.inl ⟨_, rfl⟩) (Or.inr ⟨_, rfl⟩) dJ2_remove_25 ⟨rfl, rfl, _, ⟨mc + 1, Or.inr ⟨arr, f', (by rw [List.length_eraseIdx_of_lt hi]; omega), hf', by rw [List.length_eraseIdx_of_lt hi, show (((xs.length - 1 : Nat)) : Int) = (xs.length : Int) - 1 by omega]⟩⟩, rfl⟩ ⟨Nat.le_of_ble_eq_true rfl, Nat.le_of_ble_eq_true rfl⟩
set_option maxHeartbeats 4000000 in
theorem ct_AL_rangeAdd (l : Launch) (G : gG) {F : fS} {Ha : Heap} (a arr n : Nat) (mc : Int) (hn9 : n ≤ 10) (u : Value) (hp : Hp G F [(a, ob 0 [iV mc, u, iV (n : Nat)])] Ha) : CT l G yJ2_rangeCheckForAdd cJ2_rangeCheckForAdd 2 none 1 12 0 0 [.ref a, iV 0] F [(a, ob 0 [iV mc, u, iV (n : Nat)])] Ha (fun rv F' w' => rv = none ∧ F = F' ∧ w' = [(a, ob 0 [iV mc, u, iV (n : Nat)])]) := by
  refine z_of hp (Or.inl (by decide)) (Nat.le_of_ble_eq_true rfl) ?_
  intro p e s m below meth c ls hx hb hr hml hts hown hlk hnm hk hsH V hl
  have hl : lv_has ls 2 [(0, .ref a), (1, iV 0)] := hl
  refine lv_iload_n hx hb dJ2_rangeCheckForAdd_0 rfl (lv_at hl 1 rfl) ?_
  refine lv_aload_n hx hb dJ2_rangeCheckForAdd_1 rfl (lv_at hl 0 rfl) ?_
  refine z_get hx hb hts hk hown K_J2 (V.w 0 rfl) 2 (by decide) q163 (fun _ h => h) rfl dJ2_rangeCheckForAdd_2 ?_
  refine z_icmp_gt (tgt := 12) hx hb (by omega) dJ2_rangeCheckForAdd_5 (by decide) (fun c5 => by omega) (fun c5 => ?_)
  refine lv_iload_n hx hb dJ2_rangeCheckForAdd_8 rfl (lv_at hl 1 rfl) ?_
  refine z_if_ge (tgt := 25) hx hb (by omega) dJ2_rangeCheckForAdd_9 (by decide) (fun c9 => ?_) (fun c9 => by omega)
  exact z_vret hx hb hr hlk V dJ2_rangeCheckForAdd_25 ⟨rfl, rfl, rfl⟩ ⟨Nat.le_of_ble_eq_true rfl, Nat.le_of_ble_eq_true rfl⟩
theorem LW_ins {xs : List Nat} {x : Nat} {f : Nat → Option Nat} (hf : ∀ j, j < xs.length → f j = some (xs.getD j 0)) (j : Nat) (hj : j < (x :: xs).length) : va_up (va_cpy f f 0 1 xs.length) 0 (some x) j = some ((x :: xs).getD j 0) := by
  unfold va_up va_cpy
  cases j with
  | zero => simp
  | succ j =>
    have h2 : j < xs.length := by simpa using hj
    rw [if_neg (by omega), if_pos (by omega), show 0 + (j + 1 - 1) = j by omega, hf j h2]
    simp
set_option maxHeartbeats 4000000 in
theorem ct_AL_add0 (l : Launch) (G : gG) {F : fS} {Ha : Heap} (a x : Nat) (xs : List Nat) (wl ex : va_W) (hw : LW G a xs wl) (hn9 : xs.length < 10) (ho : oX F ex x) (hox : ∀ y ∈ xs, oX F ex y) (hp : Hp G F (([] ++ wl) ++ ex) Ha) : CT l G yJ2_add_3 cJ2_add_3 5 none 4 76 1 10 [.ref a, iV 0, .ref x] F (([] ++ wl) ++ ex) Ha (fun v F' w' => v = none ∧ F = F' ∧ ∃ w1, LW G a (x :: xs) w1 ∧ w' = w1 ++ ex) := by
  refine z_of hp (Or.inl (by decide)) (Nat.le_of_ble_eq_true rfl) ?_
  intro p e s m below meth c ls hx hb hr hml hts hown hlk hnm hk hsH V hl
  have hl : lv_has ls 5 [(0, .ref a), (1, iV 0), (2, .ref x)] := hl
  obtain ⟨mc, hw | ⟨arr, f, hn1, hf, hw⟩⟩ := hw
  · skip
    obtain ⟨rfl, rfl⟩ := hw
    have hE := hk.so.1
    refine lv_aload_n hx hb dJ2_add_3_0 rfl (lv_at hl 0 rfl) ?_
    refine lv_iload_n hx hb dJ2_add_3_1 rfl (lv_at hl 1 rfl) ?_
    refine z_callV ⟨hx, hb, hml, hown, hts⟩ hk hl.1 V (wc := [(a, ob 0 [iV mc, .ref (G.2.2 0), iV 0])]) (wr := ([] ++ ex)) [0] ([] ++ tIx [(a, ob 0 [iV mc, .ref (G.2.2 0), iV 0])] ex) (idxN (w := [(a, ob 0 [iV mc, .ref (G.2.2 0), iV 0])]) (t := ex) (wC := [(a, ob 0 [iV mc, .ref (G.2.2 0), iV 0])]) (is := [0]) rfl) (idxT (w := [(a, ob 0 [iV mc, .ref (G.2.2 0), iV 0])]) (t := ex) (wC := []) (is := []) rfl) rfl (ndT (w := [(a, ob 0 [iV mc, .ref (G.2.2 0), iV 0])]) (t := ex) (wC := []) (is := []) rfl rfl) (disT2 (w := [(a, ob 0 [iV mc, .ref (G.2.2 0), iV 0])]) (t := ex) (wC := [(a, ob 0 [iV mc, .ref (G.2.2 0), iV 0])]) (isC := [0]) rfl (by decide)) (As := [iV 0]) (rest := []) (fun hp => ct_AL_rangeAdd l G a 0 0 mc (by omega) (.ref (G.2.2 0)) hp) (cwV 1 hts (lw_V q2526 q2528 qs27 q77 q2529) rfl rfl rfl (by decide +kernel) ⟨Nat.le_of_ble_eq_true rfl, Nat.le_of_ble_eq_true rfl⟩) (z_rc hk (V.w 0 rfl) (q := (RJ2, TJ2, 3)) rfl) rfl rfl (Nat.le_of_ble_eq_true rfl) dJ2_add_3_2 ⟨Nat.le_of_ble_eq_true rfl, Nat.le_of_ble_eq_true rfl⟩ (fun v F1 w1 H locs hq hle hou V => ?_)
    obtain ⟨rfl, rfl, rfl⟩ := hq
    have V := VV.rot1 V
    refine W.eq (g2 := F0 m 5 ls []) rfl ?_
    have V : VV G _ _ F ([(a, ob 0 [iV mc, .ref (G.2.2 0), iV 0])] ++ ex) _ _ _ := V
    refine lv_aload_n hx hb dJ2_add_3_5 rfl (lv_at hl 0 rfl) ?_
    refine lv_dup hx hb dJ2_add_3_6 rfl ?_
    refine z_get hx hb hts hk hown K_J2 (V.w 0 rfl) 0 (by decide) q167 (u_same (hts _ q166)) rfl dJ2_add_3_7 ?_
    refine lv_iconst (v := iZ 1) hx hb dJ2_add_3_10 rfl ?_
    refine z_iadd hx hb dJ2_add_3_11 ?_
    refine z_put hx hb hts hk V hown K_J2 0 rfl 0 (by decide) q167 (u_same (hts _ q166)) rfl rfl rfl (Nat.le_of_ble_eq_true rfl) dJ2_add_3_12 (fun H locs V => ?_)
    have V : VV G _ _ F ([(a, ob 0 [iV (mc + 1), .ref (G.2.2 0), iV 0])] ++ ex) _ _ _ := V
    refine lv_aload_n hx hb dJ2_add_3_15 rfl (lv_at hl 0 rfl) ?_
    refine z_get hx hb hts hk hown K_J2 (V.w 0 rfl) 2 (by decide) q163 (fun _ h => h) rfl dJ2_add_3_16 ?_
    refine lv_dup hx hb dJ2_add_3_19 rfl ?_
    refine lv_istore_n (lv' := [(3, iV 0), (0, .ref a), (1, iV 0), (2, .ref x)]) hx hb dJ2_add_3_20 rfl hl (by decide) rfl (fun ls hl => ?_)
    refine lv_aload_n hx hb dJ2_add_3_21 rfl (lv_at hl 1 rfl) ?_
    refine z_get hx hb hts hk hown K_J2 (V.w 0 rfl) 1 (by decide) q160 (fun _ h => h) rfl dJ2_add_3_22 ?_
    refine lv_dup hx hb dJ2_add_3_25 rfl ?_
    refine lv_astore (lv' := [(4, .ref (G.2.2 0)), (3, iV 0), (0, .ref a), (1, iV 0), (2, .ref x)]) hx hb dJ2_add_3_26 hl (by decide) rfl (fun ls hl => ?_)
    refine z_alen hx hb hk (V.f hE) dJ2_add_3_28 ?_
    refine z_icmp_ne (tgt := 38) hx hb (by omega) dJ2_add_3_29 (by decide) (fun c29 => by omega) (fun c29 => ?_)
    refine lv_aload_n hx hb dJ2_add_3_32 rfl (lv_at hl 2 rfl) ?_
    refine z_callV ⟨hx, hb, hml, hown, hts⟩ hk hl.1 V (wc := [(a, ob 0 [iV (mc + 1), .ref (G.2.2 0), iV 0])]) (wr := ([] ++ ex)) [0] ([] ++ tIx [(a, ob 0 [iV (mc + 1), .ref (G.2.2 0), iV 0])] ex) (idxN (w := [(a, ob 0 [iV (mc + 1), .ref (G.2.2 0), iV 0])]) (t := ex) (wC := [(a, ob 0 [iV (mc + 1), .ref (G.2.2 0), iV 0])]) (is := [0]) rfl) (idxT (w := [(a, ob 0 [iV (mc + 1), .ref (G.2.2 0), iV 0])]) (t := ex) (wC := []) (is := []) rfl) rfl (ndT (w := [(a, ob 0 [iV (mc + 1), .ref (G.2.2 0), iV 0])]) (t := ex) (wC := []) (is := []) rfl rfl) (disT2 (w := [(a, ob 0 [iV (mc + 1), .ref (G.2.2 0), iV 0])]) (t := ex) (wC := [(a, ob 0 [iV (mc + 1), .ref (G.2.2 0), iV 0])]) (isC := [0]) rfl (by decide)) (As := []) (rest := []) (fun hp => ct_AL_grow l G a (mc + 1) hp) (cwV 0 hts (lw_V q467 q469 qs2 q77 q470) rfl rfl rfl (by decide +kernel) ⟨Nat.le_of_ble_eq_true rfl, Nat.le_of_ble_eq_true rfl⟩) (z_rc hk (V.w 0 rfl) (q := (RJ2, TJ2, 3)) rfl) rfl rfl (Nat.le_of_ble_eq_true rfl) dJ2_add_3_33 ⟨Nat.le_of_ble_eq_true rfl, Nat.le_of_ble_eq_true rfl⟩ (fun v F1 w1 H locs hq hle hou V => ?_)
    obtain ⟨arr, rfl, rfl, rfl⟩ := hq
    have V := VV.rot1 V
    refine W.eq (g2 := F0 m 36 ls [.ref arr]) rfl ?_
    have V : VV G _ _ F ([(a, ob 0 [iV (mc + 1), .ref arr, iV 0]), (arr, aR G 10 (fun _ => none))] ++ ex) _ _ _ := V
    refine lv_astore (lv' := [(4, .ref arr), (3, iV 0), (0, .ref a), (1, iV 0), (2, .ref x)]) hx hb dJ2_add_3_36 hl (by decide) rfl (fun ls hl => ?_)
    refine lv_aload hx hb dJ2_add_3_38 (lv_at hl 0 rfl) ?_
    refine lv_iload_n hx hb dJ2_add_3_40 rfl (lv_at hl 3 rfl) ?_
    refine lv_aload hx hb dJ2_add_3_41 (lv_at hl 0 rfl) ?_
    refine lv_iload_n hx hb dJ2_add_3_43 rfl (lv_at hl 3 rfl) ?_
    refine lv_iconst (v := iZ 1) hx hb dJ2_add_3_44 rfl ?_
    refine z_iadd hx hb dJ2_add_3_45 ?_
    refine lv_iload_n hx hb dJ2_add_3_46 rfl (lv_at hl 1 rfl) ?_
    refine lv_iload_n hx hb dJ2_add_3_47 rfl (lv_at hl 3 rfl) ?_
    refine z_isub hx hb dJ2_add_3_48 ?_
    refine z_copyA (i := 0) (j := 1) (k := 0) hx hb (by rw [hml]; exact hl.1.symm) hts hk V hown q1314 (V.w 1 rfl) 1 rfl (by omega) (fun z hz => absurd hz (Nat.not_lt_zero z)) (Nat.le_of_ble_eq_true rfl) (Nat.le_of_ble_eq_true rfl) dJ2_add_3_49 (fun H locs V => ?_)
    have V : VV G _ _ F ([(a, ob 0 [iV (mc + 1), .ref arr, iV 0]), (arr, aR G 10 (va_cpy (fun _ => none) (fun _ => none) 0 1 0))] ++ ex) _ _ _ := V
    refine W.eq (g2 := F0 m 52 ls []) rfl ?_
    refine lv_aload hx hb dJ2_add_3_52 (lv_at hl 0 rfl) ?_
    refine lv_iload_n hx hb dJ2_add_3_54 rfl (lv_at hl 3 rfl) ?_
    refine lv_aload_n hx hb dJ2_add_3_55 rfl (lv_at hl 4 rfl) ?_
    refine z_aast hx hb hk V 1 rfl 0 (by omega) (ho.any hk V (fun q hq => by simp [hq])) dJ2_add_3_56 (fun H locs V => ?_)
    have V : VV G _ _ F ([(a, ob 0 [iV (mc + 1), .ref arr, iV 0]), (arr, aR G 10 (va_up (va_cpy (fun _ => none) (fun _ => none) 0 1 0) 0 (some x)))] ++ ex) _ _ _ := V
    refine lv_aload_n hx hb dJ2_add_3_57 rfl (lv_at hl 2 rfl) ?_
    refine lv_iload_n hx hb dJ2_add_3_58 rfl (lv_at hl 1 rfl) ?_
    refine lv_iconst (v := iZ 1) hx hb dJ2_add_3_59 rfl ?_
    refine z_iadd hx hb dJ2_add_3_60 ?_
    refine z_put hx hb hts hk V hown K_J2 0 rfl 2 (by decide) q163 (fun _ h => h) rfl rfl rfl (Nat.le_of_ble_eq_true rfl) dJ2_add_3_61 (fun H locs V => ?_)
    have V : VV G _ _ F ([(a, ob 0 [iV (mc + 1), .ref arr, iV (0 + 1)]), (arr, aR G 10 (va_up (va_cpy (fun _ => none) (fun _ => none) 0 1 0) 0 (some x)))] ++ ex) _ _ _ := V
    exact z_vret hx hb hr hlk V dJ2_add_3_64 ⟨rfl, rfl, _, ⟨mc + 1, Or.inr ⟨arr, _, (by simp), (fun j hj => LW_ins (xs := []) (f := fun _ => none) (fun j hj => absurd hj (Nat.not_lt_zero j)) j hj), rfl⟩⟩, rfl⟩ ⟨Nat.le_of_ble_eq_true rfl, Nat.le_of_ble_eq_true rfl⟩
  · skip
    subst hw
    refine lv_aload_n hx hb dJ2_add_3_0 rfl (lv_at hl 0 rfl) ?_
    refine lv_iload_n hx hb dJ2_add_3_1 rfl (lv_at hl 1 rfl) ?_
    refine z_callV ⟨hx, hb, hml, hown, hts⟩ hk hl.1 V (wc := [(a, ob 0 [iV mc, .ref arr, iV (xs.length : Nat)])]) (wr := ([(arr, aR G 10 f)] ++ ex)) [0] ([1] ++ tIx [(a, ob 0 [iV mc, .ref arr, iV (xs.length : Nat)]), (arr, aR G 10 f)] ex) (idxN (w := [(a, ob 0 [iV mc, .ref arr, iV (xs.length : Nat)]), (arr, aR G 10 f)]) (t := ex) (wC := [(a, ob 0 [iV mc, .ref arr, iV (xs.length : Nat)])]) (is := [0]) rfl) (idxT (w := [(a, ob 0 [iV mc, .ref arr, iV (xs.length : Nat)]), (arr, aR G 10 f)]) (t := ex) (wC := [(arr, aR G 10 f)]) (is := [1]) rfl) rfl (ndT (w := [(a, ob 0 [iV mc, .ref arr, iV (xs.length : Nat)]), (arr, aR G 10 f)]) (t := ex) (wC := [(arr, aR G 10 f)]) (is := [1]) rfl rfl) (disT2 (w := [(a, ob 0 [iV mc, .ref arr, iV (xs.length : Nat)]), (arr, aR G 10 f)]) (t := ex) (wC := [(a, ob 0 [iV mc, .ref arr, iV (xs.length : Nat)])]) (isC := [0]) rfl (by decide)) (As := [iV 0]) (rest := []) (fun hp => ct_AL_rangeAdd l G a 0 xs.length mc (by omega) (.ref arr) hp) (cwV 1 hts (lw_V q2526 q2528 qs27 q77 q2529) rfl rfl rfl (by decide +kernel) ⟨Nat.le_of_ble_eq_true rfl, Nat.le_of_ble_eq_true rfl⟩) (z_rc hk (V.w 0 rfl) (q := (RJ2, TJ2, 3)) rfl) rfl rfl (Nat.le_of_ble_eq_true rfl) dJ2_add_3_2 ⟨Nat.le_of_ble_eq_true rfl, Nat.le_of_ble_eq_true rfl⟩ (fun v F1 w1 H locs hq hle hou V => ?_)
    obtain ⟨rfl, rfl, rfl⟩ := hq
    have V := VV.rot1 V
    refine W.eq (g2 := F0 m 5 ls []) rfl ?_
    have V : VV G _ _ F ([(arr, aR G 10 f), (a, ob 0 [iV mc, .ref arr, iV (xs.length : Nat)])] ++ ex) _ _ _ := V
    refine lv_aload_n hx hb dJ2_add_3_5 rfl (lv_at hl 0 rfl) ?_
    refine lv_dup hx hb dJ2_add_3_6 rfl ?_
    refine z_get hx hb hts hk hown K_J2 (V.w 1 rfl) 0 (by decide) q167 (u_same (hts _ q166)) rfl dJ2_add_3_7 ?_
    refine lv_iconst (v := iZ 1) hx hb dJ2_add_3_10 rfl ?_
    refine z_iadd hx hb dJ2_add_3_11 ?_
    refine z_put hx hb hts hk V hown K_J2 1 rfl 0 (by decide) q167 (u_same (hts _ q166)) rfl rfl rfl (Nat.le_of_ble_eq_true rfl) dJ2_add_3_12 (fun H locs V => ?_)
    have V : VV G _ _ F ([(arr, aR G 10 f), (a, ob 0 [iV (mc + 1), .ref arr, iV (xs.length : Nat)])] ++ ex) _ _ _ := V
    refine lv_aload_n hx hb dJ2_add_3_15 rfl (lv_at hl 0 rfl) ?_
    refine z_get hx hb hts hk hown K_J2 (V.w 1 rfl) 2 (by decide) q163 (fun _ h => h) rfl dJ2_add_3_16 ?_
    refine lv_dup hx hb dJ2_add_3_19 rfl ?_
    refine lv_istore_n (lv' := [(3, iV (xs.length : Nat)), (0, .ref a), (1, iV 0), (2, .ref x)]) hx hb dJ2_add_3_20 rfl hl (by decide) rfl (fun ls hl => ?_)
    refine lv_aload_n hx hb dJ2_add_3_21 rfl (lv_at hl 1 rfl) ?_
    refine z_get hx hb hts hk hown K_J2 (V.w 1 rfl) 1 (by decide) q160 (fun _ h => h) rfl dJ2_add_3_22 ?_
    refine lv_dup hx hb dJ2_add_3_25 rfl ?_
    refine lv_astore (lv' := [(4, .ref arr), (3, iV (xs.length : Nat)), (0, .ref a), (1, iV 0), (2, .ref x)]) hx hb dJ2_add_3_26 hl (by decide) rfl (fun ls hl => ?_)
    refine z_alen hx hb hk (V.w 0 rfl) dJ2_add_3_28 ?_
    refine z_icmp_ne (tgt := 38) hx hb (by omega) dJ2_add_3_29 (by decide) (fun c29 => ?_) (fun c29 => by omega)
    refine lv_aload hx hb dJ2_add_3_38 (lv_at hl 0 rfl) ?_
    refine lv_iload_n hx hb dJ2_add_3_40 rfl (lv_at hl 3 rfl) ?_
    refine lv_aload hx hb dJ2_add_3_41 (lv_at hl 0 rfl) ?_
    refine lv_iload_n hx hb dJ2_add_3_43 rfl (lv_at hl 3 rfl) ?_
    refine lv_iconst (v := iZ 1) hx hb dJ2_add_3_44 rfl ?_
    refine z_iadd hx hb dJ2_add_3_45 ?_
    refine lv_iload_n hx hb dJ2_add_3_46 rfl (lv_at hl 1 rfl) ?_
    refine lv_iload_n hx hb dJ2_add_3_47 rfl (lv_at hl 3 rfl) ?_
    refine z_isub hx hb dJ2_add_3_48 ?_
    refine z_copyA (i := 0) (j := 1) (k := xs.length) hx hb (by rw [hml]; exact hl.1.symm) hts hk V hown q1314 (V.w 0 rfl) 0 rfl (by omega) (fun z hz y hy => (hox y (by rw [hf _ (by omega)] at hy; cases hy; simp [List.getD_eq_getElem?_getD, List.getElem?_eq_getElem hz])).any hk V (fun q hq => by simp [hq])) (Nat.le_of_ble_eq_true rfl) (Nat.le_of_ble_eq_true rfl) dJ2_add_3_49 (fun H locs V => ?_)
    have V : VV G _ _ F ([(arr, aR G 10 (va_cpy f f 0 1 xs.length)), (a, ob 0 [iV (mc + 1), .ref arr, iV (xs.length : Nat)])] ++ ex) _ _ _ := V
    refine W.eq (g2 := F0 m 52 ls []) rfl ?_
    refine lv_aload hx hb dJ2_add_3_52 (lv_at hl 0 rfl) ?_
    refine lv_iload_n hx hb dJ2_add_3_54 rfl (lv_at hl 3 rfl) ?_
    refine lv_aload_n hx hb dJ2_add_3_55 rfl (lv_at hl 4 rfl) ?_
    refine z_aast hx hb hk V 0 rfl 0 (by omega) (ho.any hk V (fun q hq => by simp [hq])) dJ2_add_3_56 (fun H locs V => ?_)
    have V : VV G _ _ F ([(arr, aR G 10 (va_up (va_cpy f f 0 1 xs.length) 0 (some x))), (a, ob 0 [iV (mc + 1), .ref arr, iV (xs.length : Nat)])] ++ ex) _ _ _ := V
    refine lv_aload_n hx hb dJ2_add_3_57 rfl (lv_at hl 2 rfl) ?_
    refine lv_iload_n hx hb dJ2_add_3_58 rfl (lv_at hl 1 rfl) ?_
    refine lv_iconst (v := iZ 1) hx hb dJ2_add_3_59 rfl ?_
    refine z_iadd hx hb dJ2_add_3_60 ?_
    refine z_put hx hb hts hk V hown K_J2 1 rfl 2 (by decide) q163 (fun _ h => h) rfl rfl rfl (Nat.le_of_ble_eq_true rfl) dJ2_add_3_61 (fun H locs V => ?_)
    have V : VV G _ _ F ([(arr, aR G 10 (va_up (va_cpy f f 0 1 xs.length) 0 (some x))), (a, ob 0 [iV (mc + 1), .ref arr, iV ((xs.length : Nat) + 1)])] ++ ex) _ _ _ := V
    have V := V.sub (w1 := ([(a, ob 0 [iV (mc + 1), .ref arr, iV ((xs.length : Nat) + 1)]), (arr, aR G 10 (va_up (va_cpy f f 0 1 xs.length) 0 (some x)))] ++ ex)) ([1, 0] ++ tIx [(arr, aR G 10 (va_up (va_cpy f f 0 1 xs.length) 0 (some x))), (a, ob 0 [iV (mc + 1), .ref arr, iV ((xs.length : Nat) + 1)])] ex) (ndT (w := [(arr, aR G 10 (va_up (va_cpy f f 0 1 xs.length) 0 (some x))), (a, ob 0 [iV (mc + 1), .ref arr, iV ((xs.length : Nat) + 1)])]) (t := ex) (wC := [(a, ob 0 [iV (mc + 1), .ref arr, iV ((xs.length : Nat) + 1)]), (arr, aR G 10 (va_up (va_cpy f f 0 1 xs.length) 0 (some x)))]) (is := [1, 0]) rfl rfl) (idxT (w := [(arr, aR G 10 (va_up (va_cpy f f 0 1 xs.length) 0 (some x))), (a, ob 0 [iV (mc + 1), .ref arr, iV ((xs.length : Nat) + 1)])]) (t := ex) (wC := [(a, ob 0 [iV (mc + 1), .ref arr, iV ((xs.length : Nat) + 1)]), (arr, aR G 10 (va_up (va_cpy f f 0 1 xs.length) 0 (some x)))]) (is := [1, 0]) rfl)
    exact z_vret hx hb hr hlk V dJ2_add_3_64 ⟨rfl, rfl, _, ⟨mc + 1, Or.inr ⟨arr, _, (by simp; omega), (fun j hj => LW_ins hf j hj), by simp⟩⟩, rfl⟩ ⟨Nat.le_of_ble_eq_true rfl, Nat.le_of_ble_eq_true rfl⟩
/-- an iterator over the frozen list a, k elements taken -/
def IT (G : gG) (F : fS) (it a : Nat) (xs : List Nat) (k : Nat) (w : va_W) : Prop := ∃ (mc lr : Int) (arr n : Nat) (f : Nat → Option Nat), F a = some (.inl (ob 0 [iV mc, .ref arr, iV (xs.length : Int)])) ∧ F arr = some (.inl (aR G n f)) ∧ xs.length ≤ n ∧ n ≤ 10 ∧ (∀ i, i < xs.length → f i = some (xs.getD i 0)) ∧ w = [(it, ob 1 [iV (k : Int), iV lr, iV mc, .ref a])]
theorem IT.mono {G : gG} {F F1 : fS} {it a k : Nat} {xs : List Nat} {w : va_W} (h : IT G F it a xs k w) (hF : fLe F F1) : IT G F1 it a xs k w := by
  obtain ⟨mc, lr, arr, n, f, h1, h2, h3⟩ := h
  exact ⟨mc, lr, arr, n, f, hF _ _ h1, hF _ _ h2, h3⟩
set_option maxHeartbeats 4000000 in
theorem ct_IT_init (l : Launch) (G : gG) {F : fS} {Ha : Heap} (it a : Nat) (xs : List Nat) (h : LF G F a xs) (hp : Hp G F [(it, ob 1 [iV 0, iV 0, iV 0, .null])] Ha) : CT l G yJ19_init cJ19_init 2 none 1 40 0 0 [.ref it, .ref a] F [(it, ob 1 [iV 0, iV 0, iV 0, .null])] Ha (fun v F' w' => v = none ∧ F = F' ∧ IT G F it a xs 0 w') := by
  refine z_of hp (Or.inl (by decide)) (Nat.le_of_ble_eq_true rfl) ?_
  intro p e s m below meth c ls hx hb hr hml hts hown hlk hnm hk hsH V hl
  have hl : lv_has ls 2 [(0, .ref it), (1, .ref a)] := hl
  obtain ⟨mc, arr, n, f, h1, h2, h3, h4, h5⟩ := h
  refine lv_aload_n hx hb dJ19_init_0 rfl (lv_at hl 0 rfl) ?_
  refine lv_aload_n hx hb dJ19_init_1 rfl (lv_at hl 1 rfl) ?_
  refine z_putF hx hb hts hk V hown K_J19 0 rfl 3 (by decide) q316 (fun _ h => h) rfl hnm rfl rfl rfl (Nat.le_of_ble_eq_true rfl) dJ19_init_2 (fun H locs V => ?_)
  have V : VV G _ _ F [(it, ob 1 [iV 0, iV 0, iV 0, .ref a])] _ _ _ := V
  refine lv_aload_n hx hb dJ19_init_5 rfl (lv_at hl 0 rfl) ?_
  refine W.objInit hx hb hown (hts _ q312) (hts _ q138) (hts _ q139) rfl (by rw [hml]; exact hl.1) rfl dJ19_init_6 (Nat.le_of_ble_eq_true rfl) (Nat.le_of_ble_eq_true rfl) ?_
  refine W.eq (g2 := F0 m 9 ls []) rfl ?_
  refine lv_aload_n hx hb dJ19_init_9 rfl (lv_at hl 0 rfl) ?_
  refine lv_iconst (v := iZ (-1)) hx hb dJ19_init_10 rfl ?_
  refine z_put hx hb hts hk V hown K_J19 0 rfl 1 (by decide) q314 (fun _ h => h) rfl rfl rfl (Nat.le_of_ble_eq_true rfl) dJ19_init_11 (fun H locs V => ?_)
  have V : VV G _ _ F [(it, ob 1 [iV 0, iV (-1), iV 0, .ref a])] _ _ _ := V
  refine lv_aload_n hx hb dJ19_init_14 rfl (lv_at hl 0 rfl) ?_
  refine lv_aload_n hx hb dJ19_init_15 rfl (lv_at hl 0 rfl) ?_
  refine z_get hx hb hts hk hown K_J19 (V.w 0 rfl) 3 (by decide) q316 (fun _ h => h) rfl dJ19_init_16 ?_
  refine z_get hx hb hts hk hown K_J2 (V.f h1) 0 (by decide) q165 (u_same (hts _ q166)) rfl dJ19_init_19 ?_
  refine z_put hx hb hts hk V hown K_J19 0 rfl 2 (by decide) q315 (fun _ h => h) rfl rfl rfl (Nat.le_of_ble_eq_true rfl) dJ19_init_22 (fun H locs V => ?_)
  have V : VV G _ _ F [(it, ob 1 [iV 0, iV (-1), iV mc, .ref a])] _ _ _ := V
  exact z_vret hx hb hr hlk V dJ19_init_25 ⟨rfl, rfl, ⟨mc, -1, arr, n, f, h1, h2, h3, h4, h5, rfl⟩⟩ ⟨Nat.le_of_ble_eq_true rfl, Nat.le_of_ble_eq_true rfl⟩
set_option maxHeartbeats 4000000 in
theorem ct_AL_iterator (l : Launch) (G : gG) {F : fS} {Ha : Heap} (a : Nat) (xs : List Nat) (h : LF G F a xs) (hp : Hp G F [] Ha) : CT l G yJ2_iterator cJ2_iterator 1 (some (.object "java/util/Iterator")) 2 61 1 4 [.ref a] F [] Ha (fun v F' w' => ∃ it : Nat, v = some (.ref it) ∧ F = F' ∧ IT G F it a xs 0 w') := by
  refine z_of hp (Or.inl (by decide)) (Nat.le_of_ble_eq_true rfl) ?_
  intro p e s m below meth c ls hx hb hr hml hts hown hlk hnm hk hsH V hl
  have hl : lv_has ls 1 [(0, .ref a)] := hl
  refine z_new (fs := [iV 0, iV 0, iV 0, .null]) hx hb hts hk V hown K_J19 q307 q308 q96 df_J19 (Nat.le_of_ble_eq_true rfl) (Nat.le_of_ble_eq_true rfl) dJ2_iterator_0 (fun o_1 H V => ?_)
  have V : VV G _ _ F [(o_1, ob 1 [iV 0, iV 0, iV 0, .null])] _ _ _ := V
  refine lv_dup hx hb dJ2_iterator_3 rfl ?_
  refine lv_aload_n hx hb dJ2_iterator_4 rfl (lv_at hl 0 rfl) ?_
  refine z_callI ⟨hx, hb, hml, hown, hts⟩ hk hl.1 V (wc := [(o_1, ob 1 [iV 0, iV 0, iV 0, .null])]) (wr := []) [0] [] rfl rfl rfl rfl (by decide) (As := [.ref a]) (rest := [.ref o_1]) (fun hp => ct_IT_init l G o_1 a xs h hp) (cwI 1 hts (lw_meth q311) rfl rfl rfl (hts _ q96) (hts _ q309) (hts _ q310) rfl (by decide +kernel) ⟨Nat.le_of_ble_eq_true rfl, Nat.le_of_ble_eq_true rfl⟩) rfl rfl (Nat.le_of_ble_eq_true rfl) dJ2_iterator_5 ⟨Nat.le_of_ble_eq_true rfl, Nat.le_of_ble_eq_true rfl⟩ (fun v F1 w1 H locs hq hle hou V => ?_)
  obtain ⟨rfl, rfl, hit⟩ := hq
  have V := VV.asc (z := []) (t := w1) V
  refine W.eq (g2 := F0 m 8 ls [.ref o_1]) rfl ?_
  have V : VV G _ _ F ([] ++ w1) _ _ _ := V
  exact z_aret hx hb hr hlk V (Or.inl ⟨_, rfl⟩) (Or.inr ⟨_, rfl⟩) dJ2_iterator_8 ⟨o_1, rfl, rfl, hit⟩ ⟨Nat.le_of_ble_eq_true rfl, Nat.le_of_ble_eq_true rfl⟩
theorem LW.cell {G : gG} {a : Nat} {xs : List Nat} {w : va_W} (h : LW G a xs w) : ∃ fs, (a, ob 0 fs) ∈ w := by
  obtain ⟨mc, ⟨-, rfl⟩ | ⟨arr, f, -, -, rfl⟩⟩ := h <;> exact ⟨_, List.mem_cons_self⟩
theorem IT.cell {G : gG} {F : fS} {it a k : Nat} {xs : List Nat} {w : va_W} (h : IT G F it a xs k w) : ∃ fs, (it, ob 1 fs) ∈ w := by
  obtain ⟨mc, lr, arr, n, f, -, -, -, -, -, rfl⟩ := h
  exact ⟨_, List.mem_cons_self⟩
set_option maxHeartbeats 4000000 in
theorem ct_IT_hasNext (l : Launch) (G : gG) {F : fS} {Ha : Heap} (it a : Nat) (xs : List Nat) (k : Nat) (wi : va_W) (h : IT G F it a xs k wi) (hk9 : k ≤ xs.length) (hp : Hp G F wi Ha) : CT l G yJ19_hasNext cJ19_hasNext 1 (some .boolean) 1 12 0 0 [.ref it] F wi Ha (fun v F' w' => v = some (iV (bZ (decide (k < xs.length)))) ∧ F = F' ∧ IT G F it a xs k w') := by
  refine z_of hp (Or.inl (by decide)) (Nat.le_of_ble_eq_true rfl) ?_
  intro p e s m below meth c ls hx hb hr hml hts hown hlk hnm hk hsH V hl
  have hl : lv_has ls 1 [(0, .ref it)] := hl
  obtain ⟨mc, lr, arr, n, f, h1, h2, h3, h4, h5, rfl⟩ := h
  refine lv_aload_n hx hb dJ19_hasNext_0 rfl (lv_at hl 0 rfl) ?_
  refine z_get hx hb hts hk hown K_J19 (V.w 0 rfl) 0 (by decide) q313 (fun _ h => h) rfl dJ19_hasNext_1 ?_
  refine lv_aload_n hx hb dJ19_hasNext_4 rfl (lv_at hl 0 rfl) ?_
  refine z_get hx hb hts hk hown K_J19 (V.w 0 rfl) 3 (by decide) q316 (fun _ h => h) rfl dJ19_hasNext_5 ?_
  refine z_getN hx hb hts hk hown K_J2 (V.f h1) 2 (by decide) q162 (fun _ h => h) rfl dJ19_hasNext_8 ?_
  refine z_icmp_eq (tgt := 18) hx hb (by omega) dJ19_hasNext_11 (by decide) (fun c11 => ?_) (fun c11 => ?_)
  · skip
    refine lv_iconst (v := iZ 0) hx hb dJ19_hasNext_18 rfl ?_
    exact z_iret hx hb hr hlk V rfl dJ19_hasNext_19 ⟨by rw [show decide (k < xs.length) = false by simp; omega]; rfl, rfl, ⟨mc, lr, arr, n, f, h1, h2, h3, h4, h5, rfl⟩⟩ ⟨Nat.le_of_ble_eq_true rfl, Nat.le_of_ble_eq_true rfl⟩
  · skip
    refine lv_iconst (v := iZ 1) hx hb dJ19_hasNext_14 rfl ?_
    refine lv_goto (tgt := 19) hx hb dJ19_hasNext_15 (by decide) ?_
    exact z_iret hx hb hr hlk V rfl dJ19_hasNext_19 ⟨by rw [show decide (k < xs.length) = true by simp; omega]; rfl, rfl, ⟨mc, lr, arr, n, f, h1, h2, h3, h4, h5, rfl⟩⟩ ⟨Nat.le_of_ble_eq_true rfl, Nat.le_of_ble_eq_true rfl⟩
set_option maxHeartbeats 4000000 in
theorem ct_IT_check (l : Launch) (G : gG) {F : fS} {Ha : Heap} (it a : Nat) (xs : List Nat) (k : Nat) (wi : va_W) (h : IT G F it a xs k wi) (hp : Hp G F wi Ha) : CT l G yJ19_checkForComodification cJ19_checkForComodification 1 none 1 12 0 0 [.ref it] F wi Ha (fun v F' w' => v = none ∧ F = F' ∧ w' = wi) := by
  refine z_of hp (Or.inl (by decide)) (Nat.le_of_ble_eq_true rfl) ?_
  intro p e s m below meth c ls hx hb hr hml hts hown hlk hnm hk hsH V hl
  have hl : lv_has ls 1 [(0, .ref it)] := hl
  obtain ⟨mc, lr, arr, n, f, h1, h2, h3, h4, h5, rfl⟩ := h
  refine lv_aload_n hx hb dJ19_checkForComodification_0 rfl (lv_at hl 0 rfl) ?_
  refine z_get hx hb hts hk hown K_J19 (V.w 0 rfl) 3 (by decide) q316 (fun _ h => h) rfl dJ19_checkForComodification_1 ?_
  refine z_get hx hb hts hk hown K_J2 (V.f h1) 0 (by decide) q165 (u_same (hts _ q166)) rfl dJ19_checkForComodification_4 ?_
  refine lv_aload_n hx hb dJ19_checkForComodification_7 rfl (lv_at hl 0 rfl) ?_
  refine z_get hx hb hts hk hown K_J19 (V.w 0 rfl) 2 (by decide) q315 (fun _ h => h) rfl dJ19_checkForComodification_8 ?_
  refine z_icmp_same (tgt := 22) hx hb dJ19_checkForComodification_11 (by decide) ?_
  exact z_vret hx hb hr hlk V dJ19_checkForComodification_22 ⟨rfl, rfl, rfl⟩ ⟨Nat.le_of_ble_eq_true rfl, Nat.le_of_ble_eq_true rfl⟩
set_option maxHeartbeats 4000000 in
theorem ct_IT_next (l : Launch) (G : gG) {F : fS} {Ha : Heap} (it a : Nat) (xs : List Nat) (k : Nat) (wi : va_W) (h : IT G F it a xs k wi) (hk9 : k < xs.length) (hp : Hp G F wi Ha) : CT l G yJ19_next cJ19_next 3 (some (.object "java/lang/Object")) 2 32 0 0 [.ref it] F wi Ha (fun v F' w' => v = some (.ref (xs.getD k 0)) ∧ F = F' ∧ IT G F it a xs (k + 1) w') := by
  refine z_of hp (Or.inl (by decide)) (Nat.le_of_ble_eq_true rfl) ?_
  intro p e s m below meth c ls hx hb hr hml hts hown hlk hnm hk hsH V hl
  have hl : lv_has ls 3 [(0, .ref it)] := hl
  have hit := h
  obtain ⟨mc, lr, arr, n, f, h1, h2, h3, h4, h5, rfl⟩ := h
  refine lv_aload_n hx hb dJ19_next_0 rfl (lv_at hl 0 rfl) ?_
  refine z_callV ⟨hx, hb, hml, hown, hts⟩ hk hl.1 V (wc := [(it, ob 1 [iV (k : Nat), iV lr, iV mc, .ref a])]) (wr := []) [0] [] rfl rfl rfl rfl (by decide) (As := []) (rest := []) (fun hp => ct_IT_check l G it a xs k _ hit hp) (cwV 0 hts (lw_V q345 q346 q347 q96 q348) rfl rfl rfl (by decide +kernel) ⟨Nat.le_of_ble_eq_true rfl, Nat.le_of_ble_eq_true rfl⟩) (z_rc hk (V.w 0 rfl) (q := (RJ19, TJ19, 4)) rfl) rfl rfl (Nat.le_of_ble_eq_true rfl) dJ19_next_1 ⟨Nat.le_of_ble_eq_true rfl, Nat.le_of_ble_eq_true rfl⟩ (fun v F1 w1 H locs hq hle hou V => ?_)
  obtain ⟨rfl, rfl, rfl⟩ := hq
  refine W.eq (g2 := F0 m 4 ls []) rfl ?_
  have V : VV G _ _ F [(it, ob 1 [iV (k : Nat), iV lr, iV mc, .ref a])] _ _ _ := V
  refine lv_aload_n hx hb dJ19_next_4 rfl (lv_at hl 0 rfl) ?_
  refine z_get hx hb hts hk hown K_J19 (V.w 0 rfl) 0 (by decide) q313 (fun _ h => h) rfl dJ19_next_5 ?_
  refine lv_istore_n (lv' := [(1, iV (k : Nat)), (0, .ref it)]) hx hb dJ19_next_8 rfl hl (by decide) rfl (fun ls hl => ?_)
  refine lv_iload_n hx hb dJ19_next_9 rfl (lv_at hl 0 rfl) ?_
  refine lv_aload_n hx hb dJ19_next_10 rfl (lv_at hl 1 rfl) ?_
  refine z_get hx hb hts hk hown K_J19 (V.w 0 rfl) 3 (by decide) q316 (fun _ h => h) rfl dJ19_next_11 ?_
  refine z_getN hx hb hts hk hown K_J2 (V.f h1) 2 (by decide) q162 (fun _ h => h) rfl dJ19_next_14 ?_
  refine z_icmp_lt (tgt := 28) hx hb (by omega) dJ19_next_17 (by decide) (fun c17 => ?_) (fun c17 => by omega)
  refine lv_aload_n hx hb dJ19_next_28 rfl (lv_at hl 1 rfl) ?_
  refine z_get hx hb hts hk hown K_J19 (V.w 0 rfl) 3 (by decide) q316 (fun _ h => h) rfl dJ19_next_29 ?_
  refine z_get hx hb hts hk hown K_J2 (V.f h1) 1 (by decide) q161 (fun _ h => h) rfl dJ19_next_32 ?_
  refine lv_astore_n (lv' := [(2, .ref arr), (1, iV (k : Nat)), (0, .ref it)]) hx hb dJ19_next_35 rfl hl (by decide) rfl (fun ls hl => ?_)
  refine lv_iload_n hx hb dJ19_next_36 rfl (lv_at hl 1 rfl) ?_
  refine lv_aload_n hx hb dJ19_next_37 rfl (lv_at hl 0 rfl) ?_
  refine z_alen hx hb hk (V.f h2) dJ19_next_38 ?_
  refine z_icmp_lt (tgt := 50) hx hb (by omega) dJ19_next_39 (by decide) (fun c39 => ?_) (fun c39 => by omega)
  refine lv_aload_n hx hb dJ19_next_50 rfl (lv_at hl 2 rfl) ?_
  refine lv_iload_n hx hb dJ19_next_51 rfl (lv_at hl 1 rfl) ?_
  refine lv_iconst (v := iZ 1) hx hb dJ19_next_52 rfl ?_
  refine z_iadd hx hb dJ19_next_53 ?_
  refine z_put hx hb hts hk V hown K_J19 0 rfl 0 (by decide) q313 (fun _ h => h) rfl rfl rfl (Nat.le_of_ble_eq_true rfl) dJ19_next_54 (fun H locs V => ?_)
  have V : VV G _ _ F [(it, ob 1 [iV ((k : Nat) + 1), iV lr, iV mc, .ref a])] _ _ _ := V
  refine lv_aload_n hx hb dJ19_next_57 rfl (lv_at hl 0 rfl) ?_
  refine lv_aload_n hx hb dJ19_next_58 rfl (lv_at hl 2 rfl) ?_
  refine lv_iload_n hx hb dJ19_next_59 rfl (lv_at hl 1 rfl) ?_
  refine lv_dup_x1 hx hb dJ19_next_60 rfl rfl ?_
  refine z_put hx hb hts hk V hown K_J19 0 rfl 1 (by decide) q314 (fun _ h => h) rfl rfl rfl (Nat.le_of_ble_eq_true rfl) dJ19_next_61 (fun H locs V => ?_)
  have V : VV G _ _ F [(it, ob 1 [iV ((k : Nat) + 1), iV (k : Nat), iV mc, .ref a])] _ _ _ := V
  refine z_aald (v := .ref (xs.getD k 0)) hx hb hk (V.f h2) k (by omega) dJ19_next_64 (by rw [h5 k hk9]; rfl) ?_
  exact z_aret hx hb hr hlk V (Or.inl ⟨_, rfl⟩) (Or.inr ⟨_, rfl⟩) dJ19_next_65 ⟨rfl, rfl, ⟨mc, _, arr, n, f, h1, h2, h3, h4, h5, rfl⟩⟩ ⟨Nat.le_of_ble_eq_true rfl, Nat.le_of_ble_eq_true rfl⟩
