/-! JDK: ArrayDeque (printed by gen/jdk2.py) -/
set_option maxRecDepth 100000
/-- an owned ArrayDeque of the addresses xs (at most 9), oldest first -/
def DQ (G : gG) (a : Nat) (xs : List Nat) (w : va_W) : Prop := ∃ (arr hd : Nat) (f : Nat → Option Nat), hd < 17 ∧ xs.length ≤ 9 ∧ (∀ i, i < xs.length → f ((hd + i) % 17) = some (xs.getD i 0)) ∧ w = [(a, ob 2 [.ref arr, iV (hd : Int), iV (((hd + xs.length) % 17 : Nat) : Int)]), (arr, aR G 17 f)]
theorem DQ.cell {G : gG} {a : Nat} {xs : List Nat} {w : va_W} (h : DQ G a xs w) : ∃ fs, (a, ob 2 fs) ∈ w := by
  obtain ⟨arr, hd, f, -, -, -, rfl⟩ := h
  exact ⟨_, List.mem_cons_self⟩
set_option maxHeartbeats 4000000 in
theorem ct_DQ_init (l : Launch) (G : gG) {F : fS} {Ha : Heap} (a : Nat) (hp : Hp G F [(a, ob 2 [.null, iV 0, iV 0])] Ha) : CT l G yJ3_init cJ3_init 1 none 2 60 1 17 [.ref a] F [(a, ob 2 [.null, iV 0, iV 0])] Ha (fun v F' w' => v = none ∧ F = F' ∧ DQ G a [] w') := by
  refine z_of hp (Or.inl (by decide)) (Nat.le_of_ble_eq_true rfl) ?_
  intro p e s m below meth c ls hx hb hr hml hts hown hlk hnm hk hsH V hl
  have hl : lv_has ls 1 [(0, .ref a)] := hl
  refine lv_aload_n hx hb dJ3_init_0 rfl (lv_at hl 0 rfl) ?_
  refine z_callI ⟨hx, hb, hml, hown, hts⟩ hk hl.1 V (wc := []) (wr := [(a, ob 2 [.null, iV 0, iV 0])]) [] [0] rfl rfl rfl rfl (by decide) (As := []) (rest := []) (fun hp => ct_AC_init l G a hp) (cwI 0 hts (lw_meth q156) rfl rfl rfl (hts _ q75) (hts _ q206) (hts _ q155) rfl (by decide +kernel) ⟨Nat.le_of_ble_eq_true rfl, Nat.le_of_ble_eq_true rfl⟩) rfl rfl (Nat.le_of_ble_eq_true rfl) dJ3_init_1 ⟨Nat.le_of_ble_eq_true rfl, Nat.le_of_ble_eq_true rfl⟩ (fun v F1 w1 H locs hq hle hou V => ?_)
  obtain ⟨rfl, rfl, rfl⟩ := hq
  refine W.eq (g2 := F0 m 4 ls []) rfl ?_
  have V : VV G _ _ F [(a, ob 2 [.null, iV 0, iV 0])] _ _ _ := V
  refine lv_aload_n hx hb dJ3_init_4 rfl (lv_at hl 0 rfl) ?_
  refine lv_bipush (v := iZ 17) hx hb dJ3_init_5 (by decide) ?_
  refine z_newA (n := 17) hx hb hts hk V hown q207 (by omega) (Nat.le_of_ble_eq_true rfl) (Nat.le_of_ble_eq_true rfl) dJ3_init_7 (fun r_1 H V => ?_)
  have V : VV G _ _ F [(a, ob 2 [.null, iV 0, iV 0]), (r_1, aR G 17 (fun _ => none))] _ _ _ := V
  refine z_put hx hb hts hk V hown K_J3 0 rfl 0 (by decide) q209 (fun _ h => h) rfl rfl rfl (Nat.le_of_ble_eq_true rfl) dJ3_init_10 (fun H locs V => ?_)
  have V : VV G _ _ F [(a, ob 2 [.ref r_1, iV 0, iV 0]), (r_1, aR G 17 (fun _ => none))] _ _ _ := V
  exact z_vret hx hb hr hlk V dJ3_init_13 ⟨rfl, rfl, ⟨r_1, 0, fun _ => none, by omega, by simp, (fun i hi => absurd hi (Nat.not_lt_zero i)), rfl⟩⟩ ⟨Nat.le_of_ble_eq_true rfl, Nat.le_of_ble_eq_true rfl⟩
set_option maxHeartbeats 4000000 in
theorem ct_DQ_inc (l : Launch) (G : gG) {F : fS} {Ha : Heap} (i n : Int) (hrg : 0 ≤ i ∧ i < n ∧ n < 1000000) (hp : Hp G F [] Ha) : CT l G yJ3_inc cJ3_inc 2 (some .int) 1 12 0 0 [iV i, iV n] F [] Ha (fun rv F' w' => rv = some (iV (if i + 1 < n then i + 1 else 0)) ∧ F = F' ∧ w' = []) := by
  refine z_of hp (Or.inl (by decide)) (Nat.le_of_ble_eq_true rfl) ?_
  intro p e s m below meth c ls hx hb hr hml hts hown hlk hnm hk hsH V hl
  have hl : lv_has ls 2 [(0, iV i), (1, iV n)] := hl
  refine lv_iinc (v := iZ (i + 1)) (lv' := [(0, iV (i + 1)), (1, iV n)]) hx hb dJ3_inc_0 hl (k := 0) rfl (iZ_add _ _) (by decide) rfl (fun ls hl => ?_)
  refine lv_iload_n hx hb dJ3_inc_3 rfl (lv_at hl 0 rfl) ?_
  refine lv_iload_n hx hb dJ3_inc_4 rfl (lv_at hl 1 rfl) ?_
  refine z_icmp_lt (tgt := 10) hx hb (by omega) dJ3_inc_5 (by decide) (fun c5 => ?_) (fun c5 => ?_)
  · skip
    refine lv_iload_n hx hb dJ3_inc_10 rfl (lv_at hl 0 rfl) ?_
    exact z_iret hx hb hr hlk V rfl dJ3_inc_11 ⟨by rw [if_pos (by omega)], rfl, rfl⟩ ⟨Nat.le_of_ble_eq_true rfl, Nat.le_of_ble_eq_true rfl⟩
  · skip
    refine lv_iconst (v := iZ 0) hx hb dJ3_inc_8 rfl ?_
    refine lv_istore_n (lv' := [(0, iV 0), (1, iV n)]) hx hb dJ3_inc_9 rfl hl (by decide) rfl (fun ls hl => ?_)
    refine lv_iload_n hx hb dJ3_inc_10 rfl (lv_at hl 0 rfl) ?_
    exact z_iret hx hb hr hlk V rfl dJ3_inc_11 ⟨by rw [if_neg (by omega)], rfl, rfl⟩ ⟨Nat.le_of_ble_eq_true rfl, Nat.le_of_ble_eq_true rfl⟩
set_option maxHeartbeats 4000000 in
theorem ct_DQ_dec (l : Launch) (G : gG) {F : fS} {Ha : Heap} (i n : Int) (hrg : 0 ≤ i ∧ i < n ∧ n < 1000000) (hp : Hp G F [] Ha) : CT l G yJ3_dec cJ3_dec 2 (some .int) 1 12 0 0 [iV i, iV n] F [] Ha (fun rv F' w' => rv = some (iV (if 0 < i then i - 1 else n - 1)) ∧ F = F' ∧ w' = []) := by
  refine z_of hp (Or.inl (by decide)) (Nat.le_of_ble_eq_true rfl) ?_
  intro p e s m below meth c ls hx hb hr hml hts hown hlk hnm hk hsH V hl
  have hl : lv_has ls 2 [(0, iV i), (1, iV n)] := hl
  refine lv_iinc (v := iZ (i - 1)) (lv' := [(0, iV (i - 1)), (1, iV n)]) hx hb dJ3_dec_0 hl (k := 0) rfl (iZ_subc _ _) (by decide) rfl (fun ls hl => ?_)
  refine lv_iload_n hx hb dJ3_dec_3 rfl (lv_at hl 0 rfl) ?_
  refine z_if_ge (tgt := 11) hx hb (by omega) dJ3_dec_4 (by decide) (fun c4 => ?_) (fun c4 => ?_)
  · skip
    refine lv_iload_n hx hb dJ3_dec_11 rfl (lv_at hl 0 rfl) ?_
    exact z_iret hx hb hr hlk V rfl dJ3_dec_12 ⟨by rw [if_pos (by omega)], rfl, rfl⟩ ⟨Nat.le_of_ble_eq_true rfl, Nat.le_of_ble_eq_true rfl⟩
  · skip
    refine lv_iload_n hx hb dJ3_dec_7 rfl (lv_at hl 1 rfl) ?_
    refine lv_iconst (v := iZ 1) hx hb dJ3_dec_8 rfl ?_
    refine z_isub hx hb dJ3_dec_9 ?_
    refine lv_istore_n (lv' := [(0, iV (n - 1)), (1, iV n)]) hx hb dJ3_dec_10 rfl hl (by decide) rfl (fun ls hl => ?_)
    refine lv_iload_n hx hb dJ3_dec_11 rfl (lv_at hl 0 rfl) ?_
    exact z_iret hx hb hr hlk V rfl dJ3_dec_12 ⟨by rw [if_neg (by omega)], rfl, rfl⟩ ⟨Nat.le_of_ble_eq_true rfl, Nat.le_of_ble_eq_true rfl⟩
set_option maxHeartbeats 4000000 in
theorem ct_DQ_sub (l : Launch) (G : gG) {F : fS} {Ha : Heap} (i j n : Int) (hrg : (0 ≤ i ∧ i < n) ∧ (0 ≤ j ∧ j < n) ∧ n < 1000000) (hp : Hp G F [] Ha) : CT l G yJ3_sub cJ3_sub 3 (some .int) 1 12 0 0 [iV i, iV j, iV n] F [] Ha (fun rv F' w' => rv = some (iV (if 0 ≤ i - j then i - j else i - j + n)) ∧ F = F' ∧ w' = []) := by
  refine z_of hp (Or.inl (by decide)) (Nat.le_of_ble_eq_true rfl) ?_
  intro p e s m below meth c ls hx hb hr hml hts hown hlk hnm hk hsH V hl
  have hl : lv_has ls 3 [(0, iV i), (1, iV j), (2, iV n)] := hl
  refine lv_iload_n hx hb dJ3_sub_0 rfl (lv_at hl 0 rfl) ?_
  refine lv_iload_n hx hb dJ3_sub_1 rfl (lv_at hl 1 rfl) ?_
  refine z_isub hx hb dJ3_sub_2 ?_
  refine lv_dup hx hb dJ3_sub_3 rfl ?_
  refine lv_istore_n (lv' := [(0, iV (i - j)), (1, iV j), (2, iV n)]) hx hb dJ3_sub_4 rfl hl (by decide) rfl (fun ls hl => ?_)
  refine z_if_ge (tgt := 12) hx hb (by omega) dJ3_sub_5 (by decide) (fun c5 => ?_) (fun c5 => ?_)
  · skip
    refine lv_iload_n hx hb dJ3_sub_12 rfl (lv_at hl 0 rfl) ?_
    exact z_iret hx hb hr hlk V rfl dJ3_sub_13 ⟨by rw [if_pos (by omega)], rfl, rfl⟩ ⟨Nat.le_of_ble_eq_true rfl, Nat.le_of_ble_eq_true rfl⟩
  · skip
    refine lv_iload_n hx hb dJ3_sub_8 rfl (lv_at hl 0 rfl) ?_
    refine lv_iload_n hx hb dJ3_sub_9 rfl (lv_at hl 2 rfl) ?_
    refine z_iadd hx hb dJ3_sub_10 ?_
    refine lv_istore_n (lv' := [(0, iV ((i - j) + n)), (1, iV j), (2, iV n)]) hx hb dJ3_sub_11 rfl hl (by decide) rfl (fun ls hl => ?_)
    refine lv_iload_n hx hb dJ3_sub_12 rfl (lv_at hl 0 rfl) ?_
    exact z_iret hx hb hr hlk V rfl dJ3_sub_13 ⟨by rw [if_neg (by omega)], rfl, rfl⟩ ⟨Nat.le_of_ble_eq_true rfl, Nat.le_of_ble_eq_true rfl⟩
set_option maxHeartbeats 4000000 in
theorem ct_DQ_size (l : Launch) (G : gG) {F : fS} {Ha : Heap} (a : Nat) (xs : List Nat) (wl : va_W) (hw : DQ G a xs wl) (hp : Hp G F wl Ha) : CT l G yJ3_size cJ3_size 1 (some .int) 2 34 0 0 [.ref a] F wl Ha (fun v F' w' => v = some (iV (xs.length : Nat)) ∧ F = F' ∧ DQ G a xs w') := by
  refine z_of hp (Or.inl (by decide)) (Nat.le_of_ble_eq_true rfl) ?_
  intro p e s m below meth c ls hx hb hr hml hts hown hlk hnm hk hsH V hl
  have hl : lv_has ls 1 [(0, .ref a)] := hl
  obtain ⟨arr, hd, f, hd1, hn9, hf, rfl⟩ := hw
  refine lv_aload_n hx hb dJ3_size_0 rfl (lv_at hl 0 rfl) ?_
  refine z_get hx hb hts hk hown K_J3 (V.w 0 rfl) 2 (by decide) q211 (fun _ h => h) rfl dJ3_size_1 ?_
  refine lv_aload_n hx hb dJ3_size_4 rfl (lv_at hl 0 rfl) ?_
  refine z_get hx hb hts hk hown K_J3 (V.w 0 rfl) 1 (by decide) q210 (fun _ h => h) rfl dJ3_size_5 ?_
  refine lv_aload_n hx hb dJ3_size_8 rfl (lv_at hl 0 rfl) ?_
  refine z_get hx hb hts hk hown K_J3 (V.w 0 rfl) 0 (by decide) q209 (fun _ h => h) rfl dJ3_size_9 ?_
  refine z_alen hx hb hk (V.w 1 rfl) dJ3_size_12 ?_
  refine z_callS ⟨hx, hb, hml, hown, hts⟩ hk hl.1 V (wc := []) (wr := [(a, ob 2 [.ref arr, iV (hd : Nat), iV ((hd + xs.length) % 17 : Nat)]), (arr, aR G 17 f)]) [] [0, 1] rfl rfl rfl rfl (by decide) (As := [iV ((hd + xs.length) % 17 : Nat), iV (hd : Nat), iV 17]) (rest := []) (fun hp => ct_DQ_sub l G ((hd + xs.length) % 17 : Nat) hd 17 (by omega) hp) (va_cwS 3 hts (lw_S q284 q285 q78 q286) rfl rfl rfl (by decide +kernel) ⟨Nat.le_of_ble_eq_true rfl, Nat.le_of_ble_eq_true rfl⟩) rfl rfl (Nat.le_of_ble_eq_true rfl) dJ3_size_13 ⟨Nat.le_of_ble_eq_true rfl, Nat.le_of_ble_eq_true rfl⟩ (fun v F1 w1 H locs hq hle hou V => ?_)
  obtain ⟨rfl, rfl, rfl⟩ := hq
  refine W.eq (g2 := F0 m 16 ls [iV (if 0 ≤ (((hd + xs.length) % 17 : Nat) : Int) - hd then (((hd + xs.length) % 17 : Nat) : Int) - hd else (((hd + xs.length) % 17 : Nat) : Int) - hd + 17)]) rfl ?_
  have V : VV G _ _ F [(a, ob 2 [.ref arr, iV (hd : Nat), iV ((hd + xs.length) % 17 : Nat)]), (arr, aR G 17 f)] _ _ _ := V
  exact z_iret hx hb hr hlk V rfl dJ3_size_16 ⟨by rw [show (if 0 ≤ (((hd + xs.length) % 17 : Nat) : Int) - hd then (((hd + xs.length) % 17 : Nat) : Int) - hd else (((hd + xs.length) % 17 : Nat) : Int) - hd + 17) = (xs.length : Int) by split <;> omega], rfl, ⟨arr, hd, f, hd1, hn9, hf, rfl⟩⟩ ⟨Nat.le_of_ble_eq_true rfl, Nat.le_of_ble_eq_true rfl⟩
set_option maxHeartbeats 4000000 in
theorem ct_DQ_isEmpty (l : Launch) (G : gG) {F : fS} {Ha : Heap} (a : Nat) (xs : List Nat) (wl : va_W) (hw : DQ G a xs wl) (hp : Hp G F wl Ha) : CT l G yJ3_isEmpty cJ3_isEmpty 1 (some .boolean) 1 12 0 0 [.ref a] F wl Ha (fun v F' w' => v = some (iV (bZ xs.isEmpty)) ∧ F = F' ∧ DQ G a xs w') := by
  refine z_of hp (Or.inl (by decide)) (Nat.le_of_ble_eq_true rfl) ?_
  intro p e s m below meth c ls hx hb hr hml hts hown hlk hnm hk hsH V hl
  have hl : lv_has ls 1 [(0, .ref a)] := hl
  obtain ⟨arr, hd, f, hd1, hn9, hf, rfl⟩ := hw
  refine lv_aload_n hx hb dJ3_isEmpty_0 rfl (lv_at hl 0 rfl) ?_
  refine z_get hx hb hts hk hown K_J3 (V.w 0 rfl) 1 (by decide) q210 (fun _ h => h) rfl dJ3_isEmpty_1 ?_
  refine lv_aload_n hx hb dJ3_isEmpty_4 rfl (lv_at hl 0 rfl) ?_
  refine z_get hx hb hts hk hown K_J3 (V.w 0 rfl) 2 (by decide) q211 (fun _ h => h) rfl dJ3_isEmpty_5 ?_
  refine z_icmp_ne (tgt := 15) hx hb (by omega) dJ3_isEmpty_8 (by decide) (fun c8 => ?_) (fun c8 => ?_)
  · skip
    refine lv_iconst (v := iZ 0) hx hb dJ3_isEmpty_15 rfl ?_
    exact z_iret hx hb hr hlk V rfl dJ3_isEmpty_16 ⟨by rw [show xs.isEmpty = false by cases xs <;> simp_all <;> omega]; rfl, rfl, ⟨arr, hd, f, hd1, hn9, hf, rfl⟩⟩ ⟨Nat.le_of_ble_eq_true rfl, Nat.le_of_ble_eq_true rfl⟩
  · skip
    refine lv_iconst (v := iZ 1) hx hb dJ3_isEmpty_11 rfl ?_
    refine lv_goto (tgt := 16) hx hb dJ3_isEmpty_12 (by decide) ?_
    exact z_iret hx hb hr hlk V rfl dJ3_isEmpty_16 ⟨by rw [show xs.isEmpty = true from List.isEmpty_iff.mpr (List.eq_nil_of_length_eq_zero (by omega))]; rfl, rfl, ⟨arr, hd, f, hd1, hn9, hf, rfl⟩⟩ ⟨Nat.le_of_ble_eq_true rfl, Nat.le_of_ble_eq_true rfl⟩
theorem DQ_put {xs : List Nat} {x hd : Nat} {f : Nat → Option Nat} (h9 : xs.length < 9) (hf : ∀ i, i < xs.length → f ((hd + i) % 17) = some (xs.getD i 0)) (i : Nat) (hi : i < (xs ++ [x]).length) : va_up f ((hd + xs.length) % 17) (some x) ((hd + i) % 17) = some ((xs ++ [x]).getD i 0) := by
  simp only [List.length_append, List.length_cons, List.length_nil] at hi
  unfold va_up
  by_cases h : i = xs.length
  · subst h; simp [List.getD_eq_getElem?_getD]
  · have h2 : i < xs.length := by omega
    rw [if_neg (by omega), hf i h2]
    simp [List.getD_eq_getElem?_getD, List.getElem?_append_left h2]
theorem DQ_rml {xs : List Nat} {hd : Nat} {f : Nat → Option Nat} (h9 : xs.length ≤ 9) (h0 : 0 < xs.length) (hf : ∀ i, i < xs.length → f ((hd + i) % 17) = some (xs.getD i 0)) (i : Nat) (hi : i < xs.dropLast.length) : va_up f ((hd + (xs.length - 1)) % 17) none ((hd + i) % 17) = some (xs.dropLast.getD i 0) := by
  simp only [List.length_dropLast] at hi
  unfold va_up
  rw [if_neg (by omega), hf i (by omega)]
  have h3 : i < xs.length := by omega
  simp [List.getD_eq_getElem?_getD, List.getElem?_dropLast, hi, List.getElem?_eq_getElem h3]
theorem DQ_rmf {xs : List Nat} {hd : Nat} {f : Nat → Option Nat} (h9 : xs.length ≤ 9) (h0 : 0 < xs.length) (hf : ∀ i, i < xs.length → f ((hd + i) % 17) = some (xs.getD i 0)) (i : Nat) (hi : i < xs.tail.length) : va_up f hd none (((hd + 1) % 17 + i) % 17) = some (xs.tail.getD i 0) := by
  simp only [List.length_tail] at hi
  unfold va_up
  rw [if_neg (by omega), show ((hd + 1) % 17 + i) % 17 = (hd + (i + 1)) % 17 by omega, hf (i + 1) (by omega)]
  simp [List.getD_eq_getElem?_getD, List.getElem?_tail]
set_option maxHeartbeats 4000000 in
theorem ct_DQ_addLast (l : Launch) (G : gG) {F : fS} {Ha : Heap} (a : Nat) (xs : List Nat) (x : Nat) (wl ex : va_W) (hw : DQ G a xs wl) (hn8 : xs.length < 9) (ho : oX F ex x) (hp : Hp G F (([] ++ wl) ++ ex) Ha) : CT l G yJ3_addLast cJ3_addLast 3 none 2 33 0 0 [.ref a, .ref x] F (([] ++ wl) ++ ex) Ha (fun v F' w' => v = none ∧ F = F' ∧ ∃ w1, DQ G a (xs ++ [x]) w1 ∧ w' = w1 ++ ex) := by
  refine z_of hp (Or.inl (by decide)) (Nat.le_of_ble_eq_true rfl) ?_
  intro p e s m below meth c ls hx hb hr hml hts hown hlk hnm hk hsH V hl
  have hl : lv_has ls 3 [(0, .ref a), (1, .ref x)] := hl
  obtain ⟨arr, hd, f, hd1, hn9, hf, rfl⟩ := hw
  refine lv_aload_n hx hb dJ3_addLast_0 rfl (lv_at hl 1 rfl) ?_
  refine lv_ifnonnull (tgt := 12) hx hb dJ3_addLast_1 (by decide) ?_
  refine lv_aload_n hx hb dJ3_addLast_12 rfl (lv_at hl 0 rfl) ?_
  refine z_get hx hb hts hk hown K_J3 (V.w 0 rfl) 0 (by decide) q209 (fun _ h => h) rfl dJ3_addLast_13 ?_
  refine lv_astore_n (lv' := [(2, .ref arr), (0, .ref a), (1, .ref x)]) hx hb dJ3_addLast_16 rfl hl (by decide) rfl (fun ls hl => ?_)
  refine lv_aload_n hx hb dJ3_addLast_17 rfl (lv_at hl 0 rfl) ?_
  refine lv_aload_n hx hb dJ3_addLast_18 rfl (lv_at hl 1 rfl) ?_
  refine z_get hx hb hts hk hown K_J3 (V.w 0 rfl) 2 (by decide) q211 (fun _ h => h) rfl dJ3_addLast_19 ?_
  refine lv_aload_n hx hb dJ3_addLast_22 rfl (lv_at hl 2 rfl) ?_
  refine z_aast hx hb hk V 1 rfl ((hd + xs.length) % 17) (by omega) (ho.any hk V (fun q hq => by simp [hq])) dJ3_addLast_23 (fun H locs V => ?_)
  have V : VV G _ _ F ([(a, ob 2 [.ref arr, iV (hd : Nat), iV ((hd + xs.length) % 17 : Nat)]), (arr, aR G 17 (va_up f ((hd + xs.length) % 17) (some x)))] ++ ex) _ _ _ := V
  refine lv_aload_n hx hb dJ3_addLast_24 rfl (lv_at hl 1 rfl) ?_
  refine z_get hx hb hts hk hown K_J3 (V.w 0 rfl) 1 (by decide) q210 (fun _ h => h) rfl dJ3_addLast_25 ?_
  refine lv_aload_n hx hb dJ3_addLast_28 rfl (lv_at hl 1 rfl) ?_
  refine lv_aload_n hx hb dJ3_addLast_29 rfl (lv_at hl 1 rfl) ?_
  refine z_get hx hb hts hk hown K_J3 (V.w 0 rfl) 2 (by decide) q211 (fun _ h => h) rfl dJ3_addLast_30 ?_
  refine lv_aload_n hx hb dJ3_addLast_33 rfl (lv_at hl 0 rfl) ?_
  refine z_alen hx hb hk (V.w 1 rfl) dJ3_addLast_34 ?_
  refine z_callS ⟨hx, hb, hml, hown, hts⟩ hk hl.1 V (wc := []) (wr := ([(a, ob 2 [.ref arr, iV (hd : Nat), iV ((hd + xs.length) % 17 : Nat)]), (arr, aR G 17 (va_up f ((hd + xs.length) % 17) (some x)))] ++ ex)) [] ([0, 1] ++ tIx [(a, ob 2 [.ref arr, iV (hd : Nat), iV ((hd + xs.length) % 17 : Nat)]), (arr, aR G 17 (va_up f ((hd + xs.length) % 17) (some x)))] ex) (idxN (w := [(a, ob 2 [.ref arr, iV (hd : Nat), iV ((hd + xs.length) % 17 : Nat)]), (arr, aR G 17 (va_up f ((hd + xs.length) % 17) (some x)))]) (t := ex) (wC := []) (is := []) rfl) (idxT (w := [(a, ob 2 [.ref arr, iV (hd : Nat), iV ((hd + xs.length) % 17 : Nat)]), (arr, aR G 17 (va_up f ((hd + xs.length) % 17) (some x)))]) (t := ex) (wC := [(a, ob 2 [.ref arr, iV (hd : Nat), iV ((hd + xs.length) % 17 : Nat)]), (arr, aR G 17 (va_up f ((hd + xs.length) % 17) (some x)))]) (is := [0, 1]) rfl) rfl (ndT (w := [(a, ob 2 [.ref arr, iV (hd : Nat), iV ((hd + xs.length) % 17 : Nat)]), (arr, aR G 17 (va_up f ((hd + xs.length) % 17) (some x)))]) (t := ex) (wC := [(a, ob 2 [.ref arr, iV (hd : Nat), iV ((hd + xs.length) % 17 : Nat)]), (arr, aR G 17 (va_up f ((hd + xs.length) % 17) (some x)))]) (is := [0, 1]) rfl rfl) (disT2 (w := [(a, ob 2 [.ref arr, iV (hd : Nat), iV ((hd + xs.length) % 17 : Nat)]), (arr, aR G 17 (va_up f ((hd + xs.length) % 17) (some x)))]) (t := ex) (wC := []) (isC := []) rfl (by decide)) (As := [iV ((hd + xs.length) % 17 : Nat), iV 17]) (rest := [.ref a, iV (hd : Nat)]) (fun hp => ct_DQ_inc l G ((hd + xs.length) % 17 : Nat) 17 (by omega) hp) (va_cwS 2 hts (lw_S q1213 q1214 q78 q1215) rfl rfl rfl (by decide +kernel) ⟨Nat.le_of_ble_eq_true rfl, Nat.le_of_ble_eq_true rfl⟩) rfl rfl (Nat.le_of_ble_eq_true rfl) dJ3_addLast_35 ⟨Nat.le_of_ble_eq_true rfl, Nat.le_of_ble_eq_true rfl⟩ (fun v F1 w1 H locs hq hle hou V => ?_)
  obtain ⟨rfl, rfl, rfl⟩ := hq
  have V := VV.rot1 V
  refine W.eq (g2 := F0 m 38 ls [iV (if (((hd + xs.length) % 17 : Nat) : Int) + 1 < 17 then (((hd + xs.length) % 17 : Nat) : Int) + 1 else 0), .ref a, iV (hd : Nat)]) rfl ?_
  have V : VV G _ _ F ([(a, ob 2 [.ref arr, iV (hd : Nat), iV ((hd + xs.length) % 17 : Nat)]), (arr, aR G 17 (va_up f ((hd + xs.length) % 17) (some x)))] ++ ex) _ _ _ := V
  rw [show (if (((hd + xs.length) % 17 : Nat) : Int) + 1 < 17 then (((hd + xs.length) % 17 : Nat) : Int) + 1 else 0) = (((hd + (xs ++ [x]).length) % 17 : Nat) : Int) by simp; split <;> omega]
  have hln : (xs ++ [x]).length = xs.length + 1 := by simp
  refine lv_dup_x1 hx hb dJ3_addLast_38 rfl rfl ?_
  refine z_put hx hb hts hk V hown K_J3 0 rfl 2 (by decide) q211 (fun _ h => h) rfl rfl rfl (Nat.le_of_ble_eq_true rfl) dJ3_addLast_39 (fun H locs V => ?_)
  have V : VV G _ _ F ([(a, ob 2 [.ref arr, iV (hd : Nat), iV ((hd + (xs ++ [x]).length) % 17 : Nat)]), (arr, aR G 17 (va_up f ((hd + xs.length) % 17) (some x)))] ++ ex) _ _ _ := V
  refine z_icmp_ne (tgt := 50) hx hb (by omega) dJ3_addLast_42 (by decide) (fun c42 => ?_) (fun c42 => by omega)
  exact z_vret hx hb hr hlk V dJ3_addLast_50 ⟨rfl, rfl, _, ⟨arr, hd, _, hd1, by omega, (fun i hi => DQ_put hn8 hf i hi), rfl⟩, rfl⟩ ⟨Nat.le_of_ble_eq_true rfl, Nat.le_of_ble_eq_true rfl⟩
set_option maxHeartbeats 4000000 in
theorem ct_DQ_elem (l : Launch) (G : gG) {F : fS} {Ha : Heap} (arr i y : Nat) (f : Nat → Option Nat) (hi : i < 17) (hy : f i = some y) (hp : Hp G F [(arr, aR G 17 f)] Ha) : CT l G yJ3_elementAt cJ3_elementAt 2 (some (.object "java/lang/Object")) 1 12 0 0 [.ref arr, iV (i : Nat)] F [(arr, aR G 17 f)] Ha (fun v F' w' => v = some (.ref y) ∧ F = F' ∧ w' = [(arr, aR G 17 f)]) := by
  refine z_of hp (Or.inl (by decide)) (Nat.le_of_ble_eq_true rfl) ?_
  intro p e s m below meth c ls hx hb hr hml hts hown hlk hnm hk hsH V hl
  have hl : lv_has ls 2 [(0, .ref arr), (1, iV (i : Nat))] := hl
  refine lv_aload_n hx hb dJ3_elementAt_0 rfl (lv_at hl 0 rfl) ?_
  refine lv_iload_n hx hb dJ3_elementAt_1 rfl (lv_at hl 1 rfl) ?_
  refine z_aald (v := .ref y) hx hb hk (V.w 0 rfl) i (by omega) dJ3_elementAt_2 (by rw [hy]; rfl) ?_
  exact z_aret hx hb hr hlk V (Or.inl ⟨_, rfl⟩) (Or.inr ⟨_, rfl⟩) dJ3_elementAt_3 ⟨rfl, rfl, rfl⟩ ⟨Nat.le_of_ble_eq_true rfl, Nat.le_of_ble_eq_true rfl⟩
set_option maxHeartbeats 4000000 in
theorem ct_DQ_pollFirst (l : Launch) (G : gG) {F : fS} {Ha : Heap} (a : Nat) (xs : List Nat) (wl : va_W) (hw : DQ G a xs wl) (h0 : 0 < xs.length) (hp : Hp G F wl Ha) : CT l G yJ3_pollFirst cJ3_pollFirst 4 (some (.object "java/lang/Object")) 2 33 0 0 [.ref a] F wl Ha (fun v F' w' => v = some (.ref (xs.getD 0 0)) ∧ F = F' ∧ DQ G a xs.tail w') := by
  refine z_of hp (Or.inl (by decide)) (Nat.le_of_ble_eq_true rfl) ?_
  intro p e s m below meth c ls hx hb hr hml hts hown hlk hnm hk hsH V hl
  have hl : lv_has ls 4 [(0, .ref a)] := hl
  obtain ⟨arr, hd, f, hd1, hn9, hf, rfl⟩ := hw
  refine lv_aload_n hx hb dJ3_pollFirst_0 rfl (lv_at hl 0 rfl) ?_
  refine z_get hx hb hts hk hown K_J3 (V.w 0 rfl) 0 (by decide) q209 (fun _ h => h) rfl dJ3_pollFirst_1 ?_
  refine lv_dup hx hb dJ3_pollFirst_4 rfl ?_
  refine lv_astore_n (lv' := [(1, .ref arr), (0, .ref a)]) hx hb dJ3_pollFirst_5 rfl hl (by decide) rfl (fun ls hl => ?_)
  refine lv_aload_n hx hb dJ3_pollFirst_6 rfl (lv_at hl 1 rfl) ?_
  refine z_get hx hb hts hk hown K_J3 (V.w 0 rfl) 1 (by decide) q210 (fun _ h => h) rfl dJ3_pollFirst_7 ?_
  refine lv_dup hx hb dJ3_pollFirst_10 rfl ?_
  refine lv_istore_n (lv' := [(2, iV (hd : Nat)), (1, .ref arr), (0, .ref a)]) hx hb dJ3_pollFirst_11 rfl hl (by decide) rfl (fun ls hl => ?_)
  refine z_callS ⟨hx, hb, hml, hown, hts⟩ hk hl.1 V (wc := [(arr, aR G 17 f)]) (wr := [(a, ob 2 [.ref arr, iV (hd : Nat), iV ((hd + xs.length) % 17 : Nat)])]) [1] [0] rfl rfl rfl rfl (by decide) (As := [.ref arr, iV (hd : Nat)]) (rest := []) (fun hp => ct_DQ_elem l G arr hd (xs.getD 0 0) f hd1 (by have := hf 0 h0; rwa [show (hd + 0) % 17 = hd by omega] at this) hp) (va_cwS 2 hts (lw_S q1210 q1211 q78 q1212) rfl rfl rfl (by decide +kernel) ⟨Nat.le_of_ble_eq_true rfl, Nat.le_of_ble_eq_true rfl⟩) rfl rfl (Nat.le_of_ble_eq_true rfl) dJ3_pollFirst_12 ⟨Nat.le_of_ble_eq_true rfl, Nat.le_of_ble_eq_true rfl⟩ (fun v F1 w1 H locs hq hle hou V => ?_)
  obtain ⟨rfl, rfl, rfl⟩ := hq
  refine W.eq (g2 := F0 m 15 ls [.ref (xs.getD 0 0)]) rfl ?_
  have V : VV G _ _ F [(a, ob 2 [.ref arr, iV (hd : Nat), iV ((hd + xs.length) % 17 : Nat)]), (arr, aR G 17 f)] _ _ _ := V
  refine lv_astore_n (lv' := [(3, .ref (xs.getD 0 0)), (2, iV (hd : Nat)), (1, .ref arr), (0, .ref a)]) hx hb dJ3_pollFirst_15 rfl hl (by decide) rfl (fun ls hl => ?_)
  refine lv_aload_n hx hb dJ3_pollFirst_16 rfl (lv_at hl 0 rfl) ?_
  refine lv_ifnull hx hb dJ3_pollFirst_17 ?_
  refine lv_aload_n hx hb dJ3_pollFirst_20 rfl (lv_at hl 2 rfl) ?_
  refine lv_iload_n hx hb dJ3_pollFirst_21 rfl (lv_at hl 1 rfl) ?_
  refine lv_null hx hb dJ3_pollFirst_22 ?_
  refine z_aastN hx hb hk V 1 rfl hd (by omega) dJ3_pollFirst_23 (fun H locs V => ?_)
  have V : VV G _ _ F [(a, ob 2 [.ref arr, iV (hd : Nat), iV ((hd + xs.length) % 17 : Nat)]), (arr, aR G 17 (va_up f hd none))] _ _ _ := V
  refine lv_aload_n hx hb dJ3_pollFirst_24 rfl (lv_at hl 3 rfl) ?_
  refine lv_iload_n hx hb dJ3_pollFirst_25 rfl (lv_at hl 1 rfl) ?_
  refine lv_aload_n hx hb dJ3_pollFirst_26 rfl (lv_at hl 2 rfl) ?_
  refine z_alen hx hb hk (V.w 1 rfl) dJ3_pollFirst_27 ?_
  refine z_callS ⟨hx, hb, hml, hown, hts⟩ hk hl.1 V (wc := []) (wr := [(a, ob 2 [.ref arr, iV (hd : Nat), iV ((hd + xs.length) % 17 : Nat)]), (arr, aR G 17 (va_up f hd none))]) [] [0, 1] rfl rfl rfl rfl (by decide) (As := [iV (hd : Nat), iV 17]) (rest := [.ref a]) (fun hp => ct_DQ_inc l G hd 17 (by omega) hp) (va_cwS 2 hts (lw_S q1213 q1214 q78 q1215) rfl rfl rfl (by decide +kernel) ⟨Nat.le_of_ble_eq_true rfl, Nat.le_of_ble_eq_true rfl⟩) rfl rfl (Nat.le_of_ble_eq_true rfl) dJ3_pollFirst_28 ⟨Nat.le_of_ble_eq_true rfl, Nat.le_of_ble_eq_true rfl⟩ (fun v F1 w1 H locs hq hle hou V => ?_)
  obtain ⟨rfl, rfl, rfl⟩ := hq
  refine W.eq (g2 := F0 m 31 ls [iV (if (hd : Int) + 1 < 17 then (hd : Int) + 1 else 0), .ref a]) rfl ?_
  have V : VV G _ _ F [(a, ob 2 [.ref arr, iV (hd : Nat), iV ((hd + xs.length) % 17 : Nat)]), (arr, aR G 17 (va_up f hd none))] _ _ _ := V
  rw [show (if (hd : Int) + 1 < 17 then (hd : Int) + 1 else 0) = (((hd + 1) % 17 : Nat) : Int) by split <;> omega]
  refine z_put hx hb hts hk V hown K_J3 0 rfl 1 (by decide) q210 (fun _ h => h) rfl rfl rfl (Nat.le_of_ble_eq_true rfl) dJ3_pollFirst_31 (fun H locs V => ?_)
  have V : VV G _ _ F [(a, ob 2 [.ref arr, iV ((hd + 1) % 17 : Nat), iV ((hd + xs.length) % 17 : Nat)]), (arr, aR G 17 (va_up f hd none))] _ _ _ := V
  refine lv_aload_n hx hb dJ3_pollFirst_34 rfl (lv_at hl 0 rfl) ?_
  exact z_aret hx hb hr hlk V (Or.inl ⟨_, rfl⟩) (Or.inr ⟨_, rfl⟩) dJ3_pollFirst_35 ⟨rfl, rfl, ⟨arr, (hd + 1) % 17, _, by omega, by simp; omega, (fun i hi => DQ_rmf hn9 h0 hf i hi), by rw [show ((hd + 1) % 17 + xs.tail.length) % 17 = (hd + xs.length) % 17 by simp; omega]⟩⟩ ⟨Nat.le_of_ble_eq_true rfl, Nat.le_of_ble_eq_true rfl⟩
set_option maxHeartbeats 4000000 in
theorem ct_DQ_removeFirst (l : Launch) (G : gG) {F : fS} {Ha : Heap} (a : Nat) (xs : List Nat) (wl : va_W) (hw : DQ G a xs wl) (h0 : 0 < xs.length) (hp : Hp G F wl Ha) : CT l G yJ3_removeFirst cJ3_removeFirst 2 (some (.object "java/lang/Object")) 3 56 0 0 [.ref a] F wl Ha (fun v F' w' => v = some (.ref (xs.getD 0 0)) ∧ F = F' ∧ DQ G a xs.tail w') := by
  refine z_of hp (Or.inl (by decide)) (Nat.le_of_ble_eq_true rfl) ?_
  intro p e s m below meth c ls hx hb hr hml hts hown hlk hnm hk hsH V hl
  have hl : lv_has ls 2 [(0, .ref a)] := hl
  obtain ⟨fs, hfs⟩ := hw.cell
  refine lv_aload_n hx hb dJ3_removeFirst_0 rfl (lv_at hl 0 rfl) ?_
  refine z_callV ⟨hx, hb, hml, hown, hts⟩ hk hl.1 V (wc := wl) (wr := []) ([] ++ tIx [] wl) [] (idxT (w := []) (t := wl) (wC := []) (is := []) rfl) (idxN (w := []) (t := wl) (wC := []) (is := []) rfl) (ndT (w := []) (t := wl) (wC := []) (is := []) rfl rfl) rfl (disT (w := []) (t := wl) (wR := []) (isR := []) rfl (by decide)) (As := []) (rest := []) (fun hp => ct_DQ_pollFirst l G a xs wl hw h0 hp) (cwV 0 hts (lw_V q1206 q1207 q1208 q78 q1209) rfl rfl rfl (by decide +kernel) ⟨Nat.le_of_ble_eq_true rfl, Nat.le_of_ble_eq_true rfl⟩) (z_rc hk (V.mem (q := (a, ob 2 fs)) (by first | exact hfs | simp [hfs])) (q := (RJ3, TJ3, 3)) rfl) rfl rfl (Nat.le_of_ble_eq_true rfl) dJ3_removeFirst_1 ⟨Nat.le_of_ble_eq_true rfl, Nat.le_of_ble_eq_true rfl⟩ (fun v F1 w1 H locs hq hle hou V => ?_)
  obtain ⟨rfl, rfl, hw1⟩ := hq
  have V := VV.asc (z := []) (t := w1) V
  refine W.eq (g2 := F0 m 4 ls [.ref (xs.getD 0 0)]) rfl ?_
  have V : VV G _ _ F ([] ++ w1) _ _ _ := V
  refine lv_astore_n (lv' := [(1, .ref (xs.getD 0 0)), (0, .ref a)]) hx hb dJ3_removeFirst_4 rfl hl (by decide) rfl (fun ls hl => ?_)
  refine lv_aload_n hx hb dJ3_removeFirst_5 rfl (lv_at hl 0 rfl) ?_
  refine lv_ifnonnull (tgt := 17) hx hb dJ3_removeFirst_6 (by decide) ?_
  refine lv_aload_n hx hb dJ3_removeFirst_17 rfl (lv_at hl 0 rfl) ?_
  exact z_aret hx hb hr hlk V (Or.inl ⟨_, rfl⟩) (Or.inr ⟨_, rfl⟩) dJ3_removeFirst_18 ⟨rfl, rfl, hw1⟩ ⟨Nat.le_of_ble_eq_true rfl, Nat.le_of_ble_eq_true rfl⟩
set_option maxHeartbeats 4000000 in
theorem ct_DQ_pollLast (l : Launch) (G : gG) {F : fS} {Ha : Heap} (a : Nat) (xs : List Nat) (wl : va_W) (hw : DQ G a xs wl) (h0 : 0 < xs.length) (hp : Hp G F wl Ha) : CT l G yJ3_pollLast cJ3_pollLast 4 (some (.object "java/lang/Object")) 2 33 0 0 [.ref a] F wl Ha (fun v F' w' => v = some (.ref (xs.getD (xs.length - 1) 0)) ∧ F = F' ∧ DQ G a xs.dropLast w') := by
  refine z_of hp (Or.inl (by decide)) (Nat.le_of_ble_eq_true rfl) ?_
  intro p e s m below meth c ls hx hb hr hml hts hown hlk hnm hk hsH V hl
  have hl : lv_has ls 4 [(0, .ref a)] := hl
  obtain ⟨arr, hd, f, hd1, hn9, hf, rfl⟩ := hw
  refine lv_aload_n hx hb dJ3_pollLast_0 rfl (lv_at hl 0 rfl) ?_
  refine z_get hx hb hts hk hown K_J3 (V.w 0 rfl) 0 (by decide) q209 (fun _ h => h) rfl dJ3_pollLast_1 ?_
  refine lv_dup hx hb dJ3_pollLast_4 rfl ?_
  refine lv_astore_n (lv' := [(1, .ref arr), (0, .ref a)]) hx hb dJ3_pollLast_5 rfl hl (by decide) rfl (fun ls hl => ?_)
  refine lv_aload_n hx hb dJ3_pollLast_6 rfl (lv_at hl 1 rfl) ?_
  refine z_get hx hb hts hk hown K_J3 (V.w 0 rfl) 2 (by decide) q211 (fun _ h => h) rfl dJ3_pollLast_7 ?_
  refine lv_aload_n hx hb dJ3_pollLast_10 rfl (lv_at hl 0 rfl) ?_
  refine z_alen hx hb hk (V.w 1 rfl) dJ3_pollLast_11 ?_
  refine z_callS ⟨hx, hb, hml, hown, hts⟩ hk hl.1 V (wc := []) (wr := [(a, ob 2 [.ref arr, iV (hd : Nat), iV ((hd + xs.length) % 17 : Nat)]), (arr, aR G 17 f)]) [] [0, 1] rfl rfl rfl rfl (by decide) (As := [iV ((hd + xs.length) % 17 : Nat), iV 17]) (rest := [.ref arr]) (fun hp => ct_DQ_dec l G ((hd + xs.length) % 17 : Nat) 17 (by omega) hp) (va_cwS 2 hts (lw_S q2672 q2673 q78 q2674) rfl rfl rfl (by decide +kernel) ⟨Nat.le_of_ble_eq_true rfl, Nat.le_of_ble_eq_true rfl⟩) rfl rfl (Nat.le_of_ble_eq_true rfl) dJ3_pollLast_12 ⟨Nat.le_of_ble_eq_true rfl, Nat.le_of_ble_eq_true rfl⟩ (fun v F1 w1 H locs hq hle hou V => ?_)
  obtain ⟨rfl, rfl, rfl⟩ := hq
  refine W.eq (g2 := F0 m 15 ls [iV (if 0 < (((hd + xs.length) % 17 : Nat) : Int) then (((hd + xs.length) % 17 : Nat) : Int) - 1 else 17 - 1), .ref arr]) rfl ?_
  have V : VV G _ _ F [(a, ob 2 [.ref arr, iV (hd : Nat), iV ((hd + xs.length) % 17 : Nat)]), (arr, aR G 17 f)] _ _ _ := V
  rw [show (if 0 < (((hd + xs.length) % 17 : Nat) : Int) then (((hd + xs.length) % 17 : Nat) : Int) - 1 else 17 - 1) = (((hd + (xs.length - 1)) % 17 : Nat) : Int) by split <;> omega]
  refine lv_dup hx hb dJ3_pollLast_15 rfl ?_
  refine lv_istore_n (lv' := [(2, iV ((hd + (xs.length - 1)) % 17 : Nat)), (1, .ref arr), (0, .ref a)]) hx hb dJ3_pollLast_16 rfl hl (by decide) rfl (fun ls hl => ?_)
  refine z_callS ⟨hx, hb, hml, hown, hts⟩ hk hl.1 V (wc := [(arr, aR G 17 f)]) (wr := [(a, ob 2 [.ref arr, iV (hd : Nat), iV ((hd + xs.length) % 17 : Nat)])]) [1] [0] rfl rfl rfl rfl (by decide) (As := [.ref arr, iV ((hd + (xs.length - 1)) % 17 : Nat)]) (rest := []) (fun hp => ct_DQ_elem l G arr ((hd + (xs.length - 1)) % 17) (xs.getD (xs.length - 1) 0) f (by omega) (hf _ (by omega)) hp) (va_cwS 2 hts (lw_S q1210 q1211 q78 q1212) rfl rfl rfl (by decide +kernel) ⟨Nat.le_of_ble_eq_true rfl, Nat.le_of_ble_eq_true rfl⟩) rfl rfl (Nat.le_of_ble_eq_true rfl) dJ3_pollLast_17 ⟨Nat.le_of_ble_eq_true rfl, Nat.le_of_ble_eq_true rfl⟩ (fun v F1 w1 H locs hq hle hou V => ?_)
  obtain ⟨rfl, rfl, rfl⟩ := hq
  refine W.eq (g2 := F0 m 20 ls [.ref (xs.getD (xs.length - 1) 0)]) rfl ?_
  have V : VV G _ _ F [(a, ob 2 [.ref arr, iV (hd : Nat), iV ((hd + xs.length) % 17 : Nat)]), (arr, aR G 17 f)] _ _ _ := V
  refine lv_astore_n (lv' := [(3, .ref (xs.getD (xs.length - 1) 0)), (2, iV ((hd + (xs.length - 1)) % 17 : Nat)), (1, .ref arr), (0, .ref a)]) hx hb dJ3_pollLast_20 rfl hl (by decide) rfl (fun ls hl => ?_)
  refine lv_aload_n hx hb dJ3_pollLast_21 rfl (lv_at hl 0 rfl) ?_
  refine lv_ifnull hx hb dJ3_pollLast_22 ?_
  refine lv_aload_n hx hb dJ3_pollLast_25 rfl (lv_at hl 2 rfl) ?_
  refine lv_aload_n hx hb dJ3_pollLast_26 rfl (lv_at hl 3 rfl) ?_
  refine lv_iload_n hx hb dJ3_pollLast_27 rfl (lv_at hl 1 rfl) ?_
  refine lv_dup_x1 hx hb dJ3_pollLast_28 rfl rfl ?_
  refine z_put hx hb hts hk V hown K_J3 0 rfl 2 (by decide) q211 (fun _ h => h) rfl rfl rfl (Nat.le_of_ble_eq_true rfl) dJ3_pollLast_29 (fun H locs V => ?_)
  have V : VV G _ _ F [(a, ob 2 [.ref arr, iV (hd : Nat), iV ((hd + (xs.length - 1)) % 17 : Nat)]), (arr, aR G 17 f)] _ _ _ := V
  refine lv_null hx hb dJ3_pollLast_32 ?_
  refine z_aastN hx hb hk V 1 rfl ((hd + (xs.length - 1)) % 17) (by omega) dJ3_pollLast_33 (fun H locs V => ?_)
  have V : VV G _ _ F [(a, ob 2 [.ref arr, iV (hd : Nat), iV ((hd + (xs.length - 1)) % 17 : Nat)]), (arr, aR G 17 (va_up f ((hd + (xs.length - 1)) % 17) none))] _ _ _ := V
  refine lv_aload_n hx hb dJ3_pollLast_34 rfl (lv_at hl 0 rfl) ?_
  exact z_aret hx hb hr hlk V (Or.inl ⟨_, rfl⟩) (Or.inr ⟨_, rfl⟩) dJ3_pollLast_35 ⟨rfl, rfl, ⟨arr, hd, _, hd1, by simp; omega, (fun i hi => DQ_rml hn9 h0 hf i hi), by simp⟩⟩ ⟨Nat.le_of_ble_eq_true rfl, Nat.le_of_ble_eq_true rfl⟩
set_option maxHeartbeats 4000000 in
theorem ct_DQ_removeLast (l : Launch) (G : gG) {F : fS} {Ha : Heap} (a : Nat) (xs : List Nat) (wl : va_W) (hw : DQ G a xs wl) (h0 : 0 < xs.length) (hp : Hp G F wl Ha) : CT l G yJ3_removeLast cJ3_removeLast 2 (some (.object "java/lang/Object")) 3 56 0 0 [.ref a] F wl Ha (fun v F' w' => v = some (.ref (xs.getD (xs.length - 1) 0)) ∧ F = F' ∧ DQ G a xs.dropLast w') := by
  refine z_of hp (Or.inl (by decide)) (Nat.le_of_ble_eq_true rfl) ?_
  intro p e s m below meth c ls hx hb hr hml hts hown hlk hnm hk hsH V hl
  have hl : lv_has ls 2 [(0, .ref a)] := hl
  obtain ⟨fs, hfs⟩ := hw.cell
  refine lv_aload_n hx hb dJ3_removeLast_0 rfl (lv_at hl 0 rfl) ?_
  refine z_callV ⟨hx, hb, hml, hown, hts⟩ hk hl.1 V (wc := wl) (wr := []) ([] ++ tIx [] wl) [] (idxT (w := []) (t := wl) (wC := []) (is := []) rfl) (idxN (w := []) (t := wl) (wC := []) (is := []) rfl) (ndT (w := []) (t := wl) (wC := []) (is := []) rfl rfl) rfl (disT (w := []) (t := wl) (wR := []) (isR := []) rfl (by decide)) (As := []) (rest := []) (fun hp => ct_DQ_pollLast l G a xs wl hw h0 hp) (cwV 0 hts (lw_V q2668 q2669 q2670 q78 q2671) rfl rfl rfl (by decide +kernel) ⟨Nat.le_of_ble_eq_true rfl, Nat.le_of_ble_eq_true rfl⟩) (z_rc hk (V.mem (q := (a, ob 2 fs)) (by first | exact hfs | simp [hfs])) (q := (RJ3, TJ3, 3)) rfl) rfl rfl (Nat.le_of_ble_eq_true rfl) dJ3_removeLast_1 ⟨Nat.le_of_ble_eq_true rfl, Nat.le_of_ble_eq_true rfl⟩ (fun v F1 w1 H locs hq hle hou V => ?_)
  obtain ⟨rfl, rfl, hw1⟩ := hq
  have V := VV.asc (z := []) (t := w1) V
  refine W.eq (g2 := F0 m 4 ls [.ref (xs.getD (xs.length - 1) 0)]) rfl ?_
  have V : VV G _ _ F ([] ++ w1) _ _ _ := V
  refine lv_astore_n (lv' := [(1, .ref (xs.getD (xs.length - 1) 0)), (0, .ref a)]) hx hb dJ3_removeLast_4 rfl hl (by decide) rfl (fun ls hl => ?_)
  refine lv_aload_n hx hb dJ3_removeLast_5 rfl (lv_at hl 0 rfl) ?_
  refine lv_ifnonnull (tgt := 17) hx hb dJ3_removeLast_6 (by decide) ?_
  refine lv_aload_n hx hb dJ3_removeLast_17 rfl (lv_at hl 0 rfl) ?_
  exact z_aret hx hb hr hlk V (Or.inl ⟨_, rfl⟩) (Or.inr ⟨_, rfl⟩) dJ3_removeLast_18 ⟨rfl, rfl, hw1⟩ ⟨Nat.le_of_ble_eq_true rfl, Nat.le_of_ble_eq_true rfl⟩
