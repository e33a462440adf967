/-! Sentences (printed by gen/x30.py) -/
set_option maxRecDepth 100000
/-- a sentence for good: its words, its text -/
def SNF (G : gG) (F : fS) (a : Nat) (sn : List (List Nat)) : Prop := ∃ (lw tx : Nat) (as : List Nat), F a = some (.inl (ob 13 [.ref lw, .ref tx])) ∧ LF G F lw as ∧ as.length = sn.length ∧ (∀ i, i < sn.length → SH G F (as.getD i 0) (sn.getD i [])) ∧ SF G F tx (txt sn)
theorem SNF.mono {G : gG} {F F1 : fS} {a : Nat} {sn : List (List Nat)} (h : SNF G F a sn) (hF : fLe F F1) : SNF G F1 a sn := by
  obtain ⟨lw, tx, as, h1, h2, h3, h4, h5⟩ := h
  exact ⟨lw, tx, as, hF _ _ h1, h2.mono hF, h3, fun i hi => (h4 i hi).mono hF, h5.mono hF⟩
theorem LF.len {G : gG} {F : fS} {l : Nat} {xs : List Nat} (h : LF G F l xs) : xs.length ≤ 10 := by
  obtain ⟨mc, arr, n, f, h1, h2, h3, h4, h5⟩ := h
  omega
theorem SNF.len {G : gG} {F : fS} {a : Nat} {sn : List (List Nat)} (h : SNF G F a sn) : sn.length ≤ 10 := by
  obtain ⟨lw, tx, as, h1, h2, h3, h4, h5⟩ := h
  have := h2.len
  omega
/-- how often a word stands in a sentence -/
def cnt (sn : List (List Nat)) (w : List Nat) : Nat := (sn.filter (fun x => decide (x = w))).length
theorem cnt_le (sn : List (List Nat)) (w : List Nat) : cnt sn w ≤ sn.length := List.length_filter_le _ _
theorem cnt_snoc {sn : List (List Nat)} {w : List Nat} {i : Nat} (hi : i < sn.length) : cnt (sn.take (i + 1)) w = cnt (sn.take i) w + (if sn.getD i [] = w then 1 else 0) := by
  unfold cnt
  rw [List.take_succ, List.getElem?_eq_getElem hi, List.filter_append, List.length_append, List.getD_eq_getElem?_getD, List.getElem?_eq_getElem hi]
  congr 1
  show (List.filter _ [sn[i]]).length = if sn[i] = w then 1 else 0
  by_cases h : sn[i] = w
  · rw [if_pos h, List.filter_cons_of_pos (by simpa using h)]; rfl
  · rw [if_neg h, List.filter_cons_of_neg (by simpa using h)]; rfl
theorem bZ_cases (b : Bool) : (b = true ∧ bZ b = 1) ∨ (b = false ∧ bZ b = 0) := by cases b <;> simp [bZ]
theorem LF.at {G : gG} {F : fS} {l : Nat} {xs : List Nat} (h : LF G F l xs) {A : Nat → Prop} {F0 : fS} {ws : va_W} {H0 H : Heap} {locs : List Loc} (V : VV G A F0 F ws H0 H locs) : ∃ fs, va_at G.1 CL (l, ob 0 fs) H := by
  obtain ⟨mc, arr, n, f, h1, -⟩ := h
  exact ⟨_, V.f h1⟩
theorem SNF.at {G : gG} {F : fS} {l : Nat} {xs : List (List Nat)} (h : SNF G F l xs) {A : Nat → Prop} {F0 : fS} {ws : va_W} {H0 H : Heap} {locs : List Loc} (V : VV G A F0 F ws H0 H locs) : ∃ fs, va_at G.1 CL (l, ob 13 fs) H := by
  obtain ⟨lw, tx, as, h1, -⟩ := h
  exact ⟨_, V.f h1⟩
theorem SF.at4 {G : gG} {F : fS} {l : Nat} {t : List Nat} (h : SF G F l t) {A : Nat → Prop} {F0 : fS} {ws : va_W} {H0 H : Heap} {locs : List Loc} (V : VV G A F0 F ws H0 H locs) : ∃ fs, va_at G.1 CL (l, ob 4 fs) H := by
  obtain ⟨v, hh, zz, g, hat, -⟩ := h.at V
  exact ⟨_, hat⟩
set_option maxHeartbeats 4000000 in
theorem ct_SN_count (l : Launch) (G : gG) {F : fS} {Ha : Heap} (a : Nat) (sn : List (List Nat)) (h : SNF G F a sn) (hp : Hp G F [] Ha) : CT l G yX6_count cX6_count 1 (some .int) 2 32 0 0 [.ref a] F [] Ha (fun rv F' w' => rv = some (iV (sn.length : Nat)) ∧ F = F' ∧ w' = []) := by
  refine z_of hp (Or.inl (by decide)) (Nat.le_of_ble_eq_true rfl) ?_
  intro p e s m below meth c ls hx hb hr hml hts hown hlk hnm hk hsH V hl
  have hl : lv_has ls 1 [(0, .ref a)] := hl
  obtain ⟨lw, tx, as, s1, s2, s3, s4, s5⟩ := h
  refine lv_aload_n hx hb dX6_count_0 rfl (lv_at hl 0 rfl) ?_
  refine z_get hx hb hts hk hown K_X6 (V.f s1) 0 (by decide) q959 (fun _ h => h) rfl dX6_count_1 ?_
  refine z_callF (z_at hk 0 rfl) ⟨hx, hb, hml, hown, hts⟩ hk hl.1 V (wc := []) (wr := []) [] [] rfl rfl rfl rfl (by decide) (As := []) (rest := []) (fun hp => ct_AL_size l G lw as s2 hp) (va_cwF 0 hts (lw_app (lw_in4 q1072 q550 q552 q77) (lw_meth q554)) rfl rfl rfl (hk.I 3 rfl) (by decide +kernel) ⟨Nat.le_of_ble_eq_true rfl, Nat.le_of_ble_eq_true rfl⟩) (z_rc hk (Classical.choose_spec (s2.at V)) (q := (RJ2, TJ2, 3)) rfl) rfl rfl (Nat.le_of_ble_eq_true rfl) dX6_count_4 ⟨Nat.le_of_ble_eq_true rfl, Nat.le_of_ble_eq_true rfl⟩ (fun v F1 w1 H locs hq hle hou V => ?_)
  obtain ⟨rfl, rfl, rfl⟩ := hq
  refine W.eq (g2 := F0 m 9 ls [iV (as.length : Nat)]) rfl ?_
  have V : VV G _ _ F [] _ _ _ := V
  exact z_iret hx hb hr hlk V rfl dX6_count_9 ⟨by rw [s3], rfl, rfl⟩ ⟨Nat.le_of_ble_eq_true rfl, Nat.le_of_ble_eq_true rfl⟩
set_option maxHeartbeats 4000000 in
theorem ct_SN_word (l : Launch) (G : gG) {F : fS} {Ha : Heap} (a : Nat) (sn : List (List Nat)) (h : SNF G F a sn) (i : Nat) (hi : i < sn.length) (hp : Hp G F [] Ha) : CT l G yX6_word cX6_word 2 (some (.object "java/lang/String")) 4 76 0 0 [.ref a, iV (i : Nat)] F [] Ha (fun rv F' w' => ∃ x : Nat, rv = some (.ref x) ∧ F = F' ∧ SH G F' x (sn.getD i []) ∧ w' = []) := by
  refine z_of hp (Or.inl (by decide)) (Nat.le_of_ble_eq_true rfl) ?_
  intro p e s m below meth c ls hx hb hr hml hts hown hlk hnm hk hsH V hl
  have hl : lv_has ls 2 [(0, .ref a), (1, iV (i : Nat))] := hl
  obtain ⟨lw, tx, as, s1, s2, s3, s4, s5⟩ := h
  have hs4 := s4 i hi
  refine lv_aload_n hx hb dX6_word_0 rfl (lv_at hl 0 rfl) ?_
  refine z_get hx hb hts hk hown K_X6 (V.f s1) 0 (by decide) q959 (fun _ h => h) rfl dX6_word_1 ?_
  refine lv_iload_n hx hb dX6_word_4 rfl (lv_at hl 1 rfl) ?_
  refine z_callF (z_at hk 0 rfl) ⟨hx, hb, hml, hown, hts⟩ hk hl.1 V (wc := []) (wr := []) [] [] rfl rfl rfl rfl (by decide) (As := [iV (i : Nat)]) (rest := []) (fun hp => ct_AL_get l G lw as s2 i (by omega) hp) (va_cwF 1 hts (lw_app (lw_in4 q1195 q1143 q1145 q77) (lw_meth q1147)) rfl rfl rfl (hk.I 5 rfl) (by decide +kernel) ⟨Nat.le_of_ble_eq_true rfl, Nat.le_of_ble_eq_true rfl⟩) (z_rc hk (Classical.choose_spec (s2.at V)) (q := (RJ2, TJ2, 3)) rfl) rfl rfl (Nat.le_of_ble_eq_true rfl) dX6_word_5 ⟨Nat.le_of_ble_eq_true rfl, Nat.le_of_ble_eq_true rfl⟩ (fun v F1 w1 H locs hq hle hou V => ?_)
  obtain ⟨rfl, rfl, rfl⟩ := hq
  refine W.eq (g2 := F0 m 10 ls [.ref (as.getD i 0)]) rfl ?_
  have V : VV G _ _ F [] _ _ _ := V
  refine z_castE hx hb hts hown q1196 (z_rc hk (Classical.choose_spec ((SF.at4 (Or.inl hs4)) V)) (q := (RJ6, TJ6, 4)) rfl) dX6_word_10 ?_
  exact z_aret hx hb hr hlk V (Or.inl ⟨_, rfl⟩) (Or.inr ⟨_, rfl⟩) dX6_word_13 ⟨_, rfl, rfl, hs4, rfl⟩ ⟨Nat.le_of_ble_eq_true rfl, Nat.le_of_ble_eq_true rfl⟩
set_option maxHeartbeats 4000000 in
theorem ct_SN_length (l : Launch) (G : gG) {F : fS} {Ha : Heap} (a : Nat) (sn : List (List Nat)) (h : SNF G F a sn) (hp : Hp G F [] Ha) : CT l G yX6_length cX6_length 1 (some .int) 3 52 0 0 [.ref a] F [] Ha (fun rv F' w' => rv = some (iV ((txt sn).length : Nat)) ∧ F = F' ∧ w' = []) := by
  refine z_of hp (Or.inl (by decide)) (Nat.le_of_ble_eq_true rfl) ?_
  intro p e s m below meth c ls hx hb hr hml hts hown hlk hnm hk hsH V hl
  have hl : lv_has ls 1 [(0, .ref a)] := hl
  obtain ⟨lw, tx, as, s1, s2, s3, s4, s5⟩ := h
  refine lv_aload_n hx hb dX6_length_0 rfl (lv_at hl 0 rfl) ?_
  refine z_get hx hb hts hk hown K_X6 (V.f s1) 1 (by decide) q960 (fun _ h => h) rfl dX6_length_1 ?_
  refine z_callV ⟨hx, hb, hml, hown, hts⟩ hk hl.1 V (wc := []) (wr := []) [] [] rfl rfl rfl rfl (by decide) (As := []) (rest := []) (fun hp => ct_S_length l G tx (txt sn) s5 hp) (cwV 0 hts (lw_V q1334 q801 q802 q81 q803) rfl rfl rfl (by decide +kernel) ⟨Nat.le_of_ble_eq_true rfl, Nat.le_of_ble_eq_true rfl⟩) (z_rc hk (Classical.choose_spec (s5.at4 V)) (q := (RJ6, TJ6, 4)) rfl) rfl rfl (Nat.le_of_ble_eq_true rfl) dX6_length_4 ⟨Nat.le_of_ble_eq_true rfl, Nat.le_of_ble_eq_true rfl⟩ (fun v F1 w1 H locs hq hle hou V => ?_)
  obtain ⟨rfl, rfl, rfl⟩ := hq
  refine W.eq (g2 := F0 m 7 ls [iV ((txt sn).length : Nat)]) rfl ?_
  have V : VV G _ _ F [] _ _ _ := V
  exact z_iret hx hb hr hlk V rfl dX6_length_7 ⟨rfl, rfl, rfl⟩ ⟨Nat.le_of_ble_eq_true rfl, Nat.le_of_ble_eq_true rfl⟩
theorem nr_b {z : Int} (h : z = 0 ∨ z = 1) : narrow .boolean (iV z) = iV z := by rcases h with rfl | rfl <;> rfl
set_option maxHeartbeats 4000000 in
theorem ct_SN_isLike (l : Launch) (G : gG) {F : fS} {Ha : Heap} (a b : Nat) (sn sn2 : List (List Nat)) (h : SNF G F a sn) (h2 : SNF G F b sn2) (hp : Hp G F [] Ha) : CT l G yX6_isLike cX6_isLike 2 (some .boolean) 3 56 0 0 [.ref a, .ref b] F [] Ha (fun rv F' w' => rv = some (iV (bZ (decide (txt sn = txt sn2)))) ∧ F = F' ∧ w' = []) := by
  refine z_of hp (Or.inl (by decide)) (Nat.le_of_ble_eq_true rfl) ?_
  intro p e s m below meth c ls hx hb hr hml hts hown hlk hnm hk hsH V hl
  have hl : lv_has ls 2 [(0, .ref a), (1, .ref b)] := hl
  obtain ⟨lw, tx, as, s1, s2, s3, s4, s5⟩ := h
  obtain ⟨lwb, txb, asb, s1b, s2b, s3b, s4b, s5b⟩ := h2
  refine lv_aload_n hx hb dX6_isLike_0 rfl (lv_at hl 0 rfl) ?_
  refine z_get hx hb hts hk hown K_X6 (V.f s1) 1 (by decide) q960 (fun _ h => h) rfl dX6_isLike_1 ?_
  refine lv_aload_n hx hb dX6_isLike_4 rfl (lv_at hl 1 rfl) ?_
  refine z_get hx hb hts hk hown K_X6 (V.f s1b) 1 (by decide) q960 (fun _ h => h) rfl dX6_isLike_5 ?_
  refine z_callV ⟨hx, hb, hml, hown, hts⟩ hk hl.1 V (wc := []) (wr := []) [] [] rfl rfl rfl rfl (by decide) (As := [.ref txb]) (rest := []) (fun hp => ct_S_equals l G tx txb (txt sn) (txt sn2) s5 s5b hp) (cwV 1 hts (lw_V q1097 q1098 q1099 q81 q1100) rfl rfl rfl (by decide +kernel) ⟨Nat.le_of_ble_eq_true rfl, Nat.le_of_ble_eq_true rfl⟩) (z_rc hk (Classical.choose_spec (s5.at4 V)) (q := (RJ6, TJ6, 4)) rfl) rfl rfl (Nat.le_of_ble_eq_true rfl) dX6_isLike_8 ⟨Nat.le_of_ble_eq_true rfl, Nat.le_of_ble_eq_true rfl⟩ (fun v F1 w1 H locs hq hle hou V => ?_)
  obtain ⟨rfl, rfl, rfl⟩ := hq
  refine W.eq (g2 := F0 m 11 ls [iV (bZ (decide (txt sn = txt sn2)))]) rfl ?_
  have V : VV G _ _ F [] _ _ _ := V
  have hbz := bZ_cases (decide (txt sn = txt sn2))
  exact z_iret hx hb hr hlk V (nr_b (by omega)) dX6_isLike_11 ⟨rfl, rfl, rfl⟩ ⟨Nat.le_of_ble_eq_true rfl, Nat.le_of_ble_eq_true rfl⟩
set_option maxHeartbeats 4000000 in
theorem ct_W_times (l : Launch) (G : gG) {F : fS} {Ha : Heap} (a b : Nat) (sn : List (List Nat)) (t : List Nat) (h : SNF G F a sn) (ht : SH G F b t) (hp : Hp G F [] Ha) : CT l G yX24_times cX24_times 4 (some .int) 5 97 0 0 [.ref a, .ref b] F [] Ha (fun rv F' w' => rv = some (iV (cnt sn t : Nat)) ∧ F = F' ∧ w' = []) := by
  refine z_of hp (Or.inl (by decide)) (Nat.le_of_ble_eq_true rfl) ?_
  intro p e s m below meth c ls hx hb hr hml hts hown hlk hnm hk hsH V hl
  have hl : lv_has ls 4 [(0, .ref a), (1, .ref b)] := hl
  have hl9 := h.len
  refine lv_iconst (v := iZ 0) hx hb dX24_times_0 rfl ?_
  refine lv_istore_n (lv' := [(2, iV 0), (0, .ref a), (1, .ref b)]) hx hb dX24_times_1 rfl hl (by decide) rfl (fun ls hl => ?_)
  refine lv_iconst (v := iZ 0) hx hb dX24_times_2 rfl ?_
  refine lv_istore_n (lv' := [(3, iV 0), (2, iV 0), (0, .ref a), (1, .ref b)]) hx hb dX24_times_3 rfl hl (by decide) rfl (fun ls hl => ?_)
  have loop : ∀ (n : Nat) (i : Nat) (H : Heap) (locs : List Loc) (ls : Array Slot), sn.length - i < n → (i ≤ sn.length) → VV G (FR F [] Ha) F F [] Ha H locs → lv_has ls 4 [(0, .ref a), (1, .ref b), (2, iV (cnt (sn.take i) t : Nat)), (3, iV (i : Nat))] → W p l e ({ frames := 5, cells := 0, slots := 0, locals := 97 } : Room) s m [.ref a, .ref b].toArray below meth c H locs 0 0 (MQ below (Qz G F [] Ha (fun rv F' w' => rv = some (iV (cnt sn t : Nat)) ∧ F = F' ∧ w' = [])) [.ref a, .ref b].toArray s 0 0 (FR F [] Ha)) (F0 m 4 ls []) := by
    intro n
    induction n with
    | zero => intro i H locs ls hm9; exact absurd hm9 (Nat.not_lt_zero _)
    | succ n ih_loop =>
      intro i H locs ls hm9 hi V hl
      refine lv_iload_n hx hb dX24_times_4 rfl (lv_at hl 3 rfl) ?_
      refine lv_aload_n hx hb dX24_times_5 rfl (lv_at hl 0 rfl) ?_
      refine z_callF (z_at hk 13 rfl) ⟨hx, hb, hml, hown, hts⟩ hk hl.1 V (wc := []) (wr := []) [] [] rfl rfl rfl rfl (by decide) (As := []) (rest := [iV (i : Nat)]) (fun hp => ct_SN_count l G a sn h hp) (va_cwF 0 hts (lw_app (lw_in4 q1179 q1182 q1068 q104) (lw_meth q1070)) rfl rfl rfl (hk.I 12 rfl) (by decide +kernel) ⟨Nat.le_of_ble_eq_true rfl, Nat.le_of_ble_eq_true rfl⟩) (z_rc hk (Classical.choose_spec (h.at V)) (q := (RX6, TX6, 2)) rfl) rfl rfl (Nat.le_of_ble_eq_true rfl) dX24_times_6 ⟨Nat.le_of_ble_eq_true rfl, Nat.le_of_ble_eq_true rfl⟩ (fun v F1 w1 H locs hq hle hou V => ?_)
      obtain ⟨rfl, rfl, rfl⟩ := hq
      refine W.eq (g2 := F0 m 11 ls [iV (sn.length : Nat), iV (i : Nat)]) rfl ?_
      have V : VV G _ _ F [] _ _ _ := V
      refine z_icmp_ge (tgt := 42) hx hb (by omega) dX24_times_11 (by decide) (fun c11 => ?_) (fun c11 => ?_)
      · skip
        refine lv_iload_n hx hb dX24_times_42 rfl (lv_at hl 2 rfl) ?_
        exact z_iret hx hb hr hlk V rfl dX24_times_43 ⟨by rw [show i = sn.length by omega, List.take_length], rfl, rfl⟩ ⟨Nat.le_of_ble_eq_true rfl, Nat.le_of_ble_eq_true rfl⟩
      · skip
        refine lv_iload_n hx hb dX24_times_14 rfl (lv_at hl 2 rfl) ?_
        refine lv_aload_n hx hb dX24_times_15 rfl (lv_at hl 0 rfl) ?_
        refine lv_iload_n hx hb dX24_times_16 rfl (lv_at hl 3 rfl) ?_
        refine z_callF (z_at hk 13 rfl) ⟨hx, hb, hml, hown, hts⟩ hk hl.1 V (wc := []) (wr := []) [] [] rfl rfl rfl rfl (by decide) (As := [iV (i : Nat)]) (rest := [iV (cnt (sn.take i) t : Nat)]) (fun hp => ct_SN_word l G a sn h i (by omega) hp) (va_cwF 1 hts (lw_app (lw_in4 q1186 q1189 q1191 q104) (lw_meth q1193)) rfl rfl rfl (hk.I 13 rfl) (by decide +kernel) ⟨Nat.le_of_ble_eq_true rfl, Nat.le_of_ble_eq_true rfl⟩) (z_rc hk (Classical.choose_spec (h.at V)) (q := (RX6, TX6, 2)) rfl) rfl rfl (Nat.le_of_ble_eq_true rfl) dX24_times_17 ⟨Nat.le_of_ble_eq_true rfl, Nat.le_of_ble_eq_true rfl⟩ (fun v F1 w1 H locs hq hle hou V => ?_)
        obtain ⟨x, rfl, rfl, hx9, rfl⟩ := hq
        refine W.eq (g2 := F0 m 22 ls [.ref x, iV (cnt (sn.take i) t : Nat)]) rfl ?_
        have V : VV G _ _ F [] _ _ _ := V
        refine lv_aload_n hx hb dX24_times_22 rfl (lv_at hl 1 rfl) ?_
        refine z_callV ⟨hx, hb, hml, hown, hts⟩ hk hl.1 V (wc := []) (wr := []) [] [] rfl rfl rfl rfl (by decide) (As := [.ref b]) (rest := [iV (cnt (sn.take i) t : Nat)]) (fun hp => ct_S_equals l G x b (sn.getD i []) t (Or.inl hx9) (Or.inl ht) hp) (cwV 1 hts (lw_V q1197 q1098 q1099 q81 q1100) rfl rfl rfl (by decide +kernel) ⟨Nat.le_of_ble_eq_true rfl, Nat.le_of_ble_eq_true rfl⟩) (z_rc hk (Classical.choose_spec ((SF.at4 (Or.inl hx9)) V)) (q := (RJ6, TJ6, 4)) rfl) rfl rfl (Nat.le_of_ble_eq_true rfl) dX24_times_23 ⟨Nat.le_of_ble_eq_true rfl, Nat.le_of_ble_eq_true rfl⟩ (fun v F1 w1 H locs hq hle hou V => ?_)
        obtain ⟨rfl, rfl, rfl⟩ := hq
        refine W.eq (g2 := F0 m 26 ls [iV (bZ (decide (sn.getD i [] = t))), iV (cnt (sn.take i) t : Nat)]) rfl ?_
        have V : VV G _ _ F [] _ _ _ := V
        have hbz := bZ_cases (decide (sn.getD i [] = t))
        have hcs := cnt_snoc (w := t) (show i < sn.length by omega)
        refine z_if_eq (tgt := 33) hx hb (by omega) dX24_times_26 (by decide) (fun c26 => ?_) (fun c26 => ?_)
        · skip
          rw [if_neg (by simpa using (hbz.resolve_left (by omega)).1)] at hcs
          refine lv_iconst (v := iZ 0) hx hb dX24_times_33 rfl ?_
          refine z_iadd hx hb dX24_times_34 ?_
          refine lv_istore_n (lv' := [(2, iV ((cnt (sn.take i) t : Nat) + 0)), (0, .ref a), (1, .ref b), (3, iV (i : Nat))]) hx hb dX24_times_35 rfl hl (by decide) rfl (fun ls hl => ?_)
          refine lv_iinc (v := iZ ((i : Nat) + 1)) (lv' := [(3, iV ((i : Nat) + 1)), (2, iV ((cnt (sn.take i) t : Nat) + 0)), (0, .ref a), (1, .ref b)]) hx hb dX24_times_36 hl (k := 3) rfl (iZ_add _ _) (by decide) rfl (fun ls hl => ?_)
          rw [show ((cnt (sn.take i) t : Nat) : Int) + 0 = ((cnt (sn.take (i + 1)) t : Nat) : Int) by omega] at hl
          refine lv_goto (tgt := 4) hx hb dX24_times_39 (by decide) ?_
          exact ih_loop (i + 1) _ _ _ (by omega) (by omega) V (lv_sub hl [2, 3, 1, 0] rfl)
        · skip
          rw [if_pos (by simpa using (hbz.resolve_right (by omega)).1)] at hcs
          refine lv_iconst (v := iZ 1) hx hb dX24_times_29 rfl ?_
          refine lv_goto (tgt := 34) hx hb dX24_times_30 (by decide) ?_
          refine z_iadd hx hb dX24_times_34 ?_
          refine lv_istore_n (lv' := [(2, iV ((cnt (sn.take i) t : Nat) + 1)), (0, .ref a), (1, .ref b), (3, iV (i : Nat))]) hx hb dX24_times_35 rfl hl (by decide) rfl (fun ls hl => ?_)
          refine lv_iinc (v := iZ ((i : Nat) + 1)) (lv' := [(3, iV ((i : Nat) + 1)), (2, iV ((cnt (sn.take i) t : Nat) + 1)), (0, .ref a), (1, .ref b)]) hx hb dX24_times_36 hl (k := 3) rfl (iZ_add _ _) (by decide) rfl (fun ls hl => ?_)
          rw [show ((cnt (sn.take i) t : Nat) : Int) + 1 = ((cnt (sn.take (i + 1)) t : Nat) : Int) by omega] at hl
          refine lv_goto (tgt := 4) hx hb dX24_times_39 (by decide) ?_
          exact ih_loop (i + 1) _ _ _ (by omega) (by omega) V (lv_sub hl [2, 3, 1, 0] rfl)
  exact loop _ 0 _ _ _ (Nat.lt_succ_self _) (Nat.zero_le _) V (lv_sub hl [2, 3, 1, 0] rfl)
set_option maxHeartbeats 4000000 in
theorem ct_W_has (l : Launch) (G : gG) {F : fS} {Ha : Heap} (a b : Nat) (sn : List (List Nat)) (t : List Nat) (h : SNF G F a sn) (ht : SH G F b t) (hp : Hp G F [] Ha) : CT l G yX24_has cX24_has 2 (some .boolean) 6 120 0 0 [.ref a, .ref b] F [] Ha (fun rv F' w' => rv = some (iV (bZ (decide (0 < cnt sn t)))) ∧ F = F' ∧ w' = []) := by
  refine z_of hp (Or.inl (by decide)) (Nat.le_of_ble_eq_true rfl) ?_
  intro p e s m below meth c ls hx hb hr hml hts hown hlk hnm hk hsH V hl
  have hl : lv_has ls 2 [(0, .ref a), (1, .ref b)] := hl
  have hl9 := h.len
  have hc9 := cnt_le sn t
  refine lv_aload_n hx hb dX24_has_0 rfl (lv_at hl 0 rfl) ?_
  refine lv_aload_n hx hb dX24_has_1 rfl (lv_at hl 1 rfl) ?_
  refine z_callFD (z_at hk 13 rfl) ⟨hx, hb, hml, hown, hts⟩ hk hl.1 V (wc := []) (wr := []) [] [] rfl rfl rfl rfl (by decide) (As := [.ref b]) (rest := []) (fun hp => ct_W_times l G a b sn t h ht hp) ⟨z_rm hts (lw_meth q1177) rfl rfl ⟨Nat.le_of_ble_eq_true rfl, Nat.le_of_ble_eq_true rfl⟩, hts _ q3140, hts _ q1170, va_Nw.use rfl (hk.I 14 rfl).1, va_Nw.use rfl (hk.I 14 rfl).2.1, hk.dfu 1 rfl, hts _ q1175, va_Nw.use rfl (hk.I 14 rfl).2.2.1, va_Nw.use rfl (hk.I 14 rfl).2.2.2.2, by decide, z_len (n := 1) (by decide +kernel)⟩ (z_rc hk (Classical.choose_spec (h.at V)) (q := (RX6, TX6, 2)) rfl) rfl rfl (Nat.le_of_ble_eq_true rfl) dX24_has_2 ⟨Nat.le_of_ble_eq_true rfl, Nat.le_of_ble_eq_true rfl⟩ (fun v F1 w1 H locs hq hle hou V => ?_)
  obtain ⟨rfl, rfl, rfl⟩ := hq
  refine W.eq (g2 := F0 m 7 ls [iV (cnt sn t : Nat)]) rfl ?_
  have V : VV G _ _ F [] _ _ _ := V
  refine z_if_le (tgt := 14) hx hb (by omega) dX24_has_7 (by decide) (fun c7 => ?_) (fun c7 => ?_)
  · skip
    refine lv_iconst (v := iZ 0) hx hb dX24_has_14 rfl ?_
    exact z_iret hx hb hr hlk V rfl dX24_has_15 ⟨by rw [decide_eq_false (by omega)]; rfl, rfl, rfl⟩ ⟨Nat.le_of_ble_eq_true rfl, Nat.le_of_ble_eq_true rfl⟩
  · skip
    refine lv_iconst (v := iZ 1) hx hb dX24_has_10 rfl ?_
    refine lv_goto (tgt := 15) hx hb dX24_has_11 (by decide) ?_
    exact z_iret hx hb hr hlk V rfl dX24_has_15 ⟨by rw [decide_eq_true (by omega)]; rfl, rfl, rfl⟩ ⟨Nat.le_of_ble_eq_true rfl, Nat.le_of_ble_eq_true rfl⟩
def eqTo (sn q : List (List Nat)) (k n : Nat) : Bool := decide (∀ j, j < n → sn.getD j [] = q.getD (k + j) [])
def isInB (sn q : List (List Nat)) (k : Nat) : Bool := decide (k + sn.length ≤ q.length) && eqTo sn q k sn.length
theorem eqTo_0 (sn q : List (List Nat)) (k : Nat) : eqTo sn q k 0 = true := decide_eq_true (fun j hj => absurd hj (Nat.not_lt_zero j))
theorem eqTo_s (sn q : List (List Nat)) (k n : Nat) (h : eqTo sn q k n = true) : eqTo sn q k (n + 1) = decide (sn.getD n [] = q.getD (k + n) []) := by
  have h' := of_decide_eq_true h
  unfold eqTo
  apply decide_eq_decide.mpr
  constructor
  · intro g; exact g n (by omega)
  · intro g j hj
    by_cases e : j = n
    · subst e; exact g
    · exact h' j (by omega)
theorem eqTo_f (sn q : List (List Nat)) (k n m : Nat) (hn : n ≤ m) (h : eqTo sn q k n = false) : eqTo sn q k m = false := by
  apply decide_eq_false
  intro g
  exact of_decide_eq_false h (fun j hj => g j (by omega))
set_option maxHeartbeats 4000000 in
theorem ct_W_isIn (l : Launch) (G : gG) {F : fS} {Ha : Heap} (a b : Nat) (sn q : List (List Nat)) (k : Nat) (h : SNF G F a sn) (h2 : SNF G F b q) (hk9 : k ≤ 100) (hp : Hp G F [] Ha) : CT l G yX24_isIn cX24_isIn 5 (some .boolean) 5 97 0 0 [.ref a, .ref b, iV (k : Nat)] F [] Ha (fun rv F' w' => rv = some (iV (bZ (isInB sn q k))) ∧ F = F' ∧ w' = []) := by
  refine z_of hp (Or.inl (by decide)) (Nat.le_of_ble_eq_true rfl) ?_
  intro p e s m below meth c ls hx hb hr hml hts hown hlk hnm hk hsH V hl
  have hl : lv_has ls 5 [(0, .ref a), (1, .ref b), (2, iV (k : Nat))] := hl
  have l1 := h.len
  have l2 := h2.len
  refine lv_iload_n hx hb dX24_isIn_0 rfl (lv_at hl 2 rfl) ?_
  refine lv_aload_n hx hb dX24_isIn_1 rfl (lv_at hl 0 rfl) ?_
  refine z_callF (z_at hk 13 rfl) ⟨hx, hb, hml, hown, hts⟩ hk hl.1 V (wc := []) (wr := []) [] [] rfl rfl rfl rfl (by decide) (As := []) (rest := [iV (k : Nat)]) (fun hp => ct_SN_count l G a sn h hp) (va_cwF 0 hts (lw_app (lw_in4 q1179 q1182 q1068 q104) (lw_meth q1070)) rfl rfl rfl (hk.I 12 rfl) (by decide +kernel) ⟨Nat.le_of_ble_eq_true rfl, Nat.le_of_ble_eq_true rfl⟩) (z_rc hk (Classical.choose_spec (h.at V)) (q := (RX6, TX6, 2)) rfl) rfl rfl (Nat.le_of_ble_eq_true rfl) dX24_isIn_2 ⟨Nat.le_of_ble_eq_true rfl, Nat.le_of_ble_eq_true rfl⟩ (fun v F1 w1 H locs hq hle hou V => ?_)
  obtain ⟨rfl, rfl, rfl⟩ := hq
  refine W.eq (g2 := F0 m 7 ls [iV (sn.length : Nat), iV (k : Nat)]) rfl ?_
  have V : VV G _ _ F [] _ _ _ := V
  refine z_iadd hx hb dX24_isIn_7 ?_
  refine lv_aload_n hx hb dX24_isIn_8 rfl (lv_at hl 1 rfl) ?_
  refine z_callF (z_at hk 13 rfl) ⟨hx, hb, hml, hown, hts⟩ hk hl.1 V (wc := []) (wr := []) [] [] rfl rfl rfl rfl (by decide) (As := []) (rest := [iV ((k : Nat) + (sn.length : Nat))]) (fun hp => ct_SN_count l G b q h2 hp) (va_cwF 0 hts (lw_app (lw_in4 q1179 q1182 q1068 q104) (lw_meth q1070)) rfl rfl rfl (hk.I 12 rfl) (by decide +kernel) ⟨Nat.le_of_ble_eq_true rfl, Nat.le_of_ble_eq_true rfl⟩) (z_rc hk (Classical.choose_spec (h2.at V)) (q := (RX6, TX6, 2)) rfl) rfl rfl (Nat.le_of_ble_eq_true rfl) dX24_isIn_9 ⟨Nat.le_of_ble_eq_true rfl, Nat.le_of_ble_eq_true rfl⟩ (fun v F1 w1 H locs hq hle hou V => ?_)
  obtain ⟨rfl, rfl, rfl⟩ := hq
  refine W.eq (g2 := F0 m 14 ls [iV (q.length : Nat), iV ((k : Nat) + (sn.length : Nat))]) rfl ?_
  have V : VV G _ _ F [] _ _ _ := V
  refine z_icmp_gt (tgt := 21) hx hb (by omega) dX24_isIn_14 (by decide) (fun c14 => ?_) (fun c14 => ?_)
  · skip
    refine lv_iconst (v := iZ 0) hx hb dX24_isIn_21 rfl ?_
    refine lv_istore_n (lv' := [(3, iV 0), (0, .ref a), (1, .ref b), (2, iV (k : Nat))]) hx hb dX24_isIn_22 rfl hl (by decide) rfl (fun ls hl => ?_)
    refine lv_iconst (v := iZ 0) hx hb dX24_isIn_23 rfl ?_
    refine lv_istore (lv' := [(4, iV 0), (3, iV 0), (0, .ref a), (1, .ref b), (2, iV (k : Nat))]) hx hb dX24_isIn_24 hl (by decide) rfl (fun ls hl => ?_)
    have loop : ∀ (n : Nat) (i : Nat) (z : Bool) (H : Heap) (locs : List Loc) (ls : Array Slot), sn.length - i < n → (i ≤ sn.length) → (z = (decide (k + sn.length ≤ q.length) && eqTo sn q k i)) → VV G (FR F [] Ha) F F [] Ha H locs → lv_has ls 5 [(0, .ref a), (1, .ref b), (2, iV (k : Nat)), (3, iV (bZ z)), (4, iV (i : Nat))] → W p l e ({ frames := 5, cells := 0, slots := 0, locals := 97 } : Room) s m [.ref a, .ref b, iV (k : Nat)].toArray below meth c H locs 0 0 (MQ below (Qz G F [] Ha (fun rv F' w' => rv = some (iV (bZ (isInB sn q k))) ∧ F = F' ∧ w' = [])) [.ref a, .ref b, iV (k : Nat)].toArray s 0 0 (FR F [] Ha)) (F0 m 26 ls []) := by
      intro n
      induction n with
      | zero => intro i z H locs ls hm9; exact absurd hm9 (Nat.not_lt_zero _)
      | succ n ih_loop =>
        intro i z H locs ls hm9 hi hz V hl
        refine lv_iload hx hb dX24_isIn_26 (lv_at hl 4 rfl) ?_
        refine lv_aload_n hx hb dX24_isIn_28 rfl (lv_at hl 0 rfl) ?_
        refine z_callF (z_at hk 13 rfl) ⟨hx, hb, hml, hown, hts⟩ hk hl.1 V (wc := []) (wr := []) [] [] rfl rfl rfl rfl (by decide) (As := []) (rest := [iV (i : Nat)]) (fun hp => ct_SN_count l G a sn h hp) (va_cwF 0 hts (lw_app (lw_in4 q1179 q1182 q1068 q104) (lw_meth q1070)) rfl rfl rfl (hk.I 12 rfl) (by decide +kernel) ⟨Nat.le_of_ble_eq_true rfl, Nat.le_of_ble_eq_true rfl⟩) (z_rc hk (Classical.choose_spec (h.at V)) (q := (RX6, TX6, 2)) rfl) rfl rfl (Nat.le_of_ble_eq_true rfl) dX24_isIn_29 ⟨Nat.le_of_ble_eq_true rfl, Nat.le_of_ble_eq_true rfl⟩ (fun v F1 w1 H locs hq hle hou V => ?_)
        obtain ⟨rfl, rfl, rfl⟩ := hq
        refine W.eq (g2 := F0 m 34 ls [iV (sn.length : Nat), iV (i : Nat)]) rfl ?_
        have V : VV G _ _ F [] _ _ _ := V
        have hbz := bZ_cases z
        refine z_icmp_ge (tgt := 69) hx hb (by omega) dX24_isIn_34 (by decide) (fun c34 => ?_) (fun c34 => ?_)
        · skip
          refine lv_iload_n hx hb dX24_isIn_69 rfl (lv_at hl 3 rfl) ?_
          exact z_iret hx hb hr hlk V (nr_b (by omega)) dX24_isIn_70 ⟨by rw [hz, show i = sn.length by omega]; rfl, rfl, rfl⟩ ⟨Nat.le_of_ble_eq_true rfl, Nat.le_of_ble_eq_true rfl⟩
        · skip
          refine lv_iload_n hx hb dX24_isIn_37 rfl (lv_at hl 3 rfl) ?_
          refine z_if_eq (tgt := 69) hx hb (by omega) dX24_isIn_38 (by decide) (fun c38 => ?_) (fun c38 => ?_)
          · skip
            refine lv_iload_n hx hb dX24_isIn_69 rfl (lv_at hl 3 rfl) ?_
            exact z_iret hx hb hr hlk V (nr_b (by omega)) dX24_isIn_70 ⟨by have hzf := (hbz.resolve_left (by omega)).1; rw [hzf] at hz ⊢; unfold isInB; cases hd : decide (k + sn.length ≤ q.length) with
            | false => rfl
            | true => rw [hd] at hz; rw [eqTo_f sn q k i sn.length (by omega) (by simpa using hz.symm)]; rfl, rfl, rfl⟩ ⟨Nat.le_of_ble_eq_true rfl, Nat.le_of_ble_eq_true rfl⟩
          · skip
            have hzt := (hbz.resolve_right (by omega)).1
            rw [hzt] at hz
            have hq := Bool.and_eq_true_iff.mp hz.symm
            have hle := of_decide_eq_true hq.1
            refine lv_aload_n hx hb dX24_isIn_41 rfl (lv_at hl 0 rfl) ?_
            refine lv_iload hx hb dX24_isIn_42 (lv_at hl 4 rfl) ?_
            refine z_callF (z_at hk 13 rfl) ⟨hx, hb, hml, hown, hts⟩ hk hl.1 V (wc := []) (wr := []) [] [] rfl rfl rfl rfl (by decide) (As := [iV (i : Nat)]) (rest := []) (fun hp => ct_SN_word l G a sn h i (by omega) hp) (va_cwF 1 hts (lw_app (lw_in4 q1186 q1189 q1191 q104) (lw_meth q1193)) rfl rfl rfl (hk.I 13 rfl) (by decide +kernel) ⟨Nat.le_of_ble_eq_true rfl, Nat.le_of_ble_eq_true rfl⟩) (z_rc hk (Classical.choose_spec (h.at V)) (q := (RX6, TX6, 2)) rfl) rfl rfl (Nat.le_of_ble_eq_true rfl) dX24_isIn_44 ⟨Nat.le_of_ble_eq_true rfl, Nat.le_of_ble_eq_true rfl⟩ (fun v F1 w1 H locs hq hle hou V => ?_)
            obtain ⟨x, rfl, rfl, hx9, rfl⟩ := hq
            refine W.eq (g2 := F0 m 49 ls [.ref x]) rfl ?_
            have V : VV G _ _ F [] _ _ _ := V
            refine lv_aload_n hx hb dX24_isIn_49 rfl (lv_at hl 1 rfl) ?_
            refine lv_iload_n hx hb dX24_isIn_50 rfl (lv_at hl 2 rfl) ?_
            refine lv_iload hx hb dX24_isIn_51 (lv_at hl 4 rfl) ?_
            refine z_iadd hx hb dX24_isIn_53 ?_
            have ek : ((k : Nat) : Int) + (i : Nat) = ((k + i : Nat) : Int) := by omega
            rw [ek]
            refine z_callF (z_at hk 13 rfl) ⟨hx, hb, hml, hown, hts⟩ hk hl.1 V (wc := []) (wr := []) [] [] rfl rfl rfl rfl (by decide) (As := [iV ((k + i : Nat) : Int)]) (rest := [.ref x]) (fun hp => ct_SN_word l G b q h2 (k + i) (by omega) hp) (va_cwF 1 hts (lw_app (lw_in4 q1186 q1189 q1191 q104) (lw_meth q1193)) rfl rfl rfl (hk.I 13 rfl) (by decide +kernel) ⟨Nat.le_of_ble_eq_true rfl, Nat.le_of_ble_eq_true rfl⟩) (z_rc hk (Classical.choose_spec (h2.at V)) (q := (RX6, TX6, 2)) rfl) rfl rfl (Nat.le_of_ble_eq_true rfl) dX24_isIn_54 ⟨Nat.le_of_ble_eq_true rfl, Nat.le_of_ble_eq_true rfl⟩ (fun v F1 w1 H locs hq hle hou V => ?_)
            obtain ⟨y, rfl, rfl, hy9, rfl⟩ := hq
            refine W.eq (g2 := F0 m 59 ls [.ref y, .ref x]) rfl ?_
            have V : VV G _ _ F [] _ _ _ := V
            refine z_callV ⟨hx, hb, hml, hown, hts⟩ hk hl.1 V (wc := []) (wr := []) [] [] rfl rfl rfl rfl (by decide) (As := [.ref y]) (rest := []) (fun hp => ct_S_equals l G x y (sn.getD i []) (q.getD (k + i) []) (Or.inl hx9) (Or.inl hy9) hp) (cwV 1 hts (lw_V q1197 q1098 q1099 q81 q1100) rfl rfl rfl (by decide +kernel) ⟨Nat.le_of_ble_eq_true rfl, Nat.le_of_ble_eq_true rfl⟩) (z_rc hk (Classical.choose_spec ((SF.at4 (Or.inl hx9)) V)) (q := (RJ6, TJ6, 4)) rfl) rfl rfl (Nat.le_of_ble_eq_true rfl) dX24_isIn_59 ⟨Nat.le_of_ble_eq_true rfl, Nat.le_of_ble_eq_true rfl⟩ (fun v F1 w1 H locs hq hle hou V => ?_)
            obtain ⟨rfl, rfl, rfl⟩ := hq
            refine W.eq (g2 := F0 m 62 ls [iV (bZ (decide (sn.getD i [] = q.getD (k + i) [])))]) rfl ?_
            have V : VV G _ _ F [] _ _ _ := V
            refine lv_istore_n (lv' := [(3, iV (bZ (decide (sn.getD i [] = q.getD (k + i) [])))), (0, .ref a), (1, .ref b), (2, iV (k : Nat)), (4, iV (i : Nat))]) hx hb dX24_isIn_62 rfl hl (by decide) rfl (fun ls hl => ?_)
            refine lv_iinc (v := iZ ((i : Nat) + 1)) (lv' := [(4, iV ((i : Nat) + 1)), (3, iV (bZ (decide (sn.getD i [] = q.getD (k + i) [])))), (0, .ref a), (1, .ref b), (2, iV (k : Nat))]) hx hb dX24_isIn_63 hl (k := 4) rfl (iZ_add _ _) (by decide) rfl (fun ls hl => ?_)
            refine lv_goto (tgt := 26) hx hb dX24_isIn_66 (by decide) ?_
            exact ih_loop (i + 1) (decide (sn.getD i [] = q.getD (k + i) [])) _ _ _ (by omega) (by omega) (by rw [eqTo_s sn q k i hq.2, hq.1]; rfl) V (lv_sub hl [2, 3, 4, 1, 0] rfl)
    exact loop _ 0 false _ _ _ (Nat.lt_succ_self _) (Nat.zero_le _) (by rw [decide_eq_false (by omega)]; rfl) V (lv_sub hl [2, 3, 4, 1, 0] rfl)
  · skip
    refine lv_iconst (v := iZ 1) hx hb dX24_isIn_17 rfl ?_
    refine lv_goto (tgt := 22) hx hb dX24_isIn_18 (by decide) ?_
    refine lv_istore_n (lv' := [(3, iV 1), (0, .ref a), (1, .ref b), (2, iV (k : Nat))]) hx hb dX24_isIn_22 rfl hl (by decide) rfl (fun ls hl => ?_)
    refine lv_iconst (v := iZ 0) hx hb dX24_isIn_23 rfl ?_
    refine lv_istore (lv' := [(4, iV 0), (3, iV 1), (0, .ref a), (1, .ref b), (2, iV (k : Nat))]) hx hb dX24_isIn_24 hl (by decide) rfl (fun ls hl => ?_)
    have loop : ∀ (n : Nat) (i : Nat) (z : Bool) (H : Heap) (locs : List Loc) (ls : Array Slot), sn.length - i < n → (i ≤ sn.length) → (z = (decide (k + sn.length ≤ q.length) && eqTo sn q k i)) → VV G (FR F [] Ha) F F [] Ha H locs → lv_has ls 5 [(0, .ref a), (1, .ref b), (2, iV (k : Nat)), (3, iV (bZ z)), (4, iV (i : Nat))] → W p l e ({ frames := 5, cells := 0, slots := 0, locals := 97 } : Room) s m [.ref a, .ref b, iV (k : Nat)].toArray below meth c H locs 0 0 (MQ below (Qz G F [] Ha (fun rv F' w' => rv = some (iV (bZ (isInB sn q k))) ∧ F = F' ∧ w' = [])) [.ref a, .ref b, iV (k : Nat)].toArray s 0 0 (FR F [] Ha)) (F0 m 26 ls []) := by
      intro n
      induction n with
      | zero => intro i z H locs ls hm9; exact absurd hm9 (Nat.not_lt_zero _)
      | succ n ih_loop =>
        intro i z H locs ls hm9 hi hz V hl
        refine lv_iload hx hb dX24_isIn_26 (lv_at hl 4 rfl) ?_
        refine lv_aload_n hx hb dX24_isIn_28 rfl (lv_at hl 0 rfl) ?_
        refine z_callF (z_at hk 13 rfl) ⟨hx, hb, hml, hown, hts⟩ hk hl.1 V (wc := []) (wr := []) [] [] rfl rfl rfl rfl (by decide) (As := []) (rest := [iV (i : Nat)]) (fun hp => ct_SN_count l G a sn h hp) (va_cwF 0 hts (lw_app (lw_in4 q1179 q1182 q1068 q104) (lw_meth q1070)) rfl rfl rfl (hk.I 12 rfl) (by decide +kernel) ⟨Nat.le_of_ble_eq_true rfl, Nat.le_of_ble_eq_true rfl⟩) (z_rc hk (Classical.choose_spec (h.at V)) (q := (RX6, TX6, 2)) rfl) rfl rfl (Nat.le_of_ble_eq_true rfl) dX24_isIn_29 ⟨Nat.le_of_ble_eq_true rfl, Nat.le_of_ble_eq_true rfl⟩ (fun v F1 w1 H locs hq hle hou V => ?_)
        obtain ⟨rfl, rfl, rfl⟩ := hq
        refine W.eq (g2 := F0 m 34 ls [iV (sn.length : Nat), iV (i : Nat)]) rfl ?_
        have V : VV G _ _ F [] _ _ _ := V
        have hbz := bZ_cases z
        refine z_icmp_ge (tgt := 69) hx hb (by omega) dX24_isIn_34 (by decide) (fun c34 => ?_) (fun c34 => ?_)
        · skip
          refine lv_iload_n hx hb dX24_isIn_69 rfl (lv_at hl 3 rfl) ?_
          exact z_iret hx hb hr hlk V (nr_b (by omega)) dX24_isIn_70 ⟨by rw [hz, show i = sn.length by omega]; rfl, rfl, rfl⟩ ⟨Nat.le_of_ble_eq_true rfl, Nat.le_of_ble_eq_true rfl⟩
        · skip
          refine lv_iload_n hx hb dX24_isIn_37 rfl (lv_at hl 3 rfl) ?_
          refine z_if_eq (tgt := 69) hx hb (by omega) dX24_isIn_38 (by decide) (fun c38 => ?_) (fun c38 => ?_)
          · skip
            refine lv_iload_n hx hb dX24_isIn_69 rfl (lv_at hl 3 rfl) ?_
            exact z_iret hx hb hr hlk V (nr_b (by omega)) dX24_isIn_70 ⟨by have hzf := (hbz.resolve_left (by omega)).1; rw [hzf] at hz ⊢; unfold isInB; cases hd : decide (k + sn.length ≤ q.length) with
            | false => rfl
            | true => rw [hd] at hz; rw [eqTo_f sn q k i sn.length (by omega) (by simpa using hz.symm)]; rfl, rfl, rfl⟩ ⟨Nat.le_of_ble_eq_true rfl, Nat.le_of_ble_eq_true rfl⟩
          · skip
            have hzt := (hbz.resolve_right (by omega)).1
            rw [hzt] at hz
            have hq := Bool.and_eq_true_iff.mp hz.symm
            have hle := of_decide_eq_true hq.1
            refine lv_aload_n hx hb dX24_isIn_41 rfl (lv_at hl 0 rfl) ?_
            refine lv_iload hx hb dX24_isIn_42 (lv_at hl 4 rfl) ?_
            refine z_callF (z_at hk 13 rfl) ⟨hx, hb, hml, hown, hts⟩ hk hl.1 V (wc := []) (wr := []) [] [] rfl rfl rfl rfl (by decide) (As := [iV (i : Nat)]) (rest := []) (fun hp => ct_SN_word l G a sn h i (by omega) hp) (va_cwF 1 hts (lw_app (lw_in4 q1186 q1189 q1191 q104) (lw_meth q1193)) rfl rfl rfl (hk.I 13 rfl) (by decide +kernel) ⟨Nat.le_of_ble_eq_true rfl, Nat.le_of_ble_eq_true rfl⟩) (z_rc hk (Classical.choose_spec (h.at V)) (q := (RX6, TX6, 2)) rfl) rfl rfl (Nat.le_of_ble_eq_true rfl) dX24_isIn_44 ⟨Nat.le_of_ble_eq_true rfl, Nat.le_of_ble_eq_true rfl⟩ (fun v F1 w1 H locs hq hle hou V => ?_)
            obtain ⟨x, rfl, rfl, hx9, rfl⟩ := hq
            refine W.eq (g2 := F0 m 49 ls [.ref x]) rfl ?_
            have V : VV G _ _ F [] _ _ _ := V
            refine lv_aload_n hx hb dX24_isIn_49 rfl (lv_at hl 1 rfl) ?_
            refine lv_iload_n hx hb dX24_isIn_50 rfl (lv_at hl 2 rfl) ?_
            refine lv_iload hx hb dX24_isIn_51 (lv_at hl 4 rfl) ?_
            refine z_iadd hx hb dX24_isIn_53 ?_
            have ek : ((k : Nat) : Int) + (i : Nat) = ((k + i : Nat) : Int) := by omega
            rw [ek]
            refine z_callF (z_at hk 13 rfl) ⟨hx, hb, hml, hown, hts⟩ hk hl.1 V (wc := []) (wr := []) [] [] rfl rfl rfl rfl (by decide) (As := [iV ((k + i : Nat) : Int)]) (rest := [.ref x]) (fun hp => ct_SN_word l G b q h2 (k + i) (by omega) hp) (va_cwF 1 hts (lw_app (lw_in4 q1186 q1189 q1191 q104) (lw_meth q1193)) rfl rfl rfl (hk.I 13 rfl) (by decide +kernel) ⟨Nat.le_of_ble_eq_true rfl, Nat.le_of_ble_eq_true rfl⟩) (z_rc hk (Classical.choose_spec (h2.at V)) (q := (RX6, TX6, 2)) rfl) rfl rfl (Nat.le_of_ble_eq_true rfl) dX24_isIn_54 ⟨Nat.le_of_ble_eq_true rfl, Nat.le_of_ble_eq_true rfl⟩ (fun v F1 w1 H locs hq hle hou V => ?_)
            obtain ⟨y, rfl, rfl, hy9, rfl⟩ := hq
            refine W.eq (g2 := F0 m 59 ls [.ref y, .ref x]) rfl ?_
            have V : VV G _ _ F [] _ _ _ := V
            refine z_callV ⟨hx, hb, hml, hown, hts⟩ hk hl.1 V (wc := []) (wr := []) [] [] rfl rfl rfl rfl (by decide) (As := [.ref y]) (rest := []) (fun hp => ct_S_equals l G x y (sn.getD i []) (q.getD (k + i) []) (Or.inl hx9) (Or.inl hy9) hp) (cwV 1 hts (lw_V q1197 q1098 q1099 q81 q1100) rfl rfl rfl (by decide +kernel) ⟨Nat.le_of_ble_eq_true rfl, Nat.le_of_ble_eq_true rfl⟩) (z_rc hk (Classical.choose_spec ((SF.at4 (Or.inl hx9)) V)) (q := (RJ6, TJ6, 4)) rfl) rfl rfl (Nat.le_of_ble_eq_true rfl) dX24_isIn_59 ⟨Nat.le_of_ble_eq_true rfl, Nat.le_of_ble_eq_true rfl⟩ (fun v F1 w1 H locs hq hle hou V => ?_)
            obtain ⟨rfl, rfl, rfl⟩ := hq
            refine W.eq (g2 := F0 m 62 ls [iV (bZ (decide (sn.getD i [] = q.getD (k + i) [])))]) rfl ?_
            have V : VV G _ _ F [] _ _ _ := V
            refine lv_istore_n (lv' := [(3, iV (bZ (decide (sn.getD i [] = q.getD (k + i) [])))), (0, .ref a), (1, .ref b), (2, iV (k : Nat)), (4, iV (i : Nat))]) hx hb dX24_isIn_62 rfl hl (by decide) rfl (fun ls hl => ?_)
            refine lv_iinc (v := iZ ((i : Nat) + 1)) (lv' := [(4, iV ((i : Nat) + 1)), (3, iV (bZ (decide (sn.getD i [] = q.getD (k + i) [])))), (0, .ref a), (1, .ref b), (2, iV (k : Nat))]) hx hb dX24_isIn_63 hl (k := 4) rfl (iZ_add _ _) (by decide) rfl (fun ls hl => ?_)
            refine lv_goto (tgt := 26) hx hb dX24_isIn_66 (by decide) ?_
            exact ih_loop (i + 1) (decide (sn.getD i [] = q.getD (k + i) [])) _ _ _ (by omega) (by omega) (by rw [eqTo_s sn q k i hq.2, hq.1]; rfl) V (lv_sub hl [2, 3, 4, 1, 0] rfl)
    exact loop _ 0 true _ _ _ (Nat.lt_succ_self _) (Nat.zero_le _) (by rw [decide_eq_true (by omega), eqTo_0]; rfl) V (lv_sub hl [2, 3, 4, 1, 0] rfl)
