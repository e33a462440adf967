/-! JDK: String.hashCode, Integer, HashMap, HashSet (printed by gen/jdk6.py) -/
set_option maxRecDepth 100000
theorem SH.at {G : gG} {F : fS} {a : Nat} {t : List Nat} (h : SH G F a t) {A : Nat → Prop} {F0 : fS} {ws : va_W} {H0 H : Heap} {locs : List Loc} (V : VV G A F0 F ws H0 H locs) : ∃ (v : Nat) (h1 z1 : Int), F a = some (.inr (.inl (v, jhash t))) ∧ (zB h1 ∧ zB z1) ∧ ((h1 = 0 ∧ z1 = 0) ∨ (h1 = jz t ∧ z1 = 0) ∨ (jz t = 0 ∧ h1 = 0 ∧ z1 = 1)) ∧ va_at G.1 CL (a, ob 4 [.ref v, iV 0, iV h1, iV z1]) H ∧ BF G F v t := by
  obtain ⟨v, h1, h2⟩ := h
  obtain ⟨hh, zz, hr, hc⟩ := V.fs h1
  obtain ⟨x, bx, rfl⟩ := i32_split hh
  obtain ⟨y, by_, rfl⟩ := i32_split zz
  have b0 : zB 0 := by decide
  have b1 : zB 1 := by decide
  have bj := jz_B t
  refine ⟨v, x, y, h1, ⟨bx, by_⟩, ?_, hc, h2⟩
  have e0 : (0 : Int32) = iZ 0 := rfl
  have e1 : (1 : Int32) = iZ 1 := rfl
  rw [e0, e1, ← jz_Z t, iZ_eq ⟨bx, b0⟩, iZ_eq ⟨by_, b0⟩, iZ_eq ⟨bx, bj⟩, iZ_eq ⟨bj, b0⟩, iZ_eq ⟨by_, b1⟩] at hr
  exact hr
set_option maxHeartbeats 4000000 in
theorem ct_S_hashCode (l : Launch) (G : gG) {F : fS} {Ha : Heap} (a : Nat) (t : List Nat) (h : SH G F a t) (hp : Hp G F [] Ha) : CT l G yJ6_hashCode cJ6_hashCode 2 (some .int) 4 81 0 0 [.ref a] F [] Ha (fun rv F' w' => rv = some (iV (jz t)) ∧ F = F' ∧ w' = []) := by
  refine z_of hp (Or.inl (by decide)) (Nat.le_of_ble_eq_true rfl) ?_
  intro p e s m below meth c ls hx hb hr hml hts hown hlk hnm hk hsH V hl
  have hl : lv_has ls 2 [(0, .ref a)] := hl
  have h' : SF G F a t := Or.inl h
  have bj := jz_B t
  obtain ⟨v, h1, z1, hF, hB, hrel, hat, hbf⟩ := SH.at h V
  refine lv_aload_n hx hb dJ6_hashCode_0 rfl (lv_at hl 0 rfl) ?_
  refine z_get hx hb hts hk hown K_J6 hat 2 (by decide) q852 (fun _ h => h) rfl dJ6_hashCode_1 ?_
  refine lv_istore_n (lv' := [(1, iV h1), (0, .ref a)]) hx hb dJ6_hashCode_4 rfl hl (by decide) rfl (fun ls hl => ?_)
  refine lv_iload_n hx hb dJ6_hashCode_5 rfl (lv_at hl 0 rfl) ?_
  refine z_if_ne (tgt := 58) hx hb (by omega) dJ6_hashCode_6 (by decide) (fun c6 => ?_) (fun c6 => ?_)
  · skip
    refine lv_iload_n hx hb dJ6_hashCode_58 rfl (lv_at hl 0 rfl) ?_
    exact z_iret hx hb hr hlk V rfl dJ6_hashCode_59 ⟨by rw [show h1 = jz t by omega], rfl, rfl⟩ ⟨Nat.le_of_ble_eq_true rfl, Nat.le_of_ble_eq_true rfl⟩
  · skip
    refine lv_aload_n hx hb dJ6_hashCode_9 rfl (lv_at hl 1 rfl) ?_
    refine z_get hx hb hts hk hown K_J6 hat 3 (by decide) q853 (fun _ h => h) rfl dJ6_hashCode_10 ?_
    refine z_if_ne (tgt := 58) hx hb (by omega) dJ6_hashCode_13 (by decide) (fun c13 => ?_) (fun c13 => ?_)
    · skip
      refine lv_iload_n hx hb dJ6_hashCode_58 rfl (lv_at hl 0 rfl) ?_
      exact z_iret hx hb hr hlk V rfl dJ6_hashCode_59 ⟨by rw [show h1 = jz t by omega], rfl, rfl⟩ ⟨Nat.le_of_ble_eq_true rfl, Nat.le_of_ble_eq_true rfl⟩
    · skip
      refine lv_aload_n hx hb dJ6_hashCode_16 rfl (lv_at hl 1 rfl) ?_
      refine z_callV ⟨hx, hb, hml, hown, hts⟩ hk hl.1 V (wc := []) (wr := []) [] [] rfl rfl rfl rfl (by decide) (As := []) (rest := []) (fun hp => ct_S_isLatin1 l G a t h' hp) (cwV 0 hts (lw_V q985 q986 q987 q81 q988) rfl rfl rfl (by decide +kernel) ⟨Nat.le_of_ble_eq_true rfl, Nat.le_of_ble_eq_true rfl⟩) (z_rc hk hat (q := (RJ6, TJ6, 4)) rfl) rfl rfl (Nat.le_of_ble_eq_true rfl) dJ6_hashCode_17 ⟨Nat.le_of_ble_eq_true rfl, Nat.le_of_ble_eq_true rfl⟩ (fun v F1 w1 H locs hq hle hou V => ?_)
      obtain ⟨rfl, rfl, rfl⟩ := hq
      refine W.eq (g2 := F0 m 20 ls [iV 1]) rfl ?_
      have V : VV G _ _ F [] _ _ _ := V
      refine z_if_eq (tgt := 33) hx hb (by omega) dJ6_hashCode_20 (by decide) (fun c20 => by omega) (fun c20 => ?_)
      obtain ⟨v, h2, z2, hF, hB2, hrel2, hat, hbf⟩ := SH.at h V
      refine lv_aload_n hx hb dJ6_hashCode_23 rfl (lv_at hl 1 rfl) ?_
      refine z_get hx hb hts hk hown K_J6 hat 0 (by decide) q850 (fun _ h => h) rfl dJ6_hashCode_24 ?_
      refine z_callS ⟨hx, hb, hml, hown, hts⟩ hk hl.1 V (wc := []) (wr := []) [] [] rfl rfl rfl rfl (by decide) (As := [.ref v]) (rest := []) (fun hp => ct_L_hashCode l G v t hbf hp) (va_cwS 1 hts (lw_S q1858 q1859 q93 q1860) rfl rfl rfl (by decide +kernel) ⟨Nat.le_of_ble_eq_true rfl, Nat.le_of_ble_eq_true rfl⟩) rfl rfl (Nat.le_of_ble_eq_true rfl) dJ6_hashCode_27 ⟨Nat.le_of_ble_eq_true rfl, Nat.le_of_ble_eq_true rfl⟩ (fun v F1 w1 H locs hq hle hou V => ?_)
      obtain ⟨rfl, rfl, rfl⟩ := hq
      refine W.eq (g2 := F0 m 30 ls [iV (jz t)]) rfl ?_
      have V : VV G _ _ F [] _ _ _ := V
      obtain ⟨v, h3, z3, hF, hB3, hrel3, hat, hbf⟩ := SH.at h V
      refine lv_goto (tgt := 40) hx hb dJ6_hashCode_30 (by decide) ?_
      refine lv_istore_n (lv' := [(1, iV (jz t)), (0, .ref a)]) hx hb dJ6_hashCode_40 rfl hl (by decide) rfl (fun ls hl => ?_)
      refine lv_iload_n hx hb dJ6_hashCode_41 rfl (lv_at hl 0 rfl) ?_
      refine z_if_ne (tgt := 53) hx hb (by omega) dJ6_hashCode_42 (by decide) (fun c42 => ?_) (fun c42 => ?_)
      · skip
        refine lv_aload_n hx hb dJ6_hashCode_53 rfl (lv_at hl 1 rfl) ?_
        refine lv_iload_n hx hb dJ6_hashCode_54 rfl (lv_at hl 0 rfl) ?_
        refine z_puth hx hb hts hk V (hh' := iZ (jz t)) (zz' := iZ z3) hown hF hat 2 (by decide) q852 (fun _ h => h) rfl K_J6 rfl rfl rfl (Or.inr (Or.inl ⟨jz_Z t, by rw [show z3 = 0 by omega]; rfl⟩)) dJ6_hashCode_55 (fun H locs V => ?_)
        refine lv_iload_n hx hb dJ6_hashCode_58 rfl (lv_at hl 0 rfl) ?_
        exact z_iret hx hb hr hlk V rfl dJ6_hashCode_59 ⟨rfl, rfl, rfl⟩ ⟨Nat.le_of_ble_eq_true rfl, Nat.le_of_ble_eq_true rfl⟩
      · skip
        refine lv_aload_n hx hb dJ6_hashCode_45 rfl (lv_at hl 1 rfl) ?_
        refine lv_iconst (v := iZ 1) hx hb dJ6_hashCode_46 rfl ?_
        refine z_puth hx hb hts hk V (hh' := iZ h3) (zz' := iZ 1) hown hF hat 3 (by decide) q853 (fun _ h => h) rfl K_J6 rfl rfl rfl (Or.inr (Or.inr ⟨by rw [← jz_Z t, show jz t = 0 by omega]; rfl, by rw [show h3 = 0 by omega]; rfl, rfl⟩)) dJ6_hashCode_47 (fun H locs V => ?_)
        refine lv_goto (tgt := 58) hx hb dJ6_hashCode_50 (by decide) ?_
        refine lv_iload_n hx hb dJ6_hashCode_58 rfl (lv_at hl 0 rfl) ?_
        exact z_iret hx hb hr hlk V rfl dJ6_hashCode_59 ⟨rfl, rfl, rfl⟩ ⟨Nat.le_of_ble_eq_true rfl, Nat.le_of_ble_eq_true rfl⟩
set_option maxHeartbeats 4000000 in
theorem ct_HM_hash (l : Launch) (G : gG) {F : fS} {Ha : Heap} (a : Nat) (t : List Nat) (h : SH G F a t) (hp : Hp G F [] Ha) : CT l G yJ30_hash cJ30_hash 2 (some .int) 5 102 0 0 [.ref a] F [] Ha (fun rv F' w' => rv = some (iV (hz t)) ∧ F = F' ∧ w' = []) := by
  refine z_of hp (Or.inl (by decide)) (Nat.le_of_ble_eq_true rfl) ?_
  intro p e s m below meth c ls hx hb hr hml hts hown hlk hnm hk hsH V hl
  have hl : lv_has ls 2 [(0, .ref a)] := hl
  refine lv_aload_n hx hb dJ30_hash_0 rfl (lv_at hl 0 rfl) ?_
  refine lv_ifnonnull (tgt := 8) hx hb dJ30_hash_1 (by decide) ?_
  obtain ⟨v, h1, z1, hF, hB, hrel, hat, hbf⟩ := SH.at h V
  refine lv_aload_n hx hb dJ30_hash_8 rfl (lv_at hl 0 rfl) ?_
  refine z_callU ⟨hx, hb, hml, hown, hts⟩ hk hl.1 V (wc := []) (wr := []) [] [] rfl rfl rfl rfl (by decide) (As := []) (rest := []) (fun hp => ct_S_hashCode l G a t h hp) (va_cwA (owner := "java/lang/Object") 0 hts (lw_app (lw_in5 q1817 q1819 q1855 q1856 q81) (lw_meth q1857)) rfl rfl rfl (hk.N q1816 rfl) (by decide +kernel) ⟨Nat.le_of_ble_eq_true rfl, Nat.le_of_ble_eq_true rfl⟩) (z_rc hk hat (q := (RJ6, TJ6, 4)) rfl) rfl rfl (Nat.le_of_ble_eq_true rfl) dJ30_hash_9 ⟨Nat.le_of_ble_eq_true rfl, Nat.le_of_ble_eq_true rfl⟩ (fun v F1 w1 H locs hq hle hou V => ?_)
  obtain ⟨rfl, rfl, rfl⟩ := hq
  refine W.eq (g2 := F0 m 12 ls [iV (jz t)]) rfl ?_
  have V : VV G _ _ F [] _ _ _ := V
  refine lv_dup hx hb dJ30_hash_12 rfl ?_
  refine lv_istore_n (lv' := [(1, iV (jz t)), (0, .ref a)]) hx hb dJ30_hash_13 rfl hl (by decide) rfl (fun ls hl => ?_)
  refine lv_iload_n hx hb dJ30_hash_14 rfl (lv_at hl 0 rfl) ?_
  refine lv_bipush (v := iZ 16) hx hb dJ30_hash_15 (by decide) ?_
  refine z_xor hx hb dJ30_hash_17 dJ30_hash_18 ?_
  exact z_iret hx hb hr hlk V rfl dJ30_hash_19 ⟨rfl, rfl, rfl⟩ ⟨Nat.le_of_ble_eq_true rfl, Nat.le_of_ble_eq_true rfl⟩
set_option maxHeartbeats 4000000 in
theorem ct_intValue (l : Launch) (G : gG) {F : fS} {Ha : Heap} (a : Nat) (z : Int) (h : F a = some (.inl (ob 5 [iV z]))) (hp : Hp G F [] Ha) : CT l G yJ21_intValue cJ21_intValue 1 (some .int) 1 12 0 0 [.ref a] F [] Ha (fun rv F' w' => rv = some (iV z) ∧ F = F' ∧ w' = []) := by
  refine z_of hp (Or.inl (by decide)) (Nat.le_of_ble_eq_true rfl) ?_
  intro p e s m below meth c ls hx hb hr hml hts hown hlk hnm hk hsH V hl
  have hl : lv_has ls 1 [(0, .ref a)] := hl
  refine lv_aload_n hx hb dJ21_intValue_0 rfl (lv_at hl 0 rfl) ?_
  refine z_get hx hb hts hk hown K_J21 (V.f h) 0 (by decide) q2235 (fun _ h => h) rfl dJ21_intValue_1 ?_
  exact z_iret hx hb hr hlk V rfl dJ21_intValue_4 ⟨rfl, rfl, rfl⟩ ⟨Nat.le_of_ble_eq_true rfl, Nat.le_of_ble_eq_true rfl⟩
theorem z_cache {p : Program} {l : Launch} {e : Env} {R : Room} {s : State} {m : MethodId} {args : Array Value} {below : List Frame} {meth : Method} {c : Code} {H : Heap} {locs : List Loc} {cells slots : Nat} {Q : State → Prop} {cc : ByteArray} {pc : Nat} {ls : Array Slot} {rest : List Value} {G : gG} {A : Nat → Prop} {Fa F : fS} {ws : va_W} {Ha : Heap} (hx : p.tables.exec = Jvm.exec) (hb : c.code = cc) (hk : KK G Fa s) (V : VV G A Fa F ws Ha H locs) {z : Int} (hz : 0 ≤ z ∧ z < 128) (hdg : decode cc pc = .ok (.aaload, 1)) (k : F (G.2.2 (1000 + (z + 128).toNat)) = some (.inl (ob 5 [iV z])) → W p l e R s m args below meth c H locs cells slots Q (F0 m (pc + 1) ls (.ref (G.2.2 (1000 + (z + 128).toNat)) :: rest))) : W p l e R s m args below meth c H locs cells slots Q (F0 m pc ls (iV (z + 128) :: .ref (G.2.2 1) :: rest)) := by
  obtain ⟨cell, h1, h2, h3, h4, h5⟩ := hk.zc
  obtain ⟨h6, h7⟩ := h5 (z + 128).toNat (by omega)
  have e : (((z + 128).toNat : Nat) : Int) - 128 = z := by omega
  rw [e] at h7
  refine W.aald hx hb (a := G.2.2 1) (cell := cell) (j := iZ (z + 128)) (v := .ref (G.2.2 (1000 + (z + 128).toNat))) (V.Z _ _ (V.le _ _ h1)) h2 rfl h3 ?_ ?_ rfl rfl hdg (k (V.le _ _ h7))
  · rw [iZ_cl (i := (z + 128).toNat) ⟨by omega, by omega⟩, h4]
    intro h
    rcases h with h | h
    · have := (iZ_lt (a := z + 128) (b := 0) (by omega)).mp h
      omega
    · omega
  · rw [iZ_cl (i := (z + 128).toNat) ⟨by omega, by omega⟩]
    exact h6
set_option maxHeartbeats 4000000 in
theorem ct_valueOf (l : Launch) (G : gG) {F : fS} {Ha : Heap} (z : Int) (hrg : 0 ≤ z ∧ z < 128) (hp : Hp G F [] Ha) : CT l G yJ21_valueOf cJ21_valueOf 1 (some (.object "java/lang/Integer")) 1 12 0 0 [iV z] F [] Ha (fun rv F' w' => ∃ a : Nat, rv = some (.ref a) ∧ F = F' ∧ F' a = some (.inl (ob 5 [iV z])) ∧ w' = []) := by
  refine z_of hp (Or.inl (by decide)) (Nat.le_of_ble_eq_true rfl) ?_
  intro p e s m below meth c ls hx hb hr hml hts hown hlk hnm hk hsH V hl
  have hl : lv_has ls 1 [(0, iV z)] := hl
  refine lv_iload_n hx hb dJ21_valueOf_0 rfl (lv_at hl 0 rfl) ?_
  refine lv_bipush (v := iZ (-128)) hx hb dJ21_valueOf_1 (by decide) ?_
  refine z_icmp_lt (tgt := 23) hx hb (by omega) dJ21_valueOf_3 (by decide) (fun c3 => by omega) (fun c3 => ?_)
  refine lv_iload_n hx hb dJ21_valueOf_6 rfl (lv_at hl 0 rfl) ?_
  refine z_gets hx hb hts V (hk.Zs 3 rfl) hown q2223 (fun _ h => h) dJ21_valueOf_7 ?_
  refine z_icmp_gt (tgt := 23) hx hb (by omega) dJ21_valueOf_10 (by decide) (fun c10 => by omega) (fun c10 => ?_)
  refine z_gets hx hb hts V (hk.Zs 4 rfl) hown q2225 (fun _ h => h) dJ21_valueOf_13 ?_
  refine lv_iload_n hx hb dJ21_valueOf_16 rfl (lv_at hl 0 rfl) ?_
  refine lv_sipush (v := iZ 128) hx hb dJ21_valueOf_17 (by decide) ?_
  refine z_iadd hx hb dJ21_valueOf_20 ?_
  refine z_cache hx hb hk V hrg dJ21_valueOf_21 (fun hF => ?_)
  exact z_aret hx hb hr hlk V (Or.inl ⟨_, rfl⟩) (Or.inr ⟨_, rfl⟩) dJ21_valueOf_22 ⟨_, rfl, rfl, hF, rfl⟩ ⟨Nat.le_of_ble_eq_true rfl, Nat.le_of_ble_eq_true rfl⟩
