/-! Pairs, terms, memories: what is read (printed by gen/x31.py) -/
set_option maxRecDepth 100000
/-- source, target, unsure, uses -/
abbrev Pr : Type := List (List Nat) × List (List Nat) × Bool × Int
abbrev Tm : Type := List Nat × List Nat
/-- pairs, terms, costs, penalties, joining, strict -/
abbrev Me : Type := List Pr × List Tm × (Nat → Int) × (Nat → Int) × (Nat → Int) × Bool
def PRF (G : gG) (F : fS) (a : Nat) (p : Pr) : Prop := ∃ s t : Nat, F a = some (.inl (ob 11 [.ref s, .ref t, iV (bZ p.2.2.1), iV p.2.2.2])) ∧ SNF G F s p.1 ∧ SNF G F t p.2.1 ∧ (0 ≤ p.2.2.2 ∧ p.2.2.2 < 2147483648)
def TMF (G : gG) (F : fS) (a : Nat) (t : Tm) : Prop := ∃ s u : Nat, F a = some (.inl (ob 12 [.ref s, .ref u])) ∧ SH G F s t.1 ∧ SH G F u t.2
def MEF (G : gG) (F : fS) (a : Nat) (m : Me) : Prop := ∃ (lp lt cs ps js : Nat) (as ts : List Nat), F a = some (.inl (ob 10 [.ref lp, .ref lt, .ref cs, .ref ps, .ref js, iV (bZ m.2.2.2.2.2)])) ∧ LF G F lp as ∧ as.length = m.1.length ∧ (∀ i, i < m.1.length → PRF G F (as.getD i 0) (m.1.getD i ([], [], false, 0))) ∧ LF G F lt ts ∧ ts.length = m.2.1.length ∧ (∀ i, i < m.2.1.length → TMF G F (ts.getD i 0) (m.2.1.getD i ([], []))) ∧ F cs = some (.inl (aI G 4 m.2.2.1)) ∧ F ps = some (.inl (aI G 2 m.2.2.2.1)) ∧ F js = some (.inl (aI G 2 m.2.2.2.2.1)) ∧ (∀ i, i < 4 → 1 ≤ m.2.2.1 i ∧ m.2.2.1 i ≤ 9) ∧ (∀ i, i < 2 → 0 ≤ m.2.2.2.1 i ∧ m.2.2.2.1 i ≤ 50) ∧ (∀ i, i < 2 → 0 ≤ m.2.2.2.2.1 i ∧ m.2.2.2.2.1 i ≤ 9)
theorem PRF.mono {G : gG} {F F1 : fS} {a : Nat} {p : Pr} (h : PRF G F a p) (hF : fLe F F1) : PRF G F1 a p := by
  obtain ⟨s, t, h1, h2, h3, h4⟩ := h
  exact ⟨s, t, hF _ _ h1, h2.mono hF, h3.mono hF, h4⟩
theorem TMF.mono {G : gG} {F F1 : fS} {a : Nat} {p : Tm} (h : TMF G F a p) (hF : fLe F F1) : TMF G F1 a p := by
  obtain ⟨s, t, h1, h2, h3⟩ := h
  exact ⟨s, t, hF _ _ h1, h2.mono hF, h3.mono hF⟩
theorem MEF.mono {G : gG} {F F1 : fS} {a : Nat} {m : Me} (h : MEF G F a m) (hF : fLe F F1) : MEF G F1 a m := by
  obtain ⟨lp, lt, cs, ps, js, as, ts, h1, h2, h3, h4, h5, h6, h7, h8, h9, h10, h11⟩ := h
  exact ⟨lp, lt, cs, ps, js, as, ts, hF _ _ h1, h2.mono hF, h3, fun i hi => (h4 i hi).mono hF, h5.mono hF, h6, fun i hi => (h7 i hi).mono hF, hF _ _ h8, hF _ _ h9, hF _ _ h10, h11⟩
theorem PRF.at {G : gG} {F : fS} {l : Nat} {x : Pr} (h : PRF G F l x) {A : Nat → Prop} {F0 : fS} {ws : va_W} {H0 H : Heap} {locs : List Loc} (V : VV G A F0 F ws H0 H locs) : ∃ fs, va_at G.1 CL (l, ob 11 fs) H := by
  obtain ⟨s, t, h1, -⟩ := h
  exact ⟨_, V.f h1⟩
theorem TMF.at {G : gG} {F : fS} {l : Nat} {x : Tm} (h : TMF G F l x) {A : Nat → Prop} {F0 : fS} {ws : va_W} {H0 H : Heap} {locs : List Loc} (V : VV G A F0 F ws H0 H locs) : ∃ fs, va_at G.1 CL (l, ob 12 fs) H := by
  obtain ⟨s, t, h1, -⟩ := h
  exact ⟨_, V.f h1⟩
theorem MEF.at {G : gG} {F : fS} {l : Nat} {x : Me} (h : MEF G F l x) {A : Nat → Prop} {F0 : fS} {ws : va_W} {H0 H : Heap} {locs : List Loc} (V : VV G A F0 F ws H0 H locs) : ∃ fs, va_at G.1 CL (l, ob 10 fs) H := by
  obtain ⟨lp, lt, cs, ps, js, as, ts, h1, -⟩ := h
  exact ⟨_, V.f h1⟩
/-- near: both longer than a letter, not the same, the same first two letters -/
def nearB (x y : List Nat) : Bool := decide (1 < x.length) && decide (1 < y.length) && !decide (x = y) && decide (x.getD 0 0 = y.getD 0 0) && decide (x.getD 1 0 = y.getD 1 0)
/-- the term concerns the pair; the pair breaks it -/
def conc (t : Tm) (p : Pr) : Bool := decide (0 < cnt p.1 t.1)
def brk (t : Tm) (p : Pr) : Bool := conc t p && !decide (0 < cnt p.2.1 t.2)
def simP (p q : Pr) : Bool := decide (txt p.1 = txt q.1) && decide (txt p.2.1 = txt q.2.1)
def brkS (ts : List Tm) (p : Pr) : Nat := setB (fun i => brk (ts.getD i ([], [])) p) ts.length
theorem SH.len {G : gG} {F : fS} {a : Nat} {t : List Nat} (h : SH G F a t) : t.length ≤ 1000 := by
  obtain ⟨v, -, -, h1, -⟩ := h
  exact h1
theorem SH.lt {G : gG} {F : fS} {a : Nat} {t : List Nat} (h : SH G F a t) (i : Nat) : t.getD i 0 < 128 := by
  obtain ⟨v, -, h1, -⟩ := h
  exact ltD h1 i
set_option maxHeartbeats 4000000 in
theorem ct_areNear (l : Launch) (G : gG) {F : fS} {Ha : Heap} (a b : Nat) (x y : List Nat) (h : SH G F a x) (h2 : SH G F b y) (hp : Hp G F [] Ha) : CT l G yX1_areNear cX1_areNear 4 (some .boolean) 5 97 0 0 [.ref a, .ref b] F [] Ha (fun rv F' w' => rv = some (iV (bZ (nearB x y))) ∧ F = F' ∧ w' = []) := by
  refine z_of hp (Or.inl (by decide)) (Nat.le_of_ble_eq_true rfl) ?_
  intro p e s m below meth c ls hx hb hr hml hts hown hlk hnm hk hsH V hl
  have hl : lv_has ls 4 [(0, .ref a), (1, .ref b)] := hl
  have lx := h.len
  have ly := h2.len
  refine lv_aload_n hx hb dX1_areNear_0 rfl (lv_at hl 0 rfl) ?_
  refine z_callV ⟨hx, hb, hml, hown, hts⟩ hk hl.1 V (wc := []) (wr := []) [] [] rfl rfl rfl rfl (by decide) (As := []) (rest := []) (fun hp => ct_S_length l G a x (Or.inl h) hp) (cwV 0 hts (lw_V q1346 q801 q802 q81 q803) rfl rfl rfl (by decide +kernel) ⟨Nat.le_of_ble_eq_true rfl, Nat.le_of_ble_eq_true rfl⟩) (z_rc hk (Classical.choose_spec ((SF.at4 (Or.inl h)) V)) (q := (RJ6, TJ6, 4)) rfl) rfl rfl (Nat.le_of_ble_eq_true rfl) dX1_areNear_1 ⟨Nat.le_of_ble_eq_true rfl, Nat.le_of_ble_eq_true rfl⟩ (fun v F1 w1 H locs hq hle hou V => ?_)
  obtain ⟨rfl, rfl, rfl⟩ := hq
  refine W.eq (g2 := F0 m 4 ls [iV (x.length : Nat)]) rfl ?_
  have V : VV G _ _ F [] _ _ _ := V
  refine lv_iconst (v := iZ 1) hx hb dX1_areNear_4 rfl ?_
  refine z_icmp_le (tgt := 12) hx hb (by omega) dX1_areNear_5 (by decide) (fun c5 => ?_) (fun c5 => ?_)
  · skip
    refine lv_iconst (v := iZ 0) hx hb dX1_areNear_12 rfl ?_
    refine lv_istore_n (lv' := [(2, iV 0), (0, .ref a), (1, .ref b)]) hx hb dX1_areNear_13 rfl hl (by decide) rfl (fun ls hl => ?_)
    refine lv_aload_n hx hb dX1_areNear_14 rfl (lv_at hl 2 rfl) ?_
    refine z_callV ⟨hx, hb, hml, hown, hts⟩ hk hl.1 V (wc := []) (wr := []) [] [] rfl rfl rfl rfl (by decide) (As := []) (rest := []) (fun hp => ct_S_length l G b y (Or.inl h2) hp) (cwV 0 hts (lw_V q1346 q801 q802 q81 q803) rfl rfl rfl (by decide +kernel) ⟨Nat.le_of_ble_eq_true rfl, Nat.le_of_ble_eq_true rfl⟩) (z_rc hk (Classical.choose_spec ((SF.at4 (Or.inl h2)) V)) (q := (RJ6, TJ6, 4)) rfl) rfl rfl (Nat.le_of_ble_eq_true rfl) dX1_areNear_15 ⟨Nat.le_of_ble_eq_true rfl, Nat.le_of_ble_eq_true rfl⟩ (fun v F1 w1 H locs hq hle hou V => ?_)
    obtain ⟨rfl, rfl, rfl⟩ := hq
    refine W.eq (g2 := F0 m 18 ls [iV (y.length : Nat)]) rfl ?_
    have V : VV G _ _ F [] _ _ _ := V
    refine lv_iconst (v := iZ 1) hx hb dX1_areNear_18 rfl ?_
    refine z_icmp_le (tgt := 26) hx hb (by omega) dX1_areNear_19 (by decide) (fun c19 => ?_) (fun c19 => ?_)
    · skip
      refine lv_iconst (v := iZ 0) hx hb dX1_areNear_26 rfl ?_
      refine lv_istore_n (lv' := [(3, iV 0), (2, iV 0), (0, .ref a), (1, .ref b)]) hx hb dX1_areNear_27 rfl hl (by decide) rfl (fun ls hl => ?_)
      refine lv_iload_n hx hb dX1_areNear_28 rfl (lv_at hl 1 rfl) ?_
      refine z_if_eq (tgt := 74) hx hb (by omega) dX1_areNear_29 (by decide) (fun c29 => ?_) (fun c29 => by omega)
      refine lv_iconst (v := iZ 0) hx hb dX1_areNear_74 rfl ?_
      exact z_iret hx hb hr hlk V rfl dX1_areNear_75 ⟨by unfold nearB; rw [decide_eq_false (show ¬ 1 < x.length by omega)]; rfl, rfl, rfl⟩ ⟨Nat.le_of_ble_eq_true rfl, Nat.le_of_ble_eq_true rfl⟩
    · skip
      refine lv_iconst (v := iZ 1) hx hb dX1_areNear_22 rfl ?_
      refine lv_goto (tgt := 27) hx hb dX1_areNear_23 (by decide) ?_
      refine lv_istore_n (lv' := [(3, iV 1), (2, iV 0), (0, .ref a), (1, .ref b)]) hx hb dX1_areNear_27 rfl hl (by decide) rfl (fun ls hl => ?_)
      refine lv_iload_n hx hb dX1_areNear_28 rfl (lv_at hl 1 rfl) ?_
      refine z_if_eq (tgt := 74) hx hb (by omega) dX1_areNear_29 (by decide) (fun c29 => ?_) (fun c29 => by omega)
      refine lv_iconst (v := iZ 0) hx hb dX1_areNear_74 rfl ?_
      exact z_iret hx hb hr hlk V rfl dX1_areNear_75 ⟨by unfold nearB; rw [decide_eq_false (show ¬ 1 < x.length by omega)]; rfl, rfl, rfl⟩ ⟨Nat.le_of_ble_eq_true rfl, Nat.le_of_ble_eq_true rfl⟩
  · skip
    refine lv_iconst (v := iZ 1) hx hb dX1_areNear_8 rfl ?_
    refine lv_goto (tgt := 13) hx hb dX1_areNear_9 (by decide) ?_
    refine lv_istore_n (lv' := [(2, iV 1), (0, .ref a), (1, .ref b)]) hx hb dX1_areNear_13 rfl hl (by decide) rfl (fun ls hl => ?_)
    refine lv_aload_n hx hb dX1_areNear_14 rfl (lv_at hl 2 rfl) ?_
    refine z_callV ⟨hx, hb, hml, hown, hts⟩ hk hl.1 V (wc := []) (wr := []) [] [] rfl rfl rfl rfl (by decide) (As := []) (rest := []) (fun hp => ct_S_length l G b y (Or.inl h2) hp) (cwV 0 hts (lw_V q1346 q801 q802 q81 q803) rfl rfl rfl (by decide +kernel) ⟨Nat.le_of_ble_eq_true rfl, Nat.le_of_ble_eq_true rfl⟩) (z_rc hk (Classical.choose_spec ((SF.at4 (Or.inl h2)) V)) (q := (RJ6, TJ6, 4)) rfl) rfl rfl (Nat.le_of_ble_eq_true rfl) dX1_areNear_15 ⟨Nat.le_of_ble_eq_true rfl, Nat.le_of_ble_eq_true rfl⟩ (fun v F1 w1 H locs hq hle hou V => ?_)
    obtain ⟨rfl, rfl, rfl⟩ := hq
    refine W.eq (g2 := F0 m 18 ls [iV (y.length : Nat)]) rfl ?_
    have V : VV G _ _ F [] _ _ _ := V
    refine lv_iconst (v := iZ 1) hx hb dX1_areNear_18 rfl ?_
    refine z_icmp_le (tgt := 26) hx hb (by omega) dX1_areNear_19 (by decide) (fun c19 => ?_) (fun c19 => ?_)
    · skip
      refine lv_iconst (v := iZ 0) hx hb dX1_areNear_26 rfl ?_
      refine lv_istore_n (lv' := [(3, iV 0), (2, iV 1), (0, .ref a), (1, .ref b)]) hx hb dX1_areNear_27 rfl hl (by decide) rfl (fun ls hl => ?_)
      refine lv_iload_n hx hb dX1_areNear_28 rfl (lv_at hl 1 rfl) ?_
      refine z_if_eq (tgt := 74) hx hb (by omega) dX1_areNear_29 (by decide) (fun c29 => by omega) (fun c29 => ?_)
      refine lv_iload_n hx hb dX1_areNear_32 rfl (lv_at hl 0 rfl) ?_
      refine z_if_eq (tgt := 74) hx hb (by omega) dX1_areNear_33 (by decide) (fun c33 => ?_) (fun c33 => by omega)
      refine lv_iconst (v := iZ 0) hx hb dX1_areNear_74 rfl ?_
      exact z_iret hx hb hr hlk V rfl dX1_areNear_75 ⟨by unfold nearB; rw [decide_eq_false (show ¬ 1 < y.length by omega), Bool.and_false]; rfl, rfl, rfl⟩ ⟨Nat.le_of_ble_eq_true rfl, Nat.le_of_ble_eq_true rfl⟩
    · skip
      refine lv_iconst (v := iZ 1) hx hb dX1_areNear_22 rfl ?_
      refine lv_goto (tgt := 27) hx hb dX1_areNear_23 (by decide) ?_
      refine lv_istore_n (lv' := [(3, iV 1), (2, iV 1), (0, .ref a), (1, .ref b)]) hx hb dX1_areNear_27 rfl hl (by decide) rfl (fun ls hl => ?_)
      refine lv_iload_n hx hb dX1_areNear_28 rfl (lv_at hl 1 rfl) ?_
      refine z_if_eq (tgt := 74) hx hb (by omega) dX1_areNear_29 (by decide) (fun c29 => by omega) (fun c29 => ?_)
      refine lv_iload_n hx hb dX1_areNear_32 rfl (lv_at hl 0 rfl) ?_
      refine z_if_eq (tgt := 74) hx hb (by omega) dX1_areNear_33 (by decide) (fun c33 => by omega) (fun c33 => ?_)
      refine lv_aload_n hx hb dX1_areNear_36 rfl (lv_at hl 2 rfl) ?_
      refine lv_aload_n hx hb dX1_areNear_37 rfl (lv_at hl 3 rfl) ?_
      refine z_callV ⟨hx, hb, hml, hown, hts⟩ hk hl.1 V (wc := []) (wr := []) [] [] rfl rfl rfl rfl (by decide) (As := [.ref b]) (rest := []) (fun hp => ct_S_equals l G a b x y (Or.inl h) (Or.inl h2) hp) (cwV 1 hts (lw_V q1544 q1098 q1099 q81 q1100) rfl rfl rfl (by decide +kernel) ⟨Nat.le_of_ble_eq_true rfl, Nat.le_of_ble_eq_true rfl⟩) (z_rc hk (Classical.choose_spec ((SF.at4 (Or.inl h)) V)) (q := (RJ6, TJ6, 4)) rfl) rfl rfl (Nat.le_of_ble_eq_true rfl) dX1_areNear_38 ⟨Nat.le_of_ble_eq_true rfl, Nat.le_of_ble_eq_true rfl⟩ (fun v F1 w1 H locs hq hle hou V => ?_)
      obtain ⟨rfl, rfl, rfl⟩ := hq
      refine W.eq (g2 := F0 m 41 ls [iV (bZ (decide (x = y)))]) rfl ?_
      have V : VV G _ _ F [] _ _ _ := V
      have hbz := bZ_cases (decide (x = y))
      have e1 : decide (1 < x.length) = true := decide_eq_true (by omega)
      have e2 : decide (1 < y.length) = true := decide_eq_true (by omega)
      refine z_if_ne (tgt := 74) hx hb (by omega) dX1_areNear_41 (by decide) (fun c41 => ?_) (fun c41 => ?_)
      · skip
        refine lv_iconst (v := iZ 0) hx hb dX1_areNear_74 rfl ?_
        exact z_iret hx hb hr hlk V rfl dX1_areNear_75 ⟨by unfold nearB; rw [(hbz.resolve_right (by omega)).1, e1, e2]; rfl, rfl, rfl⟩ ⟨Nat.le_of_ble_eq_true rfl, Nat.le_of_ble_eq_true rfl⟩
      · skip
        have e3 := (hbz.resolve_left (by omega)).1
        refine lv_aload_n hx hb dX1_areNear_44 rfl (lv_at hl 2 rfl) ?_
        refine lv_iconst (v := iZ 0) hx hb dX1_areNear_45 rfl ?_
        refine z_callV ⟨hx, hb, hml, hown, hts⟩ hk hl.1 V (wc := []) (wr := []) [] [] rfl rfl rfl rfl (by decide) (As := [iV 0]) (rest := []) (fun hp => ct_S_charAt l G a x (Or.inl h) 0 (by omega) hp) (cwV 1 hts (lw_V q1347 q982 q983 q81 q984) rfl rfl rfl (by decide +kernel) ⟨Nat.le_of_ble_eq_true rfl, Nat.le_of_ble_eq_true rfl⟩) (z_rc hk (Classical.choose_spec ((SF.at4 (Or.inl h)) V)) (q := (RJ6, TJ6, 4)) rfl) rfl rfl (Nat.le_of_ble_eq_true rfl) dX1_areNear_46 ⟨Nat.le_of_ble_eq_true rfl, Nat.le_of_ble_eq_true rfl⟩ (fun v F1 w1 H locs hq hle hou V => ?_)
        obtain ⟨rfl, rfl, rfl⟩ := hq
        refine W.eq (g2 := F0 m 49 ls [iV (x.getD 0 0 : Nat)]) rfl ?_
        have V : VV G _ _ F [] _ _ _ := V
        refine lv_aload_n hx hb dX1_areNear_49 rfl (lv_at hl 3 rfl) ?_
        refine lv_iconst (v := iZ 0) hx hb dX1_areNear_50 rfl ?_
        refine z_callV ⟨hx, hb, hml, hown, hts⟩ hk hl.1 V (wc := []) (wr := []) [] [] rfl rfl rfl rfl (by decide) (As := [iV 0]) (rest := [iV (x.getD 0 0 : Nat)]) (fun hp => ct_S_charAt l G b y (Or.inl h2) 0 (by omega) hp) (cwV 1 hts (lw_V q1347 q982 q983 q81 q984) rfl rfl rfl (by decide +kernel) ⟨Nat.le_of_ble_eq_true rfl, Nat.le_of_ble_eq_true rfl⟩) (z_rc hk (Classical.choose_spec ((SF.at4 (Or.inl h2)) V)) (q := (RJ6, TJ6, 4)) rfl) rfl rfl (Nat.le_of_ble_eq_true rfl) dX1_areNear_51 ⟨Nat.le_of_ble_eq_true rfl, Nat.le_of_ble_eq_true rfl⟩ (fun v F1 w1 H locs hq hle hou V => ?_)
        obtain ⟨rfl, rfl, rfl⟩ := hq
        refine W.eq (g2 := F0 m 54 ls [iV (y.getD 0 0 : Nat), iV (x.getD 0 0 : Nat)]) rfl ?_
        have V : VV G _ _ F [] _ _ _ := V
        have dx0 := h.lt 0
        have dy0 := h2.lt 0
        have dx1 := h.lt 1
        have dy1 := h2.lt 1
        refine z_icmp_ne (tgt := 74) hx hb (by omega) dX1_areNear_54 (by decide) (fun c54 => ?_) (fun c54 => ?_)
        · skip
          refine lv_iconst (v := iZ 0) hx hb dX1_areNear_74 rfl ?_
          exact z_iret hx hb hr hlk V rfl dX1_areNear_75 ⟨by unfold nearB; rw [e1, e2, e3, decide_eq_false (show ¬ x.getD 0 0 = y.getD 0 0 by omega)]; rfl, rfl, rfl⟩ ⟨Nat.le_of_ble_eq_true rfl, Nat.le_of_ble_eq_true rfl⟩
        · skip
          refine lv_aload_n hx hb dX1_areNear_57 rfl (lv_at hl 2 rfl) ?_
          refine lv_iconst (v := iZ 1) hx hb dX1_areNear_58 rfl ?_
          refine z_callV ⟨hx, hb, hml, hown, hts⟩ hk hl.1 V (wc := []) (wr := []) [] [] rfl rfl rfl rfl (by decide) (As := [iV 1]) (rest := []) (fun hp => ct_S_charAt l G a x (Or.inl h) 1 (by omega) hp) (cwV 1 hts (lw_V q1347 q982 q983 q81 q984) rfl rfl rfl (by decide +kernel) ⟨Nat.le_of_ble_eq_true rfl, Nat.le_of_ble_eq_true rfl⟩) (z_rc hk (Classical.choose_spec ((SF.at4 (Or.inl h)) V)) (q := (RJ6, TJ6, 4)) rfl) rfl rfl (Nat.le_of_ble_eq_true rfl) dX1_areNear_59 ⟨Nat.le_of_ble_eq_true rfl, Nat.le_of_ble_eq_true rfl⟩ (fun v F1 w1 H locs hq hle hou V => ?_)
          obtain ⟨rfl, rfl, rfl⟩ := hq
          refine W.eq (g2 := F0 m 62 ls [iV (x.getD 1 0 : Nat)]) rfl ?_
          have V : VV G _ _ F [] _ _ _ := V
          refine lv_aload_n hx hb dX1_areNear_62 rfl (lv_at hl 3 rfl) ?_
          refine lv_iconst (v := iZ 1) hx hb dX1_areNear_63 rfl ?_
          refine z_callV ⟨hx, hb, hml, hown, hts⟩ hk hl.1 V (wc := []) (wr := []) [] [] rfl rfl rfl rfl (by decide) (As := [iV 1]) (rest := [iV (x.getD 1 0 : Nat)]) (fun hp => ct_S_charAt l G b y (Or.inl h2) 1 (by omega) hp) (cwV 1 hts (lw_V q1347 q982 q983 q81 q984) rfl rfl rfl (by decide +kernel) ⟨Nat.le_of_ble_eq_true rfl, Nat.le_of_ble_eq_true rfl⟩) (z_rc hk (Classical.choose_spec ((SF.at4 (Or.inl h2)) V)) (q := (RJ6, TJ6, 4)) rfl) rfl rfl (Nat.le_of_ble_eq_true rfl) dX1_areNear_64 ⟨Nat.le_of_ble_eq_true rfl, Nat.le_of_ble_eq_true rfl⟩ (fun v F1 w1 H locs hq hle hou V => ?_)
          obtain ⟨rfl, rfl, rfl⟩ := hq
          refine W.eq (g2 := F0 m 67 ls [iV (y.getD 1 0 : Nat), iV (x.getD 1 0 : Nat)]) rfl ?_
          have V : VV G _ _ F [] _ _ _ := V
          refine z_icmp_ne (tgt := 74) hx hb (by omega) dX1_areNear_67 (by decide) (fun c67 => ?_) (fun c67 => ?_)
          · skip
            refine lv_iconst (v := iZ 0) hx hb dX1_areNear_74 rfl ?_
            exact z_iret hx hb hr hlk V rfl dX1_areNear_75 ⟨by unfold nearB; rw [e1, e2, e3, decide_eq_false (show ¬ x.getD 1 0 = y.getD 1 0 by omega), Bool.and_false]; rfl, rfl, rfl⟩ ⟨Nat.le_of_ble_eq_true rfl, Nat.le_of_ble_eq_true rfl⟩
          · skip
            refine lv_iconst (v := iZ 1) hx hb dX1_areNear_70 rfl ?_
            refine lv_goto (tgt := 75) hx hb dX1_areNear_71 (by decide) ?_
            exact z_iret hx hb hr hlk V rfl dX1_areNear_75 ⟨by unfold nearB; rw [e1, e2, e3, decide_eq_true (show x.getD 0 0 = y.getD 0 0 by omega), decide_eq_true (show x.getD 1 0 = y.getD 1 0 by omega)]; rfl, rfl, rfl⟩ ⟨Nat.le_of_ble_eq_true rfl, Nat.le_of_ble_eq_true rfl⟩
set_option maxHeartbeats 4000000 in
theorem ct_T_concerns (l : Launch) (G : gG) {F : fS} {Ha : Heap} (a b : Nat) (t : Tm) (p0 : Pr) (h : TMF G F a t) (h2 : PRF G F b p0) (hp : Hp G F [] Ha) : CT l G yX10_concerns cX10_concerns 2 (some .boolean) 7 141 0 0 [.ref a, .ref b] F [] Ha (fun rv F' w' => rv = some (iV (bZ (conc t p0))) ∧ F = F' ∧ w' = []) := by
  refine z_of hp (Or.inl (by decide)) (Nat.le_of_ble_eq_true rfl) ?_
  intro p e s m below meth c ls hx hb hr hml hts hown hlk hnm hk hsH V hl
  have hl : lv_has ls 2 [(0, .ref a), (1, .ref b)] := hl
  obtain ⟨ts, tt, t1, t2, t3⟩ := h
  obtain ⟨ps, pt, p1, p2, p3, p4⟩ := h2
  refine lv_aload_n hx hb dX10_concerns_0 rfl (lv_at hl 1 rfl) ?_
  refine z_getN hx hb hts hk hown K_X4 (V.f p1) 0 (by decide) q432 (fun _ h => h) rfl dX10_concerns_1 ?_
  refine lv_aload_n hx hb dX10_concerns_4 rfl (lv_at hl 0 rfl) ?_
  refine z_get hx hb hts hk hown K_X10 (V.f t1) 0 (by decide) q1404 (fun _ h => h) rfl dX10_concerns_5 ?_
  refine z_callVD (owner := "TranslationMemory$Worded") ⟨hx, hb, hml, hown, hts⟩ hk hl.1 V (wc := []) (wr := []) [] [] rfl rfl rfl rfl (by decide) (As := [.ref ts]) (rest := []) (fun hp => ct_W_has l G ps ts p0.1 t.1 p2 t2 hp) ⟨z_rm hts (lw_meth q1168) rfl rfl ⟨Nat.le_of_ble_eq_true rfl, Nat.le_of_ble_eq_true rfl⟩, hts _ q3140, va_Nw.use rfl (hk.dw 0 rfl), va_Nw.use rfl (hk.dw 1 rfl), va_Nw.use rfl (hk.N q1164 rfl), by decide, hk.dfu 0 rfl, hts _ q1166, z_len (n := 1) (by decide +kernel)⟩ (z_rc hk (Classical.choose_spec (p2.at V)) (q := (RX6, TX6, 2)) rfl) rfl rfl (Nat.le_of_ble_eq_true rfl) dX10_concerns_8 ⟨Nat.le_of_ble_eq_true rfl, Nat.le_of_ble_eq_true rfl⟩ (fun v F1 w1 H locs hq hle hou V => ?_)
  obtain ⟨rfl, rfl, rfl⟩ := hq
  refine W.eq (g2 := F0 m 11 ls [iV (bZ (decide (0 < cnt p0.1 t.1)))]) rfl ?_
  have V : VV G _ _ F [] _ _ _ := V
  have hbz := bZ_cases (decide (0 < cnt p0.1 t.1))
  exact z_iret hx hb hr hlk V (nr_b (by omega)) dX10_concerns_11 ⟨rfl, rfl, rfl⟩ ⟨Nat.le_of_ble_eq_true rfl, Nat.le_of_ble_eq_true rfl⟩
set_option maxHeartbeats 4000000 in
theorem ct_T_isBrokenBy (l : Launch) (G : gG) {F : fS} {Ha : Heap} (a b : Nat) (t : Tm) (p0 : Pr) (h : TMF G F a t) (h2 : PRF G F b p0) (hp : Hp G F [] Ha) : CT l G yX10_isBrokenBy cX10_isBrokenBy 2 (some .boolean) 8 162 0 0 [.ref a, .ref b] F [] Ha (fun rv F' w' => rv = some (iV (bZ (brk t p0))) ∧ F = F' ∧ w' = []) := by
  refine z_of hp (Or.inl (by decide)) (Nat.le_of_ble_eq_true rfl) ?_
  intro p e s m below meth c ls hx hb hr hml hts hown hlk hnm hk hsH V hl
  have hl : lv_has ls 2 [(0, .ref a), (1, .ref b)] := hl
  have hh := h
  have hh2 := h2
  obtain ⟨ts, tt, t1, t2, t3⟩ := h
  obtain ⟨ps, pt, p1, p2, p3, p4⟩ := h2
  refine lv_aload_n hx hb dX10_isBrokenBy_0 rfl (lv_at hl 0 rfl) ?_
  refine lv_aload_n hx hb dX10_isBrokenBy_1 rfl (lv_at hl 1 rfl) ?_
  refine z_callV ⟨hx, hb, hml, hown, hts⟩ hk hl.1 V (wc := []) (wr := []) [] [] rfl rfl rfl rfl (by decide) (As := [.ref b]) (rest := []) (fun hp => ct_T_concerns l G a b t p0 hh hh2 hp) (cwV 1 hts (lw_V q1160 q1161 q1162 q111 q1163) rfl rfl rfl (by decide +kernel) ⟨Nat.le_of_ble_eq_true rfl, Nat.le_of_ble_eq_true rfl⟩) (z_rc hk (V.f t1) (q := (RX10, TX10, 2)) rfl) rfl rfl (Nat.le_of_ble_eq_true rfl) dX10_isBrokenBy_2 ⟨Nat.le_of_ble_eq_true rfl, Nat.le_of_ble_eq_true rfl⟩ (fun v F1 w1 H locs hq hle hou V => ?_)
  obtain ⟨rfl, rfl, rfl⟩ := hq
  refine W.eq (g2 := F0 m 5 ls [iV (bZ (conc t p0))]) rfl ?_
  have V : VV G _ _ F [] _ _ _ := V
  have hbz := bZ_cases (conc t p0)
  refine z_if_eq (tgt := 26) hx hb (by omega) dX10_isBrokenBy_5 (by decide) (fun c5 => ?_) (fun c5 => ?_)
  · skip
    refine lv_iconst (v := iZ 0) hx hb dX10_isBrokenBy_26 rfl ?_
    exact z_iret hx hb hr hlk V rfl dX10_isBrokenBy_27 ⟨by unfold brk; rw [(hbz.resolve_left (by omega)).1]; rfl, rfl, rfl⟩ ⟨Nat.le_of_ble_eq_true rfl, Nat.le_of_ble_eq_true rfl⟩
  · skip
    have e1 := (hbz.resolve_right (by omega)).1
    refine lv_aload_n hx hb dX10_isBrokenBy_8 rfl (lv_at hl 1 rfl) ?_
    refine z_getN hx hb hts hk hown K_X4 (V.f p1) 1 (by decide) q436 (fun _ h => h) rfl dX10_isBrokenBy_9 ?_
    refine lv_aload_n hx hb dX10_isBrokenBy_12 rfl (lv_at hl 0 rfl) ?_
    refine z_get hx hb hts hk hown K_X10 (V.f t1) 1 (by decide) q1407 (fun _ h => h) rfl dX10_isBrokenBy_13 ?_
    refine z_callVD (owner := "TranslationMemory$Worded") ⟨hx, hb, hml, hown, hts⟩ hk hl.1 V (wc := []) (wr := []) [] [] rfl rfl rfl rfl (by decide) (As := [.ref tt]) (rest := []) (fun hp => ct_W_has l G pt tt p0.2.1 t.2 p3 t3 hp) ⟨z_rm hts (lw_meth q1168) rfl rfl ⟨Nat.le_of_ble_eq_true rfl, Nat.le_of_ble_eq_true rfl⟩, hts _ q3140, va_Nw.use rfl (hk.dw 0 rfl), va_Nw.use rfl (hk.dw 1 rfl), va_Nw.use rfl (hk.N q1164 rfl), by decide, hk.dfu 0 rfl, hts _ q1166, z_len (n := 1) (by decide +kernel)⟩ (z_rc hk (Classical.choose_spec (p3.at V)) (q := (RX6, TX6, 2)) rfl) rfl rfl (Nat.le_of_ble_eq_true rfl) dX10_isBrokenBy_16 ⟨Nat.le_of_ble_eq_true rfl, Nat.le_of_ble_eq_true rfl⟩ (fun v F1 w1 H locs hq hle hou V => ?_)
    obtain ⟨rfl, rfl, rfl⟩ := hq
    refine W.eq (g2 := F0 m 19 ls [iV (bZ (decide (0 < cnt p0.2.1 t.2)))]) rfl ?_
    have V : VV G _ _ F [] _ _ _ := V
    have hbz2 := bZ_cases (decide (0 < cnt p0.2.1 t.2))
    refine z_if_ne (tgt := 26) hx hb (by omega) dX10_isBrokenBy_19 (by decide) (fun c19 => ?_) (fun c19 => ?_)
    · skip
      refine lv_iconst (v := iZ 0) hx hb dX10_isBrokenBy_26 rfl ?_
      exact z_iret hx hb hr hlk V rfl dX10_isBrokenBy_27 ⟨by unfold brk; rw [e1, (hbz2.resolve_right (by omega)).1]; rfl, rfl, rfl⟩ ⟨Nat.le_of_ble_eq_true rfl, Nat.le_of_ble_eq_true rfl⟩
    · skip
      refine lv_iconst (v := iZ 1) hx hb dX10_isBrokenBy_22 rfl ?_
      refine lv_goto (tgt := 27) hx hb dX10_isBrokenBy_23 (by decide) ?_
      exact z_iret hx hb hr hlk V rfl dX10_isBrokenBy_27 ⟨by unfold brk; rw [e1, (hbz2.resolve_left (by omega)).1]; rfl, rfl, rfl⟩ ⟨Nat.le_of_ble_eq_true rfl, Nat.le_of_ble_eq_true rfl⟩
set_option maxHeartbeats 4000000 in
theorem ct_P_isLike (l : Launch) (G : gG) {F : fS} {Ha : Heap} (a b : Nat) (p0 q0 : Pr) (h : PRF G F a p0) (h2 : PRF G F b q0) (hp : Hp G F [] Ha) : CT l G yX4_isLike cX4_isLike 2 (some .boolean) 4 77 0 0 [.ref a, .ref b] F [] Ha (fun rv F' w' => rv = some (iV (bZ (simP p0 q0))) ∧ F = F' ∧ w' = []) := by
  refine z_of hp (Or.inl (by decide)) (Nat.le_of_ble_eq_true rfl) ?_
  intro p e s m below meth c ls hx hb hr hml hts hown hlk hnm hk hsH V hl
  have hl : lv_has ls 2 [(0, .ref a), (1, .ref b)] := hl
  obtain ⟨ps, pt, p1, p2, p3, p4⟩ := h
  obtain ⟨qs, qt, q1, q2, q3, q4⟩ := h2
  refine lv_aload_n hx hb dX4_isLike_0 rfl (lv_at hl 0 rfl) ?_
  refine z_get hx hb hts hk hown K_X4 (V.f p1) 0 (by decide) q431 (fun _ h => h) rfl dX4_isLike_1 ?_
  refine lv_aload_n hx hb dX4_isLike_4 rfl (lv_at hl 1 rfl) ?_
  refine z_get hx hb hts hk hown K_X4 (V.f q1) 0 (by decide) q431 (fun _ h => h) rfl dX4_isLike_5 ?_
  refine z_callV ⟨hx, hb, hml, hown, hts⟩ hk hl.1 V (wc := []) (wr := []) [] [] rfl rfl rfl rfl (by decide) (As := [.ref qs]) (rest := []) (fun hp => ct_SN_isLike l G ps qs p0.1 q0.1 p2 q2 hp) (cwV 1 hts (lw_V q1093 q1094 q1095 q104 q1096) rfl rfl rfl (by decide +kernel) ⟨Nat.le_of_ble_eq_true rfl, Nat.le_of_ble_eq_true rfl⟩) (z_rc hk (Classical.choose_spec (p2.at V)) (q := (RX6, TX6, 2)) rfl) rfl rfl (Nat.le_of_ble_eq_true rfl) dX4_isLike_8 ⟨Nat.le_of_ble_eq_true rfl, Nat.le_of_ble_eq_true rfl⟩ (fun v F1 w1 H locs hq hle hou V => ?_)
  obtain ⟨rfl, rfl, rfl⟩ := hq
  refine W.eq (g2 := F0 m 11 ls [iV (bZ (decide (txt p0.1 = txt q0.1)))]) rfl ?_
  have V : VV G _ _ F [] _ _ _ := V
  have hbz := bZ_cases (decide (txt p0.1 = txt q0.1))
  refine z_if_eq (tgt := 32) hx hb (by omega) dX4_isLike_11 (by decide) (fun c11 => ?_) (fun c11 => ?_)
  · skip
    refine lv_iconst (v := iZ 0) hx hb dX4_isLike_32 rfl ?_
    exact z_iret hx hb hr hlk V rfl dX4_isLike_33 ⟨by unfold simP; rw [(hbz.resolve_left (by omega)).1]; rfl, rfl, rfl⟩ ⟨Nat.le_of_ble_eq_true rfl, Nat.le_of_ble_eq_true rfl⟩
  · skip
    have e1 := (hbz.resolve_right (by omega)).1
    refine lv_aload_n hx hb dX4_isLike_14 rfl (lv_at hl 0 rfl) ?_
    refine z_get hx hb hts hk hown K_X4 (V.f p1) 1 (by decide) q435 (fun _ h => h) rfl dX4_isLike_15 ?_
    refine lv_aload_n hx hb dX4_isLike_18 rfl (lv_at hl 1 rfl) ?_
    refine z_get hx hb hts hk hown K_X4 (V.f q1) 1 (by decide) q435 (fun _ h => h) rfl dX4_isLike_19 ?_
    refine z_callV ⟨hx, hb, hml, hown, hts⟩ hk hl.1 V (wc := []) (wr := []) [] [] rfl rfl rfl rfl (by decide) (As := [.ref qt]) (rest := []) (fun hp => ct_SN_isLike l G pt qt p0.2.1 q0.2.1 p3 q3 hp) (cwV 1 hts (lw_V q1093 q1094 q1095 q104 q1096) rfl rfl rfl (by decide +kernel) ⟨Nat.le_of_ble_eq_true rfl, Nat.le_of_ble_eq_true rfl⟩) (z_rc hk (Classical.choose_spec (p3.at V)) (q := (RX6, TX6, 2)) rfl) rfl rfl (Nat.le_of_ble_eq_true rfl) dX4_isLike_22 ⟨Nat.le_of_ble_eq_true rfl, Nat.le_of_ble_eq_true rfl⟩ (fun v F1 w1 H locs hq hle hou V => ?_)
    obtain ⟨rfl, rfl, rfl⟩ := hq
    refine W.eq (g2 := F0 m 25 ls [iV (bZ (decide (txt p0.2.1 = txt q0.2.1)))]) rfl ?_
    have V : VV G _ _ F [] _ _ _ := V
    have hbz2 := bZ_cases (decide (txt p0.2.1 = txt q0.2.1))
    refine z_if_eq (tgt := 32) hx hb (by omega) dX4_isLike_25 (by decide) (fun c25 => ?_) (fun c25 => ?_)
    · skip
      refine lv_iconst (v := iZ 0) hx hb dX4_isLike_32 rfl ?_
      exact z_iret hx hb hr hlk V rfl dX4_isLike_33 ⟨by unfold simP; rw [e1, (hbz2.resolve_left (by omega)).1]; rfl, rfl, rfl⟩ ⟨Nat.le_of_ble_eq_true rfl, Nat.le_of_ble_eq_true rfl⟩
    · skip
      refine lv_iconst (v := iZ 1) hx hb dX4_isLike_28 rfl ?_
      refine lv_goto (tgt := 33) hx hb dX4_isLike_29 (by decide) ?_
      exact z_iret hx hb hr hlk V rfl dX4_isLike_33 ⟨by unfold simP; rw [e1, (hbz2.resolve_right (by omega)).1]; rfl, rfl, rfl⟩ ⟨Nat.le_of_ble_eq_true rfl, Nat.le_of_ble_eq_true rfl⟩
