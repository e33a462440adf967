/-! JDK: HashMap (printed by gen/jdk7.py) -/
set_option maxRecDepth 100000
/-- an entry: its node, its key, the key's text, its value -/
abbrev En : Type := Nat × Nat × List Nat × Nat
def ch (es : List En) (b : Nat) : List En := es.filter (fun e => decide (bk e.2.2.1 = b))
def cha (es : List En) (b : Nat) : List Nat := (ch es b).map (fun e => e.1)
def nd (nx : Nat → Option Nat) (e : En) : Nat × va_E := (e.1, ob 7 [iV (hz e.2.2.1), .ref e.2.1, .ref e.2.2.2, va_rf (nx e.1)])
def nds (nx : Nat → Option Nat) (es : List En) : va_W := es.map (nd nx)
def HMo (G : gG) (F : fS) (f nx : Nat → Option Nat) (es : List En) : Prop := (∀ e ∈ es, SH G F e.2.1 e.2.2.1) ∧ (es.map (fun e => e.2.2.1)).Nodup ∧ (es.map (fun e => e.1)).Nodup ∧ es.length ≤ 12 ∧ (∀ b, b < 16 → f b = (cha es b)[0]?) ∧ (∀ b i x, (cha es b)[i]? = some x → nx x = (cha es b)[i + 1]?)
/-- an owned HashMap of Strings -/
def HM (G : gG) (F : fS) (a : Nat) (es : List En) (w : va_W) : Prop := (es = [] ∧ w = [(a, ob 6 [.null, .null, .null, .null, iV 0, iV 0, iV 0, .float 1061158912])]) ∨ ∃ (T : Nat) (f nx : Nat → Option Nat) (mc : Int), HMo G F f nx es ∧ w = [(a, ob 6 [.null, .null, .ref T, .null, iV (es.length : Int), iV mc, iV 12, .float 1061158912]), (T, aN G 16 f)] ++ nds nx es
theorem HMo.mono {G : gG} {F F1 : fS} {f nx : Nat → Option Nat} {es : List En} (h : HMo G F f nx es) (hF : fLe F F1) : HMo G F1 f nx es := ⟨fun e he => (h.1 e he).mono hF, h.2⟩
theorem HM.mono {G : gG} {F F1 : fS} {a : Nat} {es : List En} {w : va_W} (h : HM G F a es w) (hF : fLe F F1) : HM G F1 a es w := by
  rcases h with h | ⟨T, f, nx, mc, h1, h2⟩
  · exact Or.inl h
  · exact Or.inr ⟨T, f, nx, mc, h1.mono hF, h2⟩
theorem HM.cell {G : gG} {F : fS} {a : Nat} {es : List En} {w : va_W} (h : HM G F a es w) : ∃ fs, (a, ob 6 fs) ∈ w := by
  rcases h with ⟨-, rfl⟩ | ⟨T, f, nx, mc, -, rfl⟩
  · exact ⟨_, List.mem_cons_self⟩
  · exact ⟨_, List.mem_cons_self⟩
theorem nd_at {G : gG} {A : Nat → Prop} {F0 F : fS} {w : va_W} {H0 H : Heap} {locs : List Loc} {nx : Nat → Option Nat} {es : List En} (V : VV G A F0 F (w ++ nds nx es) H0 H locs) {e : En} (he : e ∈ es) {v : Value} (hv : va_rf (nx e.1) = v) : va_at G.1 CL (e.1, ob 7 [iV (hz e.2.2.1), .ref e.2.1, .ref e.2.2.2, v]) H := by
  subst hv
  exact VV.mem V (List.mem_append_right _ (List.mem_map.mpr ⟨e, he, rfl⟩))
theorem ch_mem {es : List En} {b i : Nat} {e : En} (h : (ch es b)[i]? = some e) : e ∈ es ∧ bk e.2.2.1 = b := by
  have := List.mem_filter.mp (List.mem_of_getElem? h)
  exact ⟨this.1, by simpa using this.2⟩
theorem cha_ch {es : List En} {b i : Nat} {e : En} (h : (ch es b)[i]? = some e) : (cha es b)[i]? = some e.1 := by
  unfold cha
  rw [List.getElem?_map, h]
  rfl
theorem ch_of_cha {es : List En} {b i x : Nat} (h : (cha es b)[i]? = some x) : ∃ e, (ch es b)[i]? = some e ∧ e.1 = x := by
  unfold cha at h
  rw [List.getElem?_map] at h
  cases hc : (ch es b)[i]? with
  | none => rw [hc] at h; cases h
  | some e => rw [hc] at h; exact ⟨e, rfl, Option.some.inj h⟩
def fnd (es : List En) (t : List Nat) : Option En := es.find? (fun e => decide (e.2.2.1 = t))
theorem fnd_some {es : List En} {t : List Nat} {e : En} (hn : (es.map (fun e => e.2.2.1)).Nodup) (he : e ∈ es) (ht : e.2.2.1 = t) : fnd es t = some e := by
  unfold fnd
  induction es with
  | nil => cases he
  | cons x l ih =>
    rw [List.map_cons, List.nodup_cons] at hn
    rcases List.mem_cons.mp he with rfl | h
    · rw [List.find?_cons_of_pos]; simpa using ht
    · rw [List.find?_cons_of_neg, ih hn.2 h]
      simp only [decide_eq_true_eq]
      intro hx
      exact hn.1 (List.mem_map.mpr ⟨e, h, by rw [ht, hx]⟩)
theorem fnd_none {es : List En} {t : List Nat} (h : ∀ (i : Nat) (e : En), (ch es (bk t))[i]? = some e → e.2.2.1 ≠ t) : fnd es t = none := by
  unfold fnd
  rw [List.find?_eq_none]
  intro e he
  simp only [decide_eq_true_eq]
  intro ht
  have hm : e ∈ ch es (bk t) := List.mem_filter.mpr ⟨he, by simp [ht]⟩
  obtain ⟨i, hi⟩ := List.getElem?_of_mem hm
  exact h i e hi ht
theorem z_acmp_eq {p : Program} {l : Launch} {e : Env} {R : Room} {s : State} {m : MethodId} {args : Array Value} {below : List Frame} {meth : Method} {c : Code} {H : Heap} {locs : List Loc} {cells slots : Nat} {Q : State → Prop} {cc : ByteArray} {pc : Nat} {ls : Array Slot} {rest : List Value} (hx : p.tables.exec = Jvm.exec) (hb : c.code = cc) {a b : Nat} {off : Int} {tgt : Nat} (hdg : decode cc pc = .ok (.if_acmp .eq off, 3)) (ht : (pc : Int) + off = (tgt : Int)) (k1 : a = b → W p l e R s m args below meth c H locs cells slots Q (F0 m tgt ls rest)) (k2 : a ≠ b → W p l e R s m args below meth c H locs cells slots Q (F0 m (pc + 3) ls rest)) : W p l e R s m args below meth c H locs cells slots Q (F0 m pc ls (.ref b :: .ref a :: rest)) :=
  lv_acmp_eq (rx := some a) (ry := some b) hx hb hdg ht (fun h => k1 (Option.some.inj h)) (fun h => k2 (fun e => h (by rw [e])))
set_option maxHeartbeats 4000000 in
theorem ct_HM_getNode (l : Launch) (G : gG) {F : fS} {Ha : Heap} (m0 a : Nat) (t : List Nat) (h : SH G F a t) (es : List En) (wl : va_W) (hw : HM G F m0 es wl) (hp : Hp G F wl Ha) : CT l G yJ30_getNode cJ30_getNode 8 (some (.object "java/util/HashMap$Node")) 6 123 0 0 [.ref m0, .ref a] F wl Ha (fun rv F' w' => rv = some (va_rf ((fnd es t).map (fun e => e.1))) ∧ F = F' ∧ wl = w') := by
  refine z_of hp (Or.inl (by decide)) (Nat.le_of_ble_eq_true rfl) ?_
  intro p e s m below meth c ls hx hb hr hml hts hown hlk hnm hk hsH V hl
  have hl : lv_has ls 8 [(0, .ref m0), (1, .ref a)] := hl
  obtain ⟨rfl, rfl⟩ | ⟨T, f, nx, mc, ho, rfl⟩ := hw
  · skip
    refine lv_aload_n hx hb dJ30_getNode_0 rfl (lv_at hl 0 rfl) ?_
    refine z_get hx hb hts hk hown K_J30 (V.w 0 rfl) 2 (by decide) q1775 (fun _ h => h) rfl dJ30_getNode_1 ?_
    refine lv_dup hx hb dJ30_getNode_4 rfl ?_
    refine lv_astore_nN (lv' := [(2, .null), (0, .ref m0), (1, .ref a)]) hx hb dJ30_getNode_5 rfl hl (by decide) rfl (fun ls hl => ?_)
    refine lv_ifnullN (tgt := 148) hx hb dJ30_getNode_6 (by decide) ?_
    refine lv_null hx hb dJ30_getNode_148 ?_
    exact z_aret hx hb hr hlk V (Or.inl ⟨_, rfl⟩) (Or.inl rfl) dJ30_getNode_149 ⟨rfl, rfl, rfl⟩ ⟨Nat.le_of_ble_eq_true rfl, Nat.le_of_ble_eq_true rfl⟩
  · skip
    have hO := ho
    obtain ⟨h1, h2, h3, h4, h5, h6⟩ := ho
    have hbt := bk_lt t
    have hzt := hz_B t
    have h5t := h5 (bk t) hbt
    refine lv_aload_n hx hb dJ30_getNode_0 rfl (lv_at hl 0 rfl) ?_
    refine z_get hx hb hts hk hown K_J30 (V.w 0 rfl) 2 (by decide) q1775 (fun _ h => h) rfl dJ30_getNode_1 ?_
    refine lv_dup hx hb dJ30_getNode_4 rfl ?_
    refine lv_astore_n (lv' := [(2, .ref T), (0, .ref m0), (1, .ref a)]) hx hb dJ30_getNode_5 rfl hl (by decide) rfl (fun ls hl => ?_)
    refine lv_ifnull hx hb dJ30_getNode_6 ?_
    refine lv_aload_n hx hb dJ30_getNode_9 rfl (lv_at hl 0 rfl) ?_
    refine z_nlen hx hb hk (V.w 1 rfl) dJ30_getNode_10 ?_
    refine lv_dup hx hb dJ30_getNode_11 rfl ?_
    refine lv_istore (lv' := [(5, iV 16), (2, .ref T), (0, .ref m0), (1, .ref a)]) hx hb dJ30_getNode_12 hl (by decide) rfl (fun ls hl => ?_)
    refine z_if_le (tgt := 148) hx hb (by omega) dJ30_getNode_14 (by decide) (fun c14 => by omega) (fun c14 => ?_)
    refine lv_aload_n hx hb dJ30_getNode_17 rfl (lv_at hl 1 rfl) ?_
    refine lv_iload hx hb dJ30_getNode_18 (lv_at hl 0 rfl) ?_
    refine lv_iconst (v := iZ 1) hx hb dJ30_getNode_20 rfl ?_
    refine z_isub hx hb dJ30_getNode_21 ?_
    refine lv_aload_n hx hb dJ30_getNode_22 rfl (lv_at hl 3 rfl) ?_
    refine z_callS ⟨hx, hb, hml, hown, hts⟩ hk hl.1 V (wc := []) (wr := ([(m0, ob 6 [.null, .null, .ref T, .null, iV (es.length : Nat), iV mc, iV 12, .float 1061158912]), (T, aN G 16 f)] ++ (nds nx es))) [] ([0, 1] ++ tIx [(m0, ob 6 [.null, .null, .ref T, .null, iV (es.length : Nat), iV mc, iV 12, .float 1061158912]), (T, aN G 16 f)] (nds nx es)) (idxN (w := [(m0, ob 6 [.null, .null, .ref T, .null, iV (es.length : Nat), iV mc, iV 12, .float 1061158912]), (T, aN G 16 f)]) (t := (nds nx es)) (wC := []) (is := []) rfl) (idxT (w := [(m0, ob 6 [.null, .null, .ref T, .null, iV (es.length : Nat), iV mc, iV 12, .float 1061158912]), (T, aN G 16 f)]) (t := (nds nx es)) (wC := [(m0, ob 6 [.null, .null, .ref T, .null, iV (es.length : Nat), iV mc, iV 12, .float 1061158912]), (T, aN G 16 f)]) (is := [0, 1]) rfl) rfl (ndT (w := [(m0, ob 6 [.null, .null, .ref T, .null, iV (es.length : Nat), iV mc, iV 12, .float 1061158912]), (T, aN G 16 f)]) (t := (nds nx es)) (wC := [(m0, ob 6 [.null, .null, .ref T, .null, iV (es.length : Nat), iV mc, iV 12, .float 1061158912]), (T, aN G 16 f)]) (is := [0, 1]) rfl rfl) (disT2 (w := [(m0, ob 6 [.null, .null, .ref T, .null, iV (es.length : Nat), iV mc, iV 12, .float 1061158912]), (T, aN G 16 f)]) (t := (nds nx es)) (wC := []) (isC := []) rfl (by decide)) (As := [.ref a]) (rest := [iV (16 - 1), .ref T]) (fun hp => ct_HM_hash l G a t h hp) (va_cwS 1 hts (lw_S q1813 q1814 q121 q1815) rfl rfl rfl (by decide +kernel) ⟨Nat.le_of_ble_eq_true rfl, Nat.le_of_ble_eq_true rfl⟩) rfl rfl (Nat.le_of_ble_eq_true rfl) dJ30_getNode_23 ⟨Nat.le_of_ble_eq_true rfl, Nat.le_of_ble_eq_true rfl⟩ (fun v F1 w1 H locs hq hle hou V => ?_)
    obtain ⟨rfl, rfl, rfl⟩ := hq
    have V := VV.rot1 V
    refine W.eq (g2 := F0 m 26 ls [iV (hz t), iV (16 - 1), .ref T]) rfl ?_
    have V : VV G _ _ F ([(m0, ob 6 [.null, .null, .ref T, .null, iV (es.length : Nat), iV mc, iV 12, .float 1061158912]), (T, aN G 16 f)] ++ (nds nx es)) _ _ _ := V
    refine lv_dup hx hb dJ30_getNode_26 rfl ?_
    refine lv_istore (lv' := [(6, iV (hz t)), (5, iV 16), (2, .ref T), (0, .ref m0), (1, .ref a)]) hx hb dJ30_getNode_27 hl (by decide) rfl (fun ls hl => ?_)
    refine W.eq (g2 := F0 m 29 ls [iV (hz t), iV 15, .ref T]) rfl ?_
    refine z_bk hx hb dJ30_getNode_29 ?_
    cases hc0 : (ch es (bk t))[0]? with
    | none =>
      have e0 : f (bk t) = none := by rw [h5t]; unfold cha; rw [List.getElem?_map, hc0]; rfl
      refine z_nald (v := .null) hx hb hk (V.w 1 rfl) (bk t) (by omega) dJ30_getNode_30 (by rw [e0]; rfl) ?_
      refine lv_dup hx hb dJ30_getNode_31 rfl ?_
      refine lv_astore_nN (lv' := [(3, .null), (6, iV (hz t)), (5, iV 16), (2, .ref T), (0, .ref m0), (1, .ref a)]) hx hb dJ30_getNode_32 rfl hl (by decide) rfl (fun ls hl => ?_)
      refine lv_ifnullN (tgt := 148) hx hb dJ30_getNode_33 (by decide) ?_
      refine lv_null hx hb dJ30_getNode_148 ?_
      have hE : fnd es t = none := fnd_none (fun i e hi => by have hl0 := List.getElem?_eq_none_iff.mp hc0; rw [List.getElem?_eq_none (by omega)] at hi; cases hi)
      exact z_aret hx hb hr hlk V (Or.inl ⟨_, rfl⟩) (Or.inl rfl) dJ30_getNode_149 ⟨by rw [hE]; rfl, rfl, rfl⟩ ⟨Nat.le_of_ble_eq_true rfl, Nat.le_of_ble_eq_true rfl⟩
    | some e0 =>
      have e1 : f (bk t) = some e0.1 := by rw [h5t]; exact cha_ch hc0
      have hm_e0 := (ch_mem hc0).1
      have hx0 := h6 (bk t) 0 e0.1 (cha_ch hc0)
      refine z_nald (v := .ref e0.1) hx hb hk (V.w 1 rfl) (bk t) (by omega) dJ30_getNode_30 (by rw [e1]; rfl) ?_
      refine lv_dup hx hb dJ30_getNode_31 rfl ?_
      refine lv_astore_n (lv' := [(3, .ref e0.1), (6, iV (hz t)), (5, iV 16), (2, .ref T), (0, .ref m0), (1, .ref a)]) hx hb dJ30_getNode_32 rfl hl (by decide) rfl (fun ls hl => ?_)
      refine lv_ifnull hx hb dJ30_getNode_33 ?_
      have hn_e0 := nd_at V hm_e0 (show va_rf (nx e0.1) = va_rf (nx e0.1) from rfl)
      have hke_e0 := h1 _ hm_e0
      have hzb_e0 := hz_B e0.2.2.1
      refine lv_aload_n hx hb dJ30_getNode_36 rfl (lv_at hl 0 rfl) ?_
      refine z_get hx hb hts hk hown K_J33 hn_e0 0 (by decide) q2282 (fun _ h => h) rfl dJ30_getNode_37 ?_
      refine lv_iload hx hb dJ30_getNode_40 (lv_at hl 1 rfl) ?_
      refine z_icmp_ne (tgt := 71) hx hb (by omega) dJ30_getNode_42 (by decide) (fun c42 => ?_) (fun c42 => ?_)
      · skip
        have hne_e0 : e0.2.2.1 ≠ t := fun e9 => by rw [e9] at c42; exact c42 rfl
        cases hc1 : (ch es (bk t))[1]? with
        | none =>
          have hx1 : nx e0.1 = none := by rw [hx0]; unfold cha; rw [List.getElem?_map, hc1]; rfl
          have hn_e0 := nd_at V hm_e0 (show va_rf (nx e0.1) = .null from (by rw [hx1]; rfl))
          refine lv_aload_n hx hb dJ30_getNode_71 rfl (lv_at hl 0 rfl) ?_
          refine z_get hx hb hts hk hown K_J33 hn_e0 3 (by decide) q2293 (fun _ h => h) rfl dJ30_getNode_72 ?_
          refine lv_dup hx hb dJ30_getNode_75 rfl ?_
          refine lv_astoreN (lv' := [(4, .null), (3, .ref e0.1), (6, iV (hz t)), (5, iV 16), (2, .ref T), (0, .ref m0), (1, .ref a)]) hx hb dJ30_getNode_76 hl (by decide) rfl (fun ls hl => ?_)
          refine lv_ifnullN (tgt := 148) hx hb dJ30_getNode_78 (by decide) ?_
          refine lv_null hx hb dJ30_getNode_148 ?_
          have hE : fnd es t = none := fnd_none (fun i e hi => by
            have hl0 := List.getElem?_eq_none_iff.mp hc1
            have hl1 := (List.getElem?_eq_some_iff.mp hi).1
            have hi0 : i = 0 := by omega
            subst hi0
            rw [hc0] at hi
            cases hi
            exact hne_e0)
          exact z_aret hx hb hr hlk V (Or.inl ⟨_, rfl⟩) (Or.inl rfl) dJ30_getNode_149 ⟨by rw [hE]; rfl, rfl, rfl⟩ ⟨Nat.le_of_ble_eq_true rfl, Nat.le_of_ble_eq_true rfl⟩
        | some e1 =>
          have hx1 : nx e0.1 = some e1.1 := by rw [hx0]; exact cha_ch hc1
          have hn_e0 := nd_at V hm_e0 (show va_rf (nx e0.1) = .ref e1.1 from (by rw [hx1]; rfl))
          refine lv_aload_n hx hb dJ30_getNode_71 rfl (lv_at hl 0 rfl) ?_
          refine z_get hx hb hts hk hown K_J33 hn_e0 3 (by decide) q2293 (fun _ h => h) rfl dJ30_getNode_72 ?_
          refine lv_dup hx hb dJ30_getNode_75 rfl ?_
          refine lv_astore (lv' := [(4, .ref e1.1), (3, .ref e0.1), (6, iV (hz t)), (5, iV 16), (2, .ref T), (0, .ref m0), (1, .ref a)]) hx hb dJ30_getNode_76 hl (by decide) rfl (fun ls hl => ?_)
          refine lv_ifnull hx hb dJ30_getNode_78 ?_
          refine lv_aload_n hx hb dJ30_getNode_81 rfl (lv_at hl 1 rfl) ?_
          refine va_instNo hx hb hown (hts _ q1962) (hk.nc 0 rfl) (z_rc hk hn_e0 (q := (RJ33, TJ33, 4)) rfl) dJ30_getNode_82 ?_
          refine W.eq (g2 := F0 m 85 ls [iV 0]) rfl ?_
          refine z_if_eq (tgt := 99) hx hb (by omega) dJ30_getNode_85 (by decide) (fun c85 => ?_) (fun c85 => by omega)
          have loop : ∀ (n : Nat) (i : Nat) (ei : En) (u7 : Nat) (H : Heap) (locs : List Loc) (ls : Array Slot), (ch es (bk t)).length - i < n → ((ch es (bk t))[i]? = some ei) → (∀ (j : Nat) (e : En), j < i → (ch es (bk t))[j]? = some e → e.2.2.1 ≠ t) → VV G (FR F ([(m0, ob 6 [.null, .null, .ref T, .null, iV (es.length : Nat), iV mc, iV 12, .float 1061158912]), (T, aN G 16 f)] ++ (nds nx es)) Ha) F F ([(m0, ob 6 [.null, .null, .ref T, .null, iV (es.length : Nat), iV mc, iV 12, .float 1061158912]), (T, aN G 16 f)] ++ (nds nx es)) Ha H locs → lv_has ls 8 [(0, .ref m0), (1, .ref a), (2, .ref T), (3, .ref e0.1), (4, .ref ei.1), (5, iV 16), (6, iV (hz t))] → W p l e ({ frames := 6, cells := 0, slots := 0, locals := 123 } : Room) s m [.ref m0, .ref a].toArray below meth c H locs 0 0 (MQ below (Qz G F ([(m0, ob 6 [.null, .null, .ref T, .null, iV (es.length : Nat), iV mc, iV 12, .float 1061158912]), (T, aN G 16 f)] ++ (nds nx es)) Ha (fun rv F' w' => rv = some (va_rf ((fnd es t).map (fun e => e.1))) ∧ F = F' ∧ ([(m0, ob 6 [.null, .null, .ref T, .null, iV (es.length : Nat), iV mc, iV 12, .float 1061158912]), (T, aN G 16 f)] ++ (nds nx es)) = w')) [.ref m0, .ref a].toArray s 0 0 (FR F ([(m0, ob 6 [.null, .null, .ref T, .null, iV (es.length : Nat), iV mc, iV 12, .float 1061158912]), (T, aN G 16 f)] ++ (nds nx es)) Ha)) (F0 m 99 ls []) := by
            intro n
            induction n with
            | zero => intro i ei u7 H locs ls hm9; exact absurd hm9 (Nat.not_lt_zero _)
            | succ n ih_loop =>
              intro i ei u7 H locs ls hm9 hci hno V hl
              have hm_ei := (ch_mem hci).1
              have hxi := h6 (bk t) i ei.1 (cha_ch hci)
              have hli := (List.getElem?_eq_some_iff.mp hci).1
              have hn_ei := nd_at V hm_ei (show va_rf (nx ei.1) = va_rf (nx ei.1) from rfl)
              have hke_ei := h1 _ hm_ei
              have hzb_ei := hz_B ei.2.2.1
              refine lv_aload hx hb dJ30_getNode_99 (lv_at hl 4 rfl) ?_
              refine z_get hx hb hts hk hown K_J33 hn_ei 0 (by decide) q2282 (fun _ h => h) rfl dJ30_getNode_101 ?_
              refine lv_iload hx hb dJ30_getNode_104 (lv_at hl 6 rfl) ?_
              refine z_icmp_ne (tgt := 137) hx hb (by omega) dJ30_getNode_106 (by decide) (fun c106 => ?_) (fun c106 => ?_)
              · skip
                have hne_ei : ei.2.2.1 ≠ t := fun e9 => by rw [e9] at c106; exact c106 rfl
                have hno2 : ∀ (j : Nat) (e : En), j < i + 1 → (ch es (bk t))[j]? = some e → e.2.2.1 ≠ t := fun j e hj hje => by
                  by_cases hji : j = i
                  · subst hji; rw [hci] at hje; cases hje; exact hne_ei
                  · exact hno j e (by omega) hje
                cases hc2 : (ch es (bk t))[i + 1]? with
                | none =>
                  have hx2 : nx ei.1 = none := by rw [hxi]; unfold cha; rw [List.getElem?_map, hc2]; rfl
                  have hn_ei := nd_at V hm_ei (show va_rf (nx ei.1) = .null from (by rw [hx2]; rfl))
                  refine lv_aload hx hb dJ30_getNode_137 (lv_at hl 4 rfl) ?_
                  refine z_get hx hb hts hk hown K_J33 hn_ei 3 (by decide) q2293 (fun _ h => h) rfl dJ30_getNode_139 ?_
                  refine lv_dup hx hb dJ30_getNode_142 rfl ?_
                  refine lv_astoreN (lv' := [(4, .null), (0, .ref m0), (1, .ref a), (2, .ref T), (3, .ref e0.1), (5, iV 16), (6, iV (hz t))]) hx hb dJ30_getNode_143 hl (by decide) rfl (fun ls hl => ?_)
                  refine lv_ifnonnullN hx hb dJ30_getNode_145 ?_
                  refine lv_null hx hb dJ30_getNode_148 ?_
                  have hE : fnd es t = none := fnd_none (fun j e hj => hno2 j e (by have hl0 := List.getElem?_eq_none_iff.mp hc2; have hl1 := (List.getElem?_eq_some_iff.mp hj).1; omega) hj)
                  exact z_aret hx hb hr hlk V (Or.inl ⟨_, rfl⟩) (Or.inl rfl) dJ30_getNode_149 ⟨by rw [hE]; rfl, rfl, rfl⟩ ⟨Nat.le_of_ble_eq_true rfl, Nat.le_of_ble_eq_true rfl⟩
                | some e2 =>
                  have hx2 : nx ei.1 = some e2.1 := by rw [hxi]; exact cha_ch hc2
                  have hn_ei := nd_at V hm_ei (show va_rf (nx ei.1) = .ref e2.1 from (by rw [hx2]; rfl))
                  refine lv_aload hx hb dJ30_getNode_137 (lv_at hl 4 rfl) ?_
                  refine z_get hx hb hts hk hown K_J33 hn_ei 3 (by decide) q2293 (fun _ h => h) rfl dJ30_getNode_139 ?_
                  refine lv_dup hx hb dJ30_getNode_142 rfl ?_
                  refine lv_astore (lv' := [(4, .ref e2.1), (0, .ref m0), (1, .ref a), (2, .ref T), (3, .ref e0.1), (5, iV 16), (6, iV (hz t))]) hx hb dJ30_getNode_143 hl (by decide) rfl (fun ls hl => ?_)
                  refine lv_ifnonnull (tgt := 99) hx hb dJ30_getNode_145 (by decide) ?_
                  exact ih_loop (i + 1) e2 0 _ _ _ (by omega) hc2 hno2 V (lv_sub hl [1, 2, 3, 4, 0, 5, 6] rfl)
              · skip
                refine lv_aload hx hb dJ30_getNode_109 (lv_at hl 4 rfl) ?_
                refine z_get hx hb hts hk hown K_J33 hn_ei 1 (by decide) q2286 (fun _ h => h) rfl dJ30_getNode_111 ?_
                refine lv_dup hx hb dJ30_getNode_114 rfl ?_
                refine lv_astore (lv' := [(7, .ref ei.2.1), (0, .ref m0), (1, .ref a), (2, .ref T), (3, .ref e0.1), (4, .ref ei.1), (5, iV 16), (6, iV (hz t))]) hx hb dJ30_getNode_115 hl (by decide) rfl (fun ls hl => ?_)
                refine lv_aload_n hx hb dJ30_getNode_117 rfl (lv_at hl 2 rfl) ?_
                refine z_acmp_eq (tgt := 134) hx hb dJ30_getNode_118 (by decide) (fun he118 => ?_) (fun he118 => ?_)
                · skip
                  have hee_ei : ei.2.2.1 = t := SF.eq (Or.inl (he118 ▸ hke_ei)) (Or.inl h)
                  refine lv_aload hx hb dJ30_getNode_134 (lv_at hl 5 rfl) ?_
                  exact z_aret hx hb hr hlk V (Or.inl ⟨_, rfl⟩) (Or.inr ⟨_, rfl⟩) dJ30_getNode_136 ⟨by rw [fnd_some h2 hm_ei hee_ei]; rfl, rfl, rfl⟩ ⟨Nat.le_of_ble_eq_true rfl, Nat.le_of_ble_eq_true rfl⟩
                · skip
                  refine lv_aload_n hx hb dJ30_getNode_121 rfl (lv_at hl 2 rfl) ?_
                  refine lv_ifnull hx hb dJ30_getNode_122 ?_
                  refine lv_aload_n hx hb dJ30_getNode_125 rfl (lv_at hl 2 rfl) ?_
                  refine lv_aload hx hb dJ30_getNode_126 (lv_at hl 0 rfl) ?_
                  obtain ⟨v9, h9, z9, hF9, hB9, hrel9, hat9, hbf9⟩ := SH.at h V
                  refine z_callU ⟨hx, hb, hml, hown, hts⟩ hk hl.1 V (wc := []) (wr := ([(m0, ob 6 [.null, .null, .ref T, .null, iV (es.length : Nat), iV mc, iV 12, .float 1061158912]), (T, aN G 16 f)] ++ (nds nx es))) [] ([0, 1] ++ tIx [(m0, ob 6 [.null, .null, .ref T, .null, iV (es.length : Nat), iV mc, iV 12, .float 1061158912]), (T, aN G 16 f)] (nds nx es)) (idxN (w := [(m0, ob 6 [.null, .null, .ref T, .null, iV (es.length : Nat), iV mc, iV 12, .float 1061158912]), (T, aN G 16 f)]) (t := (nds nx es)) (wC := []) (is := []) rfl) (idxT (w := [(m0, ob 6 [.null, .null, .ref T, .null, iV (es.length : Nat), iV mc, iV 12, .float 1061158912]), (T, aN G 16 f)]) (t := (nds nx es)) (wC := [(m0, ob 6 [.null, .null, .ref T, .null, iV (es.length : Nat), iV mc, iV 12, .float 1061158912]), (T, aN G 16 f)]) (is := [0, 1]) rfl) rfl (ndT (w := [(m0, ob 6 [.null, .null, .ref T, .null, iV (es.length : Nat), iV mc, iV 12, .float 1061158912]), (T, aN G 16 f)]) (t := (nds nx es)) (wC := [(m0, ob 6 [.null, .null, .ref T, .null, iV (es.length : Nat), iV mc, iV 12, .float 1061158912]), (T, aN G 16 f)]) (is := [0, 1]) rfl rfl) (disT2 (w := [(m0, ob 6 [.null, .null, .ref T, .null, iV (es.length : Nat), iV mc, iV 12, .float 1061158912]), (T, aN G 16 f)]) (t := (nds nx es)) (wC := []) (isC := []) rfl (by decide)) (As := [.ref ei.2.1]) (rest := []) (fun hp => ct_S_equals l G a ei.2.1 t ei.2.2.1 (Or.inl h) (Or.inl hke_ei) hp) (va_cwO (owner := "java/lang/Object") 1 hts (lw_app (lw_in6 q1918 q1920 q1919 q1955 q1098 q81) (lw_meth q1100)) rfl rfl rfl q1961 (by decide +kernel) ⟨Nat.le_of_ble_eq_true rfl, Nat.le_of_ble_eq_true rfl⟩) (z_rc hk hat9 (q := (RJ6, TJ6, 4)) rfl) rfl rfl (Nat.le_of_ble_eq_true rfl) dJ30_getNode_128 ⟨Nat.le_of_ble_eq_true rfl, Nat.le_of_ble_eq_true rfl⟩ (fun v F1 w1 H locs hq hle hou V => ?_)
                  obtain ⟨rfl, rfl, rfl⟩ := hq
                  have V := VV.rot1 V
                  refine W.eq (g2 := F0 m 131 ls [iV (bZ (decide (t = ei.2.2.1)))]) rfl ?_
                  have V : VV G _ _ F ([(m0, ob 6 [.null, .null, .ref T, .null, iV (es.length : Nat), iV mc, iV 12, .float 1061158912]), (T, aN G 16 f)] ++ (nds nx es)) _ _ _ := V
                  have hn_ei := nd_at V hm_ei (show va_rf (nx ei.1) = va_rf (nx ei.1) from rfl)
                  have hbz : bZ (decide (t = ei.2.2.1)) = 0 ∨ bZ (decide (t = ei.2.2.1)) = 1 := by unfold bZ; split <;> simp
                  refine z_if_eq (tgt := 137) hx hb (by omega) dJ30_getNode_131 (by decide) (fun c131 => ?_) (fun c131 => ?_)
                  · skip
                    have hne_ei : ei.2.2.1 ≠ t := fun e9 => by rw [decide_eq_true e9.symm] at c131; exact absurd c131 (by decide)
                    have hno2 : ∀ (j : Nat) (e : En), j < i + 1 → (ch es (bk t))[j]? = some e → e.2.2.1 ≠ t := fun j e hj hje => by
                      by_cases hji : j = i
                      · subst hji; rw [hci] at hje; cases hje; exact hne_ei
                      · exact hno j e (by omega) hje
                    cases hc2 : (ch es (bk t))[i + 1]? with
                    | none =>
                      have hx2 : nx ei.1 = none := by rw [hxi]; unfold cha; rw [List.getElem?_map, hc2]; rfl
                      have hn_ei := nd_at V hm_ei (show va_rf (nx ei.1) = .null from (by rw [hx2]; rfl))
                      refine lv_aload hx hb dJ30_getNode_137 (lv_at hl 5 rfl) ?_
                      refine z_get hx hb hts hk hown K_J33 hn_ei 3 (by decide) q2293 (fun _ h => h) rfl dJ30_getNode_139 ?_
                      refine lv_dup hx hb dJ30_getNode_142 rfl ?_
                      refine lv_astoreN (lv' := [(4, .null), (7, .ref ei.2.1), (0, .ref m0), (1, .ref a), (2, .ref T), (3, .ref e0.1), (5, iV 16), (6, iV (hz t))]) hx hb dJ30_getNode_143 hl (by decide) rfl (fun ls hl => ?_)
                      refine lv_ifnonnullN hx hb dJ30_getNode_145 ?_
                      refine lv_null hx hb dJ30_getNode_148 ?_
                      have hE : fnd es t = none := fnd_none (fun j e hj => hno2 j e (by have hl0 := List.getElem?_eq_none_iff.mp hc2; have hl1 := (List.getElem?_eq_some_iff.mp hj).1; omega) hj)
                      exact z_aret hx hb hr hlk V (Or.inl ⟨_, rfl⟩) (Or.inl rfl) dJ30_getNode_149 ⟨by rw [hE]; rfl, rfl, rfl⟩ ⟨Nat.le_of_ble_eq_true rfl, Nat.le_of_ble_eq_true rfl⟩
                    | some e2 =>
                      have hx2 : nx ei.1 = some e2.1 := by rw [hxi]; exact cha_ch hc2
                      have hn_ei := nd_at V hm_ei (show va_rf (nx ei.1) = .ref e2.1 from (by rw [hx2]; rfl))
                      refine lv_aload hx hb dJ30_getNode_137 (lv_at hl 5 rfl) ?_
                      refine z_get hx hb hts hk hown K_J33 hn_ei 3 (by decide) q2293 (fun _ h => h) rfl dJ30_getNode_139 ?_
                      refine lv_dup hx hb dJ30_getNode_142 rfl ?_
                      refine lv_astore (lv' := [(4, .ref e2.1), (7, .ref ei.2.1), (0, .ref m0), (1, .ref a), (2, .ref T), (3, .ref e0.1), (5, iV 16), (6, iV (hz t))]) hx hb dJ30_getNode_143 hl (by decide) rfl (fun ls hl => ?_)
                      refine lv_ifnonnull (tgt := 99) hx hb dJ30_getNode_145 (by decide) ?_
                      exact ih_loop (i + 1) e2 0 _ _ _ (by omega) hc2 hno2 V (lv_sub hl [2, 3, 4, 5, 0, 6, 7] rfl)
                  · skip
                    have hee_ei : ei.2.2.1 = t := Classical.byContradiction fun e9 => by rw [decide_eq_false (fun e8 => e9 e8.symm)] at c131; exact c131 rfl
                    refine lv_aload hx hb dJ30_getNode_134 (lv_at hl 5 rfl) ?_
                    exact z_aret hx hb hr hlk V (Or.inl ⟨_, rfl⟩) (Or.inr ⟨_, rfl⟩) dJ30_getNode_136 ⟨by rw [fnd_some h2 hm_ei hee_ei]; rfl, rfl, rfl⟩ ⟨Nat.le_of_ble_eq_true rfl, Nat.le_of_ble_eq_true rfl⟩
          exact loop _ 1 e1 0 _ _ _ (Nat.lt_succ_self _) hc1 (fun j e hj hje => by
            have hj0 : j = 0 := by omega
            subst hj0
            rw [hc0] at hje
            cases hje
            exact hne_e0) V (lv_sub hl [5, 6, 4, 1, 0, 3, 2] rfl)
      · skip
        refine lv_aload_n hx hb dJ30_getNode_45 rfl (lv_at hl 0 rfl) ?_
        refine z_get hx hb hts hk hown K_J33 hn_e0 1 (by decide) q2286 (fun _ h => h) rfl dJ30_getNode_46 ?_
        refine lv_dup hx hb dJ30_getNode_49 rfl ?_
        refine lv_astore (lv' := [(7, .ref e0.2.1), (3, .ref e0.1), (6, iV (hz t)), (5, iV 16), (2, .ref T), (0, .ref m0), (1, .ref a)]) hx hb dJ30_getNode_50 hl (by decide) rfl (fun ls hl => ?_)
        refine lv_aload_n hx hb dJ30_getNode_52 rfl (lv_at hl 6 rfl) ?_
        refine z_acmp_eq (tgt := 69) hx hb dJ30_getNode_53 (by decide) (fun he53 => ?_) (fun he53 => ?_)
        · skip
          have hee_e0 : e0.2.2.1 = t := SF.eq (Or.inl (he53 ▸ hke_e0)) (Or.inl h)
          refine lv_aload_n hx hb dJ30_getNode_69 rfl (lv_at hl 1 rfl) ?_
          exact z_aret hx hb hr hlk V (Or.inl ⟨_, rfl⟩) (Or.inr ⟨_, rfl⟩) dJ30_getNode_70 ⟨by rw [fnd_some h2 hm_e0 hee_e0]; rfl, rfl, rfl⟩ ⟨Nat.le_of_ble_eq_true rfl, Nat.le_of_ble_eq_true rfl⟩
        · skip
          refine lv_aload_n hx hb dJ30_getNode_56 rfl (lv_at hl 6 rfl) ?_
          refine lv_ifnull hx hb dJ30_getNode_57 ?_
          refine lv_aload_n hx hb dJ30_getNode_60 rfl (lv_at hl 6 rfl) ?_
          refine lv_aload hx hb dJ30_getNode_61 (lv_at hl 0 rfl) ?_
          obtain ⟨v9, h9, z9, hF9, hB9, hrel9, hat9, hbf9⟩ := SH.at h V
          refine z_callU ⟨hx, hb, hml, hown, hts⟩ hk hl.1 V (wc := []) (wr := ([(m0, ob 6 [.null, .null, .ref T, .null, iV (es.length : Nat), iV mc, iV 12, .float 1061158912]), (T, aN G 16 f)] ++ (nds nx es))) [] ([0, 1] ++ tIx [(m0, ob 6 [.null, .null, .ref T, .null, iV (es.length : Nat), iV mc, iV 12, .float 1061158912]), (T, aN G 16 f)] (nds nx es)) (idxN (w := [(m0, ob 6 [.null, .null, .ref T, .null, iV (es.length : Nat), iV mc, iV 12, .float 1061158912]), (T, aN G 16 f)]) (t := (nds nx es)) (wC := []) (is := []) rfl) (idxT (w := [(m0, ob 6 [.null, .null, .ref T, .null, iV (es.length : Nat), iV mc, iV 12, .float 1061158912]), (T, aN G 16 f)]) (t := (nds nx es)) (wC := [(m0, ob 6 [.null, .null, .ref T, .null, iV (es.length : Nat), iV mc, iV 12, .float 1061158912]), (T, aN G 16 f)]) (is := [0, 1]) rfl) rfl (ndT (w := [(m0, ob 6 [.null, .null, .ref T, .null, iV (es.length : Nat), iV mc, iV 12, .float 1061158912]), (T, aN G 16 f)]) (t := (nds nx es)) (wC := [(m0, ob 6 [.null, .null, .ref T, .null, iV (es.length : Nat), iV mc, iV 12, .float 1061158912]), (T, aN G 16 f)]) (is := [0, 1]) rfl rfl) (disT2 (w := [(m0, ob 6 [.null, .null, .ref T, .null, iV (es.length : Nat), iV mc, iV 12, .float 1061158912]), (T, aN G 16 f)]) (t := (nds nx es)) (wC := []) (isC := []) rfl (by decide)) (As := [.ref e0.2.1]) (rest := []) (fun hp => ct_S_equals l G a e0.2.1 t e0.2.2.1 (Or.inl h) (Or.inl hke_e0) hp) (va_cwO (owner := "java/lang/Object") 1 hts (lw_app (lw_in6 q1918 q1920 q1919 q1955 q1098 q81) (lw_meth q1100)) rfl rfl rfl q1961 (by decide +kernel) ⟨Nat.le_of_ble_eq_true rfl, Nat.le_of_ble_eq_true rfl⟩) (z_rc hk hat9 (q := (RJ6, TJ6, 4)) rfl) rfl rfl (Nat.le_of_ble_eq_true rfl) dJ30_getNode_63 ⟨Nat.le_of_ble_eq_true rfl, Nat.le_of_ble_eq_true rfl⟩ (fun v F1 w1 H locs hq hle hou V => ?_)
          obtain ⟨rfl, rfl, rfl⟩ := hq
          have V := VV.rot1 V
          refine W.eq (g2 := F0 m 66 ls [iV (bZ (decide (t = e0.2.2.1)))]) rfl ?_
          have V : VV G _ _ F ([(m0, ob 6 [.null, .null, .ref T, .null, iV (es.length : Nat), iV mc, iV 12, .float 1061158912]), (T, aN G 16 f)] ++ (nds nx es)) _ _ _ := V
          have hn_e0 := nd_at V hm_e0 (show va_rf (nx e0.1) = va_rf (nx e0.1) from rfl)
          have hbz : bZ (decide (t = e0.2.2.1)) = 0 ∨ bZ (decide (t = e0.2.2.1)) = 1 := by unfold bZ; split <;> simp
          refine z_if_eq (tgt := 71) hx hb (by omega) dJ30_getNode_66 (by decide) (fun c66 => ?_) (fun c66 => ?_)
          · skip
            have hne_e0 : e0.2.2.1 ≠ t := fun e9 => by rw [decide_eq_true e9.symm] at c66; exact absurd c66 (by decide)
            cases hc1 : (ch es (bk t))[1]? with
            | none =>
              have hx1 : nx e0.1 = none := by rw [hx0]; unfold cha; rw [List.getElem?_map, hc1]; rfl
              have hn_e0 := nd_at V hm_e0 (show va_rf (nx e0.1) = .null from (by rw [hx1]; rfl))
              refine lv_aload_n hx hb dJ30_getNode_71 rfl (lv_at hl 1 rfl) ?_
              refine z_get hx hb hts hk hown K_J33 hn_e0 3 (by decide) q2293 (fun _ h => h) rfl dJ30_getNode_72 ?_
              refine lv_dup hx hb dJ30_getNode_75 rfl ?_
              refine lv_astoreN (lv' := [(4, .null), (7, .ref e0.2.1), (3, .ref e0.1), (6, iV (hz t)), (5, iV 16), (2, .ref T), (0, .ref m0), (1, .ref a)]) hx hb dJ30_getNode_76 hl (by decide) rfl (fun ls hl => ?_)
              refine lv_ifnullN (tgt := 148) hx hb dJ30_getNode_78 (by decide) ?_
              refine lv_null hx hb dJ30_getNode_148 ?_
              have hE : fnd es t = none := fnd_none (fun i e hi => by
                have hl0 := List.getElem?_eq_none_iff.mp hc1
                have hl1 := (List.getElem?_eq_some_iff.mp hi).1
                have hi0 : i = 0 := by omega
                subst hi0
                rw [hc0] at hi
                cases hi
                exact hne_e0)
              exact z_aret hx hb hr hlk V (Or.inl ⟨_, rfl⟩) (Or.inl rfl) dJ30_getNode_149 ⟨by rw [hE]; rfl, rfl, rfl⟩ ⟨Nat.le_of_ble_eq_true rfl, Nat.le_of_ble_eq_true rfl⟩
            | some e1 =>
              have hx1 : nx e0.1 = some e1.1 := by rw [hx0]; exact cha_ch hc1
              have hn_e0 := nd_at V hm_e0 (show va_rf (nx e0.1) = .ref e1.1 from (by rw [hx1]; rfl))
              refine lv_aload_n hx hb dJ30_getNode_71 rfl (lv_at hl 1 rfl) ?_
              refine z_get hx hb hts hk hown K_J33 hn_e0 3 (by decide) q2293 (fun _ h => h) rfl dJ30_getNode_72 ?_
              refine lv_dup hx hb dJ30_getNode_75 rfl ?_
              refine lv_astore (lv' := [(4, .ref e1.1), (7, .ref e0.2.1), (3, .ref e0.1), (6, iV (hz t)), (5, iV 16), (2, .ref T), (0, .ref m0), (1, .ref a)]) hx hb dJ30_getNode_76 hl (by decide) rfl (fun ls hl => ?_)
              refine lv_ifnull hx hb dJ30_getNode_78 ?_
              refine lv_aload_n hx hb dJ30_getNode_81 rfl (lv_at hl 2 rfl) ?_
              refine va_instNo hx hb hown (hts _ q1962) (hk.nc 0 rfl) (z_rc hk hn_e0 (q := (RJ33, TJ33, 4)) rfl) dJ30_getNode_82 ?_
              refine W.eq (g2 := F0 m 85 ls [iV 0]) rfl ?_
              refine z_if_eq (tgt := 99) hx hb (by omega) dJ30_getNode_85 (by decide) (fun c85 => ?_) (fun c85 => by omega)
              have loop : ∀ (n : Nat) (i : Nat) (ei : En) (u7 : Nat) (H : Heap) (locs : List Loc) (ls : Array Slot), (ch es (bk t)).length - i < n → ((ch es (bk t))[i]? = some ei) → (∀ (j : Nat) (e : En), j < i → (ch es (bk t))[j]? = some e → e.2.2.1 ≠ t) → VV G (FR F ([(m0, ob 6 [.null, .null, .ref T, .null, iV (es.length : Nat), iV mc, iV 12, .float 1061158912]), (T, aN G 16 f)] ++ (nds nx es)) Ha) F F ([(m0, ob 6 [.null, .null, .ref T, .null, iV (es.length : Nat), iV mc, iV 12, .float 1061158912]), (T, aN G 16 f)] ++ (nds nx es)) Ha H locs → lv_has ls 8 [(0, .ref m0), (1, .ref a), (2, .ref T), (3, .ref e0.1), (4, .ref ei.1), (5, iV 16), (6, iV (hz t))] → W p l e ({ frames := 6, cells := 0, slots := 0, locals := 123 } : Room) s m [.ref m0, .ref a].toArray below meth c H locs 0 0 (MQ below (Qz G F ([(m0, ob 6 [.null, .null, .ref T, .null, iV (es.length : Nat), iV mc, iV 12, .float 1061158912]), (T, aN G 16 f)] ++ (nds nx es)) Ha (fun rv F' w' => rv = some (va_rf ((fnd es t).map (fun e => e.1))) ∧ F = F' ∧ ([(m0, ob 6 [.null, .null, .ref T, .null, iV (es.length : Nat), iV mc, iV 12, .float 1061158912]), (T, aN G 16 f)] ++ (nds nx es)) = w')) [.ref m0, .ref a].toArray s 0 0 (FR F ([(m0, ob 6 [.null, .null, .ref T, .null, iV (es.length : Nat), iV mc, iV 12, .float 1061158912]), (T, aN G 16 f)] ++ (nds nx es)) Ha)) (F0 m 99 ls []) := by
                intro n
                induction n with
                | zero => intro i ei u7 H locs ls hm9; exact absurd hm9 (Nat.not_lt_zero _)
                | succ n ih_loop =>
                  intro i ei u7 H locs ls hm9 hci hno V hl
                  have hm_ei := (ch_mem hci).1
                  have hxi := h6 (bk t) i ei.1 (cha_ch hci)
                  have hli := (List.getElem?_eq_some_iff.mp hci).1
                  have hn_ei := nd_at V hm_ei (show va_rf (nx ei.1) = va_rf (nx ei.1) from rfl)
                  have hke_ei := h1 _ hm_ei
                  have hzb_ei := hz_B ei.2.2.1
                  refine lv_aload hx hb dJ30_getNode_99 (lv_at hl 4 rfl) ?_
                  refine z_get hx hb hts hk hown K_J33 hn_ei 0 (by decide) q2282 (fun _ h => h) rfl dJ30_getNode_101 ?_
                  refine lv_iload hx hb dJ30_getNode_104 (lv_at hl 6 rfl) ?_
                  refine z_icmp_ne (tgt := 137) hx hb (by omega) dJ30_getNode_106 (by decide) (fun c106 => ?_) (fun c106 => ?_)
                  · skip
                    have hne_ei : ei.2.2.1 ≠ t := fun e9 => by rw [e9] at c106; exact c106 rfl
                    have hno2 : ∀ (j : Nat) (e : En), j < i + 1 → (ch es (bk t))[j]? = some e → e.2.2.1 ≠ t := fun j e hj hje => by
                      by_cases hji : j = i
                      · subst hji; rw [hci] at hje; cases hje; exact hne_ei
                      · exact hno j e (by omega) hje
                    cases hc2 : (ch es (bk t))[i + 1]? with
                    | none =>
                      have hx2 : nx ei.1 = none := by rw [hxi]; unfold cha; rw [List.getElem?_map, hc2]; rfl
                      have hn_ei := nd_at V hm_ei (show va_rf (nx ei.1) = .null from (by rw [hx2]; rfl))
                      refine lv_aload hx hb dJ30_getNode_137 (lv_at hl 4 rfl) ?_
                      refine z_get hx hb hts hk hown K_J33 hn_ei 3 (by decide) q2293 (fun _ h => h) rfl dJ30_getNode_139 ?_
                      refine lv_dup hx hb dJ30_getNode_142 rfl ?_
                      refine lv_astoreN (lv' := [(4, .null), (0, .ref m0), (1, .ref a), (2, .ref T), (3, .ref e0.1), (5, iV 16), (6, iV (hz t))]) hx hb dJ30_getNode_143 hl (by decide) rfl (fun ls hl => ?_)
                      refine lv_ifnonnullN hx hb dJ30_getNode_145 ?_
                      refine lv_null hx hb dJ30_getNode_148 ?_
                      have hE : fnd es t = none := fnd_none (fun j e hj => hno2 j e (by have hl0 := List.getElem?_eq_none_iff.mp hc2; have hl1 := (List.getElem?_eq_some_iff.mp hj).1; omega) hj)
                      exact z_aret hx hb hr hlk V (Or.inl ⟨_, rfl⟩) (Or.inl rfl) dJ30_getNode_149 ⟨by rw [hE]; rfl, rfl, rfl⟩ ⟨Nat.le_of_ble_eq_true rfl, Nat.le_of_ble_eq_true rfl⟩
                    | some e2 =>
                      have hx2 : nx ei.1 = some e2.1 := by rw [hxi]; exact cha_ch hc2
                      have hn_ei := nd_at V hm_ei (show va_rf (nx ei.1) = .ref e2.1 from (by rw [hx2]; rfl))
                      refine lv_aload hx hb dJ30_getNode_137 (lv_at hl 4 rfl) ?_
                      refine z_get hx hb hts hk hown K_J33 hn_ei 3 (by decide) q2293 (fun _ h => h) rfl dJ30_getNode_139 ?_
                      refine lv_dup hx hb dJ30_getNode_142 rfl ?_
                      refine lv_astore (lv' := [(4, .ref e2.1), (0, .ref m0), (1, .ref a), (2, .ref T), (3, .ref e0.1), (5, iV 16), (6, iV (hz t))]) hx hb dJ30_getNode_143 hl (by decide) rfl (fun ls hl => ?_)
                      refine lv_ifnonnull (tgt := 99) hx hb dJ30_getNode_145 (by decide) ?_
                      exact ih_loop (i + 1) e2 0 _ _ _ (by omega) hc2 hno2 V (lv_sub hl [1, 2, 3, 4, 0, 5, 6] rfl)
                  · skip
                    refine lv_aload hx hb dJ30_getNode_109 (lv_at hl 4 rfl) ?_
                    refine z_get hx hb hts hk hown K_J33 hn_ei 1 (by decide) q2286 (fun _ h => h) rfl dJ30_getNode_111 ?_
                    refine lv_dup hx hb dJ30_getNode_114 rfl ?_
                    refine lv_astore (lv' := [(7, .ref ei.2.1), (0, .ref m0), (1, .ref a), (2, .ref T), (3, .ref e0.1), (4, .ref ei.1), (5, iV 16), (6, iV (hz t))]) hx hb dJ30_getNode_115 hl (by decide) rfl (fun ls hl => ?_)
                    refine lv_aload_n hx hb dJ30_getNode_117 rfl (lv_at hl 2 rfl) ?_
                    refine z_acmp_eq (tgt := 134) hx hb dJ30_getNode_118 (by decide) (fun he118 => ?_) (fun he118 => ?_)
                    · skip
                      have hee_ei : ei.2.2.1 = t := SF.eq (Or.inl (he118 ▸ hke_ei)) (Or.inl h)
                      refine lv_aload hx hb dJ30_getNode_134 (lv_at hl 5 rfl) ?_
                      exact z_aret hx hb hr hlk V (Or.inl ⟨_, rfl⟩) (Or.inr ⟨_, rfl⟩) dJ30_getNode_136 ⟨by rw [fnd_some h2 hm_ei hee_ei]; rfl, rfl, rfl⟩ ⟨Nat.le_of_ble_eq_true rfl, Nat.le_of_ble_eq_true rfl⟩
                    · skip
                      refine lv_aload_n hx hb dJ30_getNode_121 rfl (lv_at hl 2 rfl) ?_
                      refine lv_ifnull hx hb dJ30_getNode_122 ?_
                      refine lv_aload_n hx hb dJ30_getNode_125 rfl (lv_at hl 2 rfl) ?_
                      refine lv_aload hx hb dJ30_getNode_126 (lv_at hl 0 rfl) ?_
                      obtain ⟨v9, h9, z9, hF9, hB9, hrel9, hat9, hbf9⟩ := SH.at h V
                      refine z_callU ⟨hx, hb, hml, hown, hts⟩ hk hl.1 V (wc := []) (wr := ([(m0, ob 6 [.null, .null, .ref T, .null, iV (es.length : Nat), iV mc, iV 12, .float 1061158912]), (T, aN G 16 f)] ++ (nds nx es))) [] ([0, 1] ++ tIx [(m0, ob 6 [.null, .null, .ref T, .null, iV (es.length : Nat), iV mc, iV 12, .float 1061158912]), (T, aN G 16 f)] (nds nx es)) (idxN (w := [(m0, ob 6 [.null, .null, .ref T, .null, iV (es.length : Nat), iV mc, iV 12, .float 1061158912]), (T, aN G 16 f)]) (t := (nds nx es)) (wC := []) (is := []) rfl) (idxT (w := [(m0, ob 6 [.null, .null, .ref T, .null, iV (es.length : Nat), iV mc, iV 12, .float 1061158912]), (T, aN G 16 f)]) (t := (nds nx es)) (wC := [(m0, ob 6 [.null, .null, .ref T, .null, iV (es.length : Nat), iV mc, iV 12, .float 1061158912]), (T, aN G 16 f)]) (is := [0, 1]) rfl) rfl (ndT (w := [(m0, ob 6 [.null, .null, .ref T, .null, iV (es.length : Nat), iV mc, iV 12, .float 1061158912]), (T, aN G 16 f)]) (t := (nds nx es)) (wC := [(m0, ob 6 [.null, .null, .ref T, .null, iV (es.length : Nat), iV mc, iV 12, .float 1061158912]), (T, aN G 16 f)]) (is := [0, 1]) rfl rfl) (disT2 (w := [(m0, ob 6 [.null, .null, .ref T, .null, iV (es.length : Nat), iV mc, iV 12, .float 1061158912]), (T, aN G 16 f)]) (t := (nds nx es)) (wC := []) (isC := []) rfl (by decide)) (As := [.ref ei.2.1]) (rest := []) (fun hp => ct_S_equals l G a ei.2.1 t ei.2.2.1 (Or.inl h) (Or.inl hke_ei) hp) (va_cwO (owner := "java/lang/Object") 1 hts (lw_app (lw_in6 q1918 q1920 q1919 q1955 q1098 q81) (lw_meth q1100)) rfl rfl rfl q1961 (by decide +kernel) ⟨Nat.le_of_ble_eq_true rfl, Nat.le_of_ble_eq_true rfl⟩) (z_rc hk hat9 (q := (RJ6, TJ6, 4)) rfl) rfl rfl (Nat.le_of_ble_eq_true rfl) dJ30_getNode_128 ⟨Nat.le_of_ble_eq_true rfl, Nat.le_of_ble_eq_true rfl⟩ (fun v F1 w1 H locs hq hle hou V => ?_)
                      obtain ⟨rfl, rfl, rfl⟩ := hq
                      have V := VV.rot1 V
                      refine W.eq (g2 := F0 m 131 ls [iV (bZ (decide (t = ei.2.2.1)))]) rfl ?_
                      have V : VV G _ _ F ([(m0, ob 6 [.null, .null, .ref T, .null, iV (es.length : Nat), iV mc, iV 12, .float 1061158912]), (T, aN G 16 f)] ++ (nds nx es)) _ _ _ := V
                      have hn_ei := nd_at V hm_ei (show va_rf (nx ei.1) = va_rf (nx ei.1) from rfl)
                      have hbz : bZ (decide (t = ei.2.2.1)) = 0 ∨ bZ (decide (t = ei.2.2.1)) = 1 := by unfold bZ; split <;> simp
                      refine z_if_eq (tgt := 137) hx hb (by omega) dJ30_getNode_131 (by decide) (fun c131 => ?_) (fun c131 => ?_)
                      · skip
                        have hne_ei : ei.2.2.1 ≠ t := fun e9 => by rw [decide_eq_true e9.symm] at c131; exact absurd c131 (by decide)
                        have hno2 : ∀ (j : Nat) (e : En), j < i + 1 → (ch es (bk t))[j]? = some e → e.2.2.1 ≠ t := fun j e hj hje => by
                          by_cases hji : j = i
                          · subst hji; rw [hci] at hje; cases hje; exact hne_ei
                          · exact hno j e (by omega) hje
                        cases hc2 : (ch es (bk t))[i + 1]? with
                        | none =>
                          have hx2 : nx ei.1 = none := by rw [hxi]; unfold cha; rw [List.getElem?_map, hc2]; rfl
                          have hn_ei := nd_at V hm_ei (show va_rf (nx ei.1) = .null from (by rw [hx2]; rfl))
                          refine lv_aload hx hb dJ30_getNode_137 (lv_at hl 5 rfl) ?_
                          refine z_get hx hb hts hk hown K_J33 hn_ei 3 (by decide) q2293 (fun _ h => h) rfl dJ30_getNode_139 ?_
                          refine lv_dup hx hb dJ30_getNode_142 rfl ?_
                          refine lv_astoreN (lv' := [(4, .null), (7, .ref ei.2.1), (0, .ref m0), (1, .ref a), (2, .ref T), (3, .ref e0.1), (5, iV 16), (6, iV (hz t))]) hx hb dJ30_getNode_143 hl (by decide) rfl (fun ls hl => ?_)
                          refine lv_ifnonnullN hx hb dJ30_getNode_145 ?_
                          refine lv_null hx hb dJ30_getNode_148 ?_
                          have hE : fnd es t = none := fnd_none (fun j e hj => hno2 j e (by have hl0 := List.getElem?_eq_none_iff.mp hc2; have hl1 := (List.getElem?_eq_some_iff.mp hj).1; omega) hj)
                          exact z_aret hx hb hr hlk V (Or.inl ⟨_, rfl⟩) (Or.inl rfl) dJ30_getNode_149 ⟨by rw [hE]; rfl, rfl, rfl⟩ ⟨Nat.le_of_ble_eq_true rfl, Nat.le_of_ble_eq_true rfl⟩
                        | some e2 =>
                          have hx2 : nx ei.1 = some e2.1 := by rw [hxi]; exact cha_ch hc2
                          have hn_ei := nd_at V hm_ei (show va_rf (nx ei.1) = .ref e2.1 from (by rw [hx2]; rfl))
                          refine lv_aload hx hb dJ30_getNode_137 (lv_at hl 5 rfl) ?_
                          refine z_get hx hb hts hk hown K_J33 hn_ei 3 (by decide) q2293 (fun _ h => h) rfl dJ30_getNode_139 ?_
                          refine lv_dup hx hb dJ30_getNode_142 rfl ?_
                          refine lv_astore (lv' := [(4, .ref e2.1), (7, .ref ei.2.1), (0, .ref m0), (1, .ref a), (2, .ref T), (3, .ref e0.1), (5, iV 16), (6, iV (hz t))]) hx hb dJ30_getNode_143 hl (by decide) rfl (fun ls hl => ?_)
                          refine lv_ifnonnull (tgt := 99) hx hb dJ30_getNode_145 (by decide) ?_
                          exact ih_loop (i + 1) e2 0 _ _ _ (by omega) hc2 hno2 V (lv_sub hl [2, 3, 4, 5, 0, 6, 7] rfl)
                      · skip
                        have hee_ei : ei.2.2.1 = t := Classical.byContradiction fun e9 => by rw [decide_eq_false (fun e8 => e9 e8.symm)] at c131; exact c131 rfl
                        refine lv_aload hx hb dJ30_getNode_134 (lv_at hl 5 rfl) ?_
                        exact z_aret hx hb hr hlk V (Or.inl ⟨_, rfl⟩) (Or.inr ⟨_, rfl⟩) dJ30_getNode_136 ⟨by rw [fnd_some h2 hm_ei hee_ei]; rfl, rfl, rfl⟩ ⟨Nat.le_of_ble_eq_true rfl, Nat.le_of_ble_eq_true rfl⟩
              exact loop _ 1 e1 0 _ _ _ (Nat.lt_succ_self _) hc1 (fun j e hj hje => by
                have hj0 : j = 0 := by omega
                subst hj0
                rw [hc0] at hje
                cases hje
                exact hne_e0) V (lv_sub hl [6, 7, 5, 2, 0, 4, 3] rfl)
          · skip
            have hee_e0 : e0.2.2.1 = t := Classical.byContradiction fun e9 => by rw [decide_eq_false (fun e8 => e9 e8.symm)] at c66; exact c66 rfl
            refine lv_aload_n hx hb dJ30_getNode_69 rfl (lv_at hl 1 rfl) ?_
            exact z_aret hx hb hr hlk V (Or.inl ⟨_, rfl⟩) (Or.inr ⟨_, rfl⟩) dJ30_getNode_70 ⟨by rw [fnd_some h2 hm_e0 hee_e0]; rfl, rfl, rfl⟩ ⟨Nat.le_of_ble_eq_true rfl, Nat.le_of_ble_eq_true rfl⟩
theorem HM.node {G : gG} {F : fS} {a : Nat} {es : List En} {w0 w : va_W} (h : HM G F a es w0) {A : Nat → Prop} {F0 F1 : fS} {H0 H : Heap} {locs : List Loc} (V : VV G A F0 F1 (w ++ w0) H0 H locs) {e : En} (he : e ∈ es) : ∃ v0, va_at G.1 CL (e.1, ob 7 [iV (hz e.2.2.1), .ref e.2.1, .ref e.2.2.2, v0]) H := by
  rcases h with ⟨rfl, -⟩ | ⟨T, f, nx, mc, -, rfl⟩
  · cases he
  · exact ⟨va_rf (nx e.1), VV.mem V (List.mem_append_right _ (List.mem_append_right _ (List.mem_map.mpr ⟨e, he, rfl⟩)))⟩
set_option maxHeartbeats 4000000 in
theorem ct_HM_get (l : Launch) (G : gG) {F : fS} {Ha : Heap} (m0 a : Nat) (t : List Nat) (h : SH G F a t) (es : List En) (wl : va_W) (hw : HM G F m0 es wl) (hp : Hp G F wl Ha) : CT l G yJ30_get cJ30_get 3 (some (.object "java/lang/Object")) 7 150 0 0 [.ref m0, .ref a] F wl Ha (fun rv F' w' => rv = some (va_rf ((fnd es t).map (fun e => e.2.2.2))) ∧ F = F' ∧ wl = w') := by
  refine z_of hp (Or.inl (by decide)) (Nat.le_of_ble_eq_true rfl) ?_
  intro p e s m below meth c ls hx hb hr hml hts hown hlk hnm hk hsH V hl
  have hl : lv_has ls 3 [(0, .ref m0), (1, .ref a)] := hl
  obtain ⟨fs, hcell⟩ := hw.cell
  refine lv_aload_n hx hb dJ30_get_0 rfl (lv_at hl 0 rfl) ?_
  refine lv_aload_n hx hb dJ30_get_1 rfl (lv_at hl 1 rfl) ?_
  refine z_callV ⟨hx, hb, hml, hown, hts⟩ hk hl.1 V (wc := wl) (wr := []) ([] ++ tIx [] wl) [] (idxT (w := []) (t := wl) (wC := []) (is := []) rfl) (idxN (w := []) (t := wl) (wC := []) (is := []) rfl) (ndT (w := []) (t := wl) (wC := []) (is := []) rfl rfl) rfl (disT (w := []) (t := wl) (wR := []) (isR := []) rfl (by decide)) (As := [.ref a]) (rest := []) (fun hp => ct_HM_getNode l G m0 a t h es wl hw hp) (cwV 1 hts (lw_V q1809 q1810 q1811 q121 q1812) rfl rfl rfl (by decide +kernel) ⟨Nat.le_of_ble_eq_true rfl, Nat.le_of_ble_eq_true rfl⟩) (z_rc hk (V.mem (q := (m0, ob 6 fs)) (by first | exact hcell | simp [hcell])) (q := (RJ30, TJ30, 8)) rfl) rfl rfl (Nat.le_of_ble_eq_true rfl) dJ30_get_2 ⟨Nat.le_of_ble_eq_true rfl, Nat.le_of_ble_eq_true rfl⟩ (fun v F1 w1 H locs hq hle hou V => ?_)
  obtain ⟨rfl, rfl, rfl⟩ := hq
  have V := VV.asc (z := []) (t := wl) V
  refine W.eq (g2 := F0 m 5 ls [va_rf ((fnd es t).map (fun e => e.1))]) rfl ?_
  have V : VV G _ _ F ([] ++ wl) _ _ _ := V
  cases hf : fnd es t with
  | none =>
    refine W.eq (g2 := F0 m 5 ls [.null]) rfl ?_
    refine lv_dup hx hb dJ30_get_5 rfl ?_
    refine lv_astore_nN (lv' := [(2, .null), (0, .ref m0), (1, .ref a)]) hx hb dJ30_get_6 rfl hl (by decide) rfl (fun ls hl => ?_)
    refine lv_ifnonnullN hx hb dJ30_get_7 ?_
    refine lv_null hx hb dJ30_get_10 ?_
    refine lv_goto (tgt := 18) hx hb dJ30_get_11 (by decide) ?_
    exact z_aret hx hb hr hlk V (Or.inl ⟨_, rfl⟩) (Or.inl rfl) dJ30_get_18 ⟨rfl, rfl, rfl⟩ ⟨Nat.le_of_ble_eq_true rfl, Nat.le_of_ble_eq_true rfl⟩
  | some e0 =>
    refine W.eq (g2 := F0 m 5 ls [.ref e0.1]) rfl ?_
    refine lv_dup hx hb dJ30_get_5 rfl ?_
    refine lv_astore_n (lv' := [(2, .ref e0.1), (0, .ref m0), (1, .ref a)]) hx hb dJ30_get_6 rfl hl (by decide) rfl (fun ls hl => ?_)
    refine lv_ifnonnull (tgt := 14) hx hb dJ30_get_7 (by decide) ?_
    have hm_e0 : e0 ∈ es := List.mem_of_find?_eq_some hf
    obtain ⟨v0, hn0⟩ : ∃ v0, va_at G.1 CL (e0.1, ob 7 [iV (hz e0.2.2.1), .ref e0.2.1, .ref e0.2.2.2, v0]) _ := HM.node hw V (w := []) hm_e0
    refine lv_aload_n hx hb dJ30_get_14 rfl (lv_at hl 0 rfl) ?_
    refine z_get hx hb hts hk hown K_J33 hn0 2 (by decide) q2288 (fun _ h => h) rfl dJ30_get_15 ?_
    exact z_aret hx hb hr hlk V (Or.inl ⟨_, rfl⟩) (Or.inr ⟨_, rfl⟩) dJ30_get_18 ⟨rfl, rfl, rfl⟩ ⟨Nat.le_of_ble_eq_true rfl, Nat.le_of_ble_eq_true rfl⟩
set_option maxHeartbeats 4000000 in
theorem ct_Node_init (l : Launch) (G : gG) {F : fS} {Ha : Heap} (n a va : Nat) (z : Int) (hp : Hp G F [(n, ob 7 [iV 0, .null, .null, .null])] Ha) : CT l G yJ33_init cJ33_init 5 none 1 40 0 0 [.ref n, iV z, .ref a, .ref va, .null] F [(n, ob 7 [iV 0, .null, .null, .null])] Ha (fun rv F' w' => rv = none ∧ F = F' ∧ w' = [(n, ob 7 [iV z, .ref a, .ref va, .null])]) := by
  refine z_of hp (Or.inl (by decide)) (Nat.le_of_ble_eq_true rfl) ?_
  intro p e s m below meth c ls hx hb hr hml hts hown hlk hnm hk hsH V hl
  have hl : lv_has ls 5 [(0, .ref n), (1, iV z), (2, .ref a), (3, .ref va), (4, .null)] := hl
  refine lv_aload_n hx hb dJ33_init_0 rfl (lv_at hl 0 rfl) ?_
  refine W.objInit hx hb hown (hts _ q2278) (hts _ q138) (hts _ q139) rfl (by rw [hml]; exact hl.1) rfl dJ33_init_1 (Nat.le_of_ble_eq_true rfl) (Nat.le_of_ble_eq_true rfl) ?_
  refine W.eq (g2 := F0 m 4 ls []) rfl ?_
  refine lv_aload_n hx hb dJ33_init_4 rfl (lv_at hl 0 rfl) ?_
  refine lv_iload_n hx hb dJ33_init_5 rfl (lv_at hl 1 rfl) ?_
  refine z_putF hx hb hts hk V hown K_J33 0 rfl 0 (by decide) q2279 (fun _ h => h) rfl hnm rfl rfl rfl (Nat.le_of_ble_eq_true rfl) dJ33_init_6 (fun H locs V => ?_)
  have V : VV G _ _ F [(n, ob 7 [iV z, .null, .null, .null])] _ _ _ := V
  refine lv_aload_n hx hb dJ33_init_9 rfl (lv_at hl 0 rfl) ?_
  refine lv_aload_n hx hb dJ33_init_10 rfl (lv_at hl 2 rfl) ?_
  refine z_putF hx hb hts hk V hown K_J33 0 rfl 1 (by decide) q2283 (fun _ h => h) rfl hnm rfl rfl rfl (Nat.le_of_ble_eq_true rfl) dJ33_init_11 (fun H locs V => ?_)
  have V : VV G _ _ F [(n, ob 7 [iV z, .ref a, .null, .null])] _ _ _ := V
  refine lv_aload_n hx hb dJ33_init_14 rfl (lv_at hl 0 rfl) ?_
  refine lv_aload_n hx hb dJ33_init_15 rfl (lv_at hl 3 rfl) ?_
  refine z_put hx hb hts hk V hown K_J33 0 rfl 2 (by decide) q2287 (fun _ h => h) rfl rfl rfl (Nat.le_of_ble_eq_true rfl) dJ33_init_16 (fun H locs V => ?_)
  have V : VV G _ _ F [(n, ob 7 [iV z, .ref a, .ref va, .null])] _ _ _ := V
  refine lv_aload_n hx hb dJ33_init_19 rfl (lv_at hl 0 rfl) ?_
  refine lv_aloadN hx hb dJ33_init_20 (lv_at hl 4 rfl) ?_
  refine z_put hx hb hts hk V hown K_J33 0 rfl 3 (by decide) q2289 (fun _ h => h) rfl rfl rfl (Nat.le_of_ble_eq_true rfl) dJ33_init_22 (fun H locs V => ?_)
  have V : VV G _ _ F [(n, ob 7 [iV z, .ref a, .ref va, .null])] _ _ _ := V
  exact z_vret hx hb hr hlk V dJ33_init_25 ⟨rfl, rfl, rfl⟩ ⟨Nat.le_of_ble_eq_true rfl, Nat.le_of_ble_eq_true rfl⟩
set_option maxHeartbeats 4000000 in
theorem ct_HM_newNode (l : Launch) (G : gG) {F : fS} {Ha : Heap} (m0 a va : Nat) (z : Int) (hp : Hp G F [] Ha) : CT l G yJ30_newNode cJ30_newNode 5 (some (.object "java/util/HashMap$Node")) 2 64 1 4 [.ref m0, iV z, .ref a, .ref va, .null] F [] Ha (fun rv F' w' => ∃ n : Nat, rv = some (.ref n) ∧ F = F' ∧ w' = [(n, ob 7 [iV z, .ref a, .ref va, .null])]) := by
  refine z_of hp (Or.inl (by decide)) (Nat.le_of_ble_eq_true rfl) ?_
  intro p e s m below meth c ls hx hb hr hml hts hown hlk hnm hk hsH V hl
  have hl : lv_has ls 5 [(0, .ref m0), (1, iV z), (2, .ref a), (3, .ref va), (4, .null)] := hl
  refine z_new (fs := [iV 0, .null, .null, .null]) hx hb hts hk V hown K_J33 q2259 q2274 q126 df_J33 (Nat.le_of_ble_eq_true rfl) (Nat.le_of_ble_eq_true rfl) dJ30_newNode_0 (fun o_1 H V => ?_)
  have V : VV G _ _ F [(o_1, ob 7 [iV 0, .null, .null, .null])] _ _ _ := V
  refine lv_dup hx hb dJ30_newNode_3 rfl ?_
  refine lv_iload_n hx hb dJ30_newNode_4 rfl (lv_at hl 1 rfl) ?_
  refine lv_aload_n hx hb dJ30_newNode_5 rfl (lv_at hl 2 rfl) ?_
  refine lv_aload_n hx hb dJ30_newNode_6 rfl (lv_at hl 3 rfl) ?_
  refine lv_aloadN hx hb dJ30_newNode_7 (lv_at hl 4 rfl) ?_
  refine z_callI ⟨hx, hb, hml, hown, hts⟩ hk hl.1 V (wc := [(o_1, ob 7 [iV 0, .null, .null, .null])]) (wr := []) [0] [] rfl rfl rfl rfl (by decide) (As := [iV z, .ref a, .ref va, .null]) (rest := [.ref o_1]) (fun hp => ct_Node_init l G o_1 a va z hp) (cwI 4 hts (lw_meth q2277) rfl rfl rfl (hts _ q126) (hts _ q2275) (hts _ q2276) rfl (by decide +kernel) ⟨Nat.le_of_ble_eq_true rfl, Nat.le_of_ble_eq_true rfl⟩) rfl rfl (Nat.le_of_ble_eq_true rfl) dJ30_newNode_9 ⟨Nat.le_of_ble_eq_true rfl, Nat.le_of_ble_eq_true rfl⟩ (fun v F1 w1 H locs hq hle hou V => ?_)
  obtain ⟨rfl, rfl, rfl⟩ := hq
  refine W.eq (g2 := F0 m 12 ls [.ref o_1]) rfl ?_
  have V : VV G _ _ F [(o_1, ob 7 [iV z, .ref a, .ref va, .null])] _ _ _ := V
  exact z_aret hx hb hr hlk V (Or.inl ⟨_, rfl⟩) (Or.inr ⟨_, rfl⟩) dJ30_newNode_12 ⟨o_1, rfl, rfl, rfl⟩ ⟨Nat.le_of_ble_eq_true rfl, Nat.le_of_ble_eq_true rfl⟩
set_option maxHeartbeats 4000000 in
theorem ct_AM_init (l : Launch) (G : gG) {F : fS} {Ha : Heap} (a : Nat) (hp : Hp G F [] Ha) : CT l G yJ29_init cJ29_init 1 none 1 40 0 0 [.ref a] F [] Ha (fun rv F' w' => rv = none ∧ F = F' ∧ w' = []) := by
  refine z_of hp (Or.inl (by decide)) (Nat.le_of_ble_eq_true rfl) ?_
  intro p e s m below meth c ls hx hb hr hml hts hown hlk hnm hk hsH V hl
  have hl : lv_has ls 1 [(0, .ref a)] := hl
  refine lv_aload_n hx hb dJ29_init_0 rfl (lv_at hl 0 rfl) ?_
  refine W.objInit hx hb hown (hts _ q1773) (hts _ q138) (hts _ q139) rfl (by rw [hml]; exact hl.1) rfl dJ29_init_1 (Nat.le_of_ble_eq_true rfl) (Nat.le_of_ble_eq_true rfl) ?_
  refine W.eq (g2 := F0 m 4 ls []) rfl ?_
  exact z_vret hx hb hr hlk V dJ29_init_4 ⟨rfl, rfl, rfl⟩ ⟨Nat.le_of_ble_eq_true rfl, Nat.le_of_ble_eq_true rfl⟩
set_option maxHeartbeats 4000000 in
theorem ct_HM_init (l : Launch) (G : gG) {F : fS} {Ha : Heap} (a : Nat) (hp : Hp G F [(a, ob 6 [.null, .null, .null, .null, iV 0, iV 0, iV 0, .float 0])] Ha) : CT l G yJ30_init cJ30_init 1 none 2 60 0 0 [.ref a] F [(a, ob 6 [.null, .null, .null, .null, iV 0, iV 0, iV 0, .float 0])] Ha (fun rv F' w' => rv = none ∧ F = F' ∧ HM G F a [] w') := by
  refine z_of hp (Or.inl (by decide)) (Nat.le_of_ble_eq_true rfl) ?_
  intro p e s m below meth c ls hx hb hr hml hts hown hlk hnm hk hsH V hl
  have hl : lv_has ls 1 [(0, .ref a)] := hl
  refine lv_aload_n hx hb dJ30_init_0 rfl (lv_at hl 0 rfl) ?_
  refine z_callI ⟨hx, hb, hml, hown, hts⟩ hk hl.1 V (wc := []) (wr := [(a, ob 6 [.null, .null, .null, .null, iV 0, iV 0, iV 0, .float 0])]) [] [0] rfl rfl rfl rfl (by decide) (As := []) (rest := []) (fun hp => ct_AM_init l G a hp) (cwI 0 hts (lw_meth q1772) rfl rfl rfl (hts _ q120) (hts _ q1770) (hts _ q1771) rfl (by decide +kernel) ⟨Nat.le_of_ble_eq_true rfl, Nat.le_of_ble_eq_true rfl⟩) rfl rfl (Nat.le_of_ble_eq_true rfl) dJ30_init_1 ⟨Nat.le_of_ble_eq_true rfl, Nat.le_of_ble_eq_true rfl⟩ (fun v F1 w1 H locs hq hle hou V => ?_)
  obtain ⟨rfl, rfl, rfl⟩ := hq
  refine W.eq (g2 := F0 m 4 ls []) rfl ?_
  have V : VV G _ _ F [(a, ob 6 [.null, .null, .null, .null, iV 0, iV 0, iV 0, .float 0])] _ _ _ := V
  refine lv_aload_n hx hb dJ30_init_4 rfl (lv_at hl 0 rfl) ?_
  refine lv_ldcf hx hb hown (hts _ q1774) dJ30_init_5 ?_
  refine z_putF hx hb hts hk V hown K_J30 0 rfl 7 (by decide) q1779 (fun _ h => h) rfl hnm rfl rfl rfl (Nat.le_of_ble_eq_true rfl) dJ30_init_7 (fun H locs V => ?_)
  have V : VV G _ _ F [(a, ob 6 [.null, .null, .null, .null, iV 0, iV 0, iV 0, .float 1061158912])] _ _ _ := V
  exact z_vret hx hb hr hlk V dJ30_init_10 ⟨rfl, rfl, Or.inl ⟨rfl, rfl⟩⟩ ⟨Nat.le_of_ble_eq_true rfl, Nat.le_of_ble_eq_true rfl⟩
set_option maxHeartbeats 4000000 in
theorem ct_HM_resize (l : Launch) (G : gG) {F : fS} {Ha : Heap} (a : Nat) (hp : Hp G F [(a, ob 6 [.null, .null, .null, .null, iV 0, iV 0, iV 0, .float 1061158912])] Ha) : CT l G yJ30_resize cJ30_resize 14 (some (.array (.object "java/util/HashMap$Node"))) 1 12 1 16 [.ref a] F [(a, ob 6 [.null, .null, .null, .null, iV 0, iV 0, iV 0, .float 1061158912])] Ha (fun rv F' w' => ∃ T : Nat, rv = some (.ref T) ∧ F = F' ∧ w' = [(a, ob 6 [.null, .null, .ref T, .null, iV 0, iV 0, iV 12, .float 1061158912]), (T, aN G 16 (fun _ => none))]) := by
  refine z_of hp (Or.inl (by decide)) (Nat.le_of_ble_eq_true rfl) ?_
  intro p e s m below meth c ls hx hb hr hml hts hown hlk hnm hk hsH V hl
  have hl : lv_has ls 14 [(0, .ref a)] := hl
  refine lv_aload_n hx hb dJ30_resize_0 rfl (lv_at hl 0 rfl) ?_
  refine z_get hx hb hts hk hown K_J30 (V.w 0 rfl) 2 (by decide) q1775 (fun _ h => h) rfl dJ30_resize_1 ?_
  refine lv_astore_nN (lv' := [(1, .null), (0, .ref a)]) hx hb dJ30_resize_4 rfl hl (by decide) rfl (fun ls hl => ?_)
  refine lv_aload_nN hx hb dJ30_resize_5 rfl (lv_at hl 0 rfl) ?_
  refine lv_ifnonnullN hx hb dJ30_resize_6 ?_
  refine lv_iconst (v := iZ 0) hx hb dJ30_resize_9 rfl ?_
  refine lv_goto (tgt := 15) hx hb dJ30_resize_10 (by decide) ?_
  refine lv_istore_n (lv' := [(2, iV 0), (1, .null), (0, .ref a)]) hx hb dJ30_resize_15 rfl hl (by decide) rfl (fun ls hl => ?_)
  refine lv_aload_n hx hb dJ30_resize_16 rfl (lv_at hl 2 rfl) ?_
  refine z_get hx hb hts hk hown K_J30 (V.w 0 rfl) 6 (by decide) q1778 (fun _ h => h) rfl dJ30_resize_17 ?_
  refine lv_istore_n (lv' := [(3, iV 0), (2, iV 0), (1, .null), (0, .ref a)]) hx hb dJ30_resize_20 rfl hl (by decide) rfl (fun ls hl => ?_)
  refine lv_iconst (v := iZ 0) hx hb dJ30_resize_21 rfl ?_
  refine lv_istore (lv' := [(5, iV 0), (3, iV 0), (2, iV 0), (1, .null), (0, .ref a)]) hx hb dJ30_resize_22 hl (by decide) rfl (fun ls hl => ?_)
  refine lv_iload_n hx hb dJ30_resize_24 rfl (lv_at hl 2 rfl) ?_
  refine z_if_le (tgt := 67) hx hb (by omega) dJ30_resize_25 (by decide) (fun c25 => ?_) (fun c25 => by omega)
  refine lv_iload_n hx hb dJ30_resize_67 rfl (lv_at hl 1 rfl) ?_
  refine z_if_le (tgt := 77) hx hb (by omega) dJ30_resize_68 (by decide) (fun c68 => ?_) (fun c68 => by omega)
  refine lv_bipush (v := iZ 16) hx hb dJ30_resize_77 (by decide) ?_
  refine lv_istore (lv' := [(4, iV 16), (5, iV 0), (3, iV 0), (2, iV 0), (1, .null), (0, .ref a)]) hx hb dJ30_resize_79 hl (by decide) rfl (fun ls hl => ?_)
  refine lv_bipush (v := iZ 12) hx hb dJ30_resize_81 (by decide) ?_
  refine lv_istore (lv' := [(5, iV 12), (4, iV 16), (3, iV 0), (2, iV 0), (1, .null), (0, .ref a)]) hx hb dJ30_resize_83 hl (by decide) rfl (fun ls hl => ?_)
  refine lv_iload hx hb dJ30_resize_85 (lv_at hl 0 rfl) ?_
  refine z_if_ne (tgt := 125) hx hb (by omega) dJ30_resize_87 (by decide) (fun c87 => ?_) (fun c87 => by omega)
  refine lv_aload_n hx hb dJ30_resize_125 rfl (lv_at hl 5 rfl) ?_
  refine lv_iload hx hb dJ30_resize_126 (lv_at hl 0 rfl) ?_
  refine z_put hx hb hts hk V hown K_J30 0 rfl 6 (by decide) q1778 (fun _ h => h) rfl rfl rfl (Nat.le_of_ble_eq_true rfl) dJ30_resize_128 (fun H locs V => ?_)
  have V : VV G _ _ F [(a, ob 6 [.null, .null, .null, .null, iV 0, iV 0, iV 12, .float 1061158912])] _ _ _ := V
  refine lv_iload hx hb dJ30_resize_131 (lv_at hl 1 rfl) ?_
  refine z_newN (n := 16) hx hb hts hk V hown q2259 (by omega) (Nat.le_of_ble_eq_true rfl) (Nat.le_of_ble_eq_true rfl) dJ30_resize_133 (fun r_1 H V => ?_)
  have V : VV G _ _ F [(a, ob 6 [.null, .null, .null, .null, iV 0, iV 0, iV 12, .float 1061158912]), (r_1, aN G 16 (fun _ => none))] _ _ _ := V
  refine lv_astore (lv' := [(6, .ref r_1), (5, iV 12), (4, iV 16), (3, iV 0), (2, iV 0), (1, .null), (0, .ref a)]) hx hb dJ30_resize_136 hl (by decide) rfl (fun ls hl => ?_)
  refine lv_aload_n hx hb dJ30_resize_138 rfl (lv_at hl 6 rfl) ?_
  refine lv_aload hx hb dJ30_resize_139 (lv_at hl 0 rfl) ?_
  refine z_put hx hb hts hk V hown K_J30 0 rfl 2 (by decide) q1775 (fun _ h => h) rfl rfl rfl (Nat.le_of_ble_eq_true rfl) dJ30_resize_141 (fun H locs V => ?_)
  have V : VV G _ _ F [(a, ob 6 [.null, .null, .ref r_1, .null, iV 0, iV 0, iV 12, .float 1061158912]), (r_1, aN G 16 (fun _ => none))] _ _ _ := V
  refine lv_aload_nN hx hb dJ30_resize_144 rfl (lv_at hl 5 rfl) ?_
  refine lv_ifnullN (tgt := 353) hx hb dJ30_resize_145 (by decide) ?_
  refine lv_aload hx hb dJ30_resize_353 (lv_at hl 0 rfl) ?_
  exact z_aret hx hb hr hlk V (Or.inr ⟨_, rfl⟩) (Or.inr ⟨_, rfl⟩) dJ30_resize_355 ⟨r_1, rfl, rfl, rfl⟩ ⟨Nat.le_of_ble_eq_true rfl, Nat.le_of_ble_eq_true rfl⟩
theorem z_putT {p : Program} {l : Launch} {e : Env} {R : Room} {s : State} {m : MethodId} {args : Array Value} {below : List Frame} {meth : Method} {c : Code} {H : Heap} {locs : List Loc} {cells slots : Nat} {Q : State → Prop} {cc : ByteArray} {pc : Nat} {ls : Array Slot} {rest : List Value} {G : gG} {A : Nat → Prop} {Fa Fk F : fS} {w t : va_W} {Ha : Heap} {a : Nat} (hx : p.tables.exec = Jvm.exec) (hb : c.code = cc) (hts : ∀ w ∈ lw_all, w.before args s = true) (hk : KK G Fk s) (V : VV G A Fa F (w ++ t) Ha H locs) {own ref C : String} {T : u_T} {N ci index : Nat} {ty : Nat → FieldType} (hown : s.vm.findClass own = some m.cls) (K : Kls ci C T N ty) (i : Nat) {fs : List Value} (he : t[i]? = some (a, .inr (ci, fs))) (k : Nat) (hkN : k < N) (hlink : (Cond.fieldLink own index ref (T k).2.1 (T k).2.2.1) ∈ lw_all) (hsame : ∀ x, s.fieldFound? (T k).1 (T k).2.1 (T k).2.2.1 = some x → s.fieldFound? ref (T k).2.1 (T k).2.2.1 = some x) (hfin : (T k).2.2.2 = false) {v : Value} (hn : narrow (ty k) v = v) (hfit : fits (ty k) v = true) (hl : k < fs.length) (hdg : decode cc pc = .ok (.putfield index, 3))
    (kk : ∀ (H1 : Heap) (locs1 : List Loc), VV G A Fa F (w ++ t.set i (a, .inr (ci, fs.set k v))) Ha H1 locs1 → W p l e R s m args below meth c H1 locs1 cells slots Q (F0 m (pc + 3) ls rest)) : W p l e R s m args below meth c H locs cells slots Q (F0 m pc ls (v :: .ref a :: rest)) :=
  z_put hx hb hts hk V hown K (w.length + i) (by rw [List.getElem?_append_right (by omega), show w.length + i - w.length = i by omega]; exact he) k hkN hlink hsame hfin hn hfit hl hdg (fun H1 locs1 V1 => kk H1 locs1 (by
    have e : (w ++ t).set (w.length + i) (a, .inr (ci, fs.set k v)) = w ++ t.set i (a, .inr (ci, fs.set k v)) := by rw [List.set_append_right _ _ (by omega), show w.length + i - w.length = i by omega]
    rw [e] at V1
    exact V1))
theorem nds_at {nx : Nat → Option Nat} {es : List En} {i : Nat} {e : En} (h : es[i]? = some e) {v : Value} (hv : va_rf (nx e.1) = v) : (nds nx es)[i]? = some (e.1, .inr (7, [iV (hz e.2.2.1), .ref e.2.1, .ref e.2.2.2, v])) := by
  subst hv
  unfold nds
  rw [List.getElem?_map, h]
  rfl
theorem addr_inj {es : List En} (hn : (es.map (fun e => e.1)).Nodup) {i j : Nat} {p q : En} (hi : es[i]? = some p) (hj : es[j]? = some q) (h : p.1 = q.1) : i = j := by
  have h1 : (es.map (fun e => e.1))[i]? = some p.1 := by rw [List.getElem?_map, hi]; rfl
  have h2 : (es.map (fun e => e.1))[j]? = some p.1 := by rw [List.getElem?_map, hj, h]; rfl
  obtain ⟨l1, e1⟩ := List.getElem?_eq_some_iff.mp h1
  obtain ⟨l2, e2⟩ := List.getElem?_eq_some_iff.mp h2
  exact (List.getElem_inj hn).mp (e1.trans e2.symm)
theorem nds_next {nx : Nat → Option Nat} {es : List En} (hn : (es.map (fun e => e.1)).Nodup) {i : Nat} {p : En} (hi : es[i]? = some p) (v : Option Nat) : (nds nx es).set i (p.1, .inr (7, [iV (hz p.2.2.1), .ref p.2.1, .ref p.2.2.2, va_rf v])) = nds (va_up nx p.1 v) es := by
  apply List.ext_getElem?
  intro j
  unfold nds
  rw [List.getElem?_set, List.getElem?_map, List.length_map, List.getElem?_map]
  have hl := (List.getElem?_eq_some_iff.mp hi).1
  by_cases h : i = j
  · subst h
    rw [if_pos rfl, if_pos hl, hi]
    show some _ = some (nd _ p)
    unfold nd va_up
    rw [if_pos rfl]
  · rw [if_neg h]
    cases hj : es[j]? with
    | none => rfl
    | some q =>
      show some (nd _ q) = some (nd _ q)
      unfold nd va_up
      rw [if_neg (fun e => h (addr_inj hn hi hj e.symm))]
theorem nds_val {nx : Nat → Option Nat} {es : List En} (hn : (es.map (fun e => e.1)).Nodup) {i : Nat} {p : En} (hi : es[i]? = some p) (va : Nat) : (nds nx es).set i (p.1, .inr (7, [iV (hz p.2.2.1), .ref p.2.1, .ref va, va_rf (nx p.1)])) = nds nx (es.set i (p.1, p.2.1, p.2.2.1, va)) := by
  apply List.ext_getElem?
  intro j
  unfold nds
  rw [List.getElem?_set, List.getElem?_map, List.length_map, List.getElem?_map, List.getElem?_set]
  have hl := (List.getElem?_eq_some_iff.mp hi).1
  by_cases h : i = j
  · subst h
    rw [if_pos rfl, if_pos hl, if_pos rfl, if_pos hl]
    rfl
  · rw [if_neg h, if_neg h]
theorem nds_fresh {nx : Nat → Option Nat} {es : List En} {n : Nat} (hn : n ∉ es.map (fun e => e.1)) (v : Option Nat) : nds (va_up nx n v) es = nds nx es := by
  unfold nds
  apply List.map_congr_left
  intro e he
  unfold nd va_up
  rw [if_neg (fun h => hn (List.mem_map.mpr ⟨e, he, h⟩))]
theorem cha_snoc (es : List En) (x : En) (b : Nat) : cha (es ++ [x]) b = cha es b ++ (if bk x.2.2.1 = b then [x.1] else []) := by
  unfold cha ch
  rw [List.filter_append, List.map_append]
  congr 1
  by_cases h : bk x.2.2.1 = b
  · rw [if_pos h, List.filter_cons_of_pos (by simpa using h)]; rfl
  · rw [if_neg h, List.filter_cons_of_neg (by simpa using h)]; rfl
theorem cha_set {es : List En} {i : Nat} {p q : En} (hi : es[i]? = some p) (h1 : q.1 = p.1) (h2 : q.2.2.1 = p.2.2.1) (b : Nat) : cha (es.set i q) b = cha es b := by
  unfold cha ch
  induction es generalizing i with
  | nil => rfl
  | cons x l ih =>
    cases i with
    | zero =>
      have : x = p := Option.some.inj hi
      subst this
      show ((q :: l).filter _).map _ = _
      by_cases h : bk x.2.2.1 = b
      · rw [List.filter_cons_of_pos (by simpa [h2] using h), List.filter_cons_of_pos (by simpa using h), List.map_cons, List.map_cons, h1]
      · rw [List.filter_cons_of_neg (by simpa [h2] using h), List.filter_cons_of_neg (by simpa using h)]
    | succ i =>
      show ((x :: l.set i q).filter _).map _ = _
      have := ih (i := i) hi
      by_cases h : bk x.2.2.1 = b
      · rw [List.filter_cons_of_pos (by simpa using h), List.filter_cons_of_pos (by simpa using h), List.map_cons, List.map_cons, this]
      · rw [List.filter_cons_of_neg (by simpa using h), List.filter_cons_of_neg (by simpa using h), this]
theorem cha_sub {es : List En} {b x : Nat} (h : x ∈ cha es b) : x ∈ es.map (fun e => e.1) := by
  obtain ⟨e, he, rfl⟩ := List.mem_map.mp h
  exact List.mem_map.mpr ⟨e, (List.mem_filter.mp he).1, rfl⟩
theorem cha_bk {es : List En} (hn : (es.map (fun e => e.1)).Nodup) {b b' x : Nat} (h : x ∈ cha es b) (h' : x ∈ cha es b') : b = b' := by
  obtain ⟨e, he, hx⟩ := List.mem_map.mp h
  obtain ⟨e', he', hx'⟩ := List.mem_map.mp h'
  obtain ⟨i, hi⟩ := List.getElem?_of_mem (List.mem_filter.mp he).1
  obtain ⟨j, hj⟩ := List.getElem?_of_mem (List.mem_filter.mp he').1
  have : i = j := addr_inj hn hi hj (by rw [hx, hx'])
  subst this
  rw [hi] at hj
  cases hj
  have a1 := (List.mem_filter.mp he).2
  have a2 := (List.mem_filter.mp he').2
  simp only [decide_eq_true_eq] at a1 a2
  rw [← a1, ← a2]
theorem HMo.upd {G : gG} {F : fS} {f nx : Nat → Option Nat} {es : List En} (h : HMo G F f nx es) {i : Nat} {p : En} (hi : es[i]? = some p) (va : Nat) : HMo G F f nx (es.set i (p.1, p.2.1, p.2.2.1, va)) := by
  obtain ⟨h1, h2, h3, h4, h5, h6⟩ := h
  have hc := cha_set hi (q := (p.1, p.2.1, p.2.2.1, va)) rfl rfl
  have em : ∀ {α : Type} (g : En → α), g (p.1, p.2.1, p.2.2.1, va) = g p → (es.set i (p.1, p.2.1, p.2.2.1, va)).map g = es.map g := by
    intro α g hg
    rw [List.map_set, hg]
    apply List.ext_getElem?
    intro j
    rw [List.getElem?_set, List.length_map]
    by_cases hij : i = j
    · subst hij
      rw [if_pos rfl, if_pos (List.getElem?_eq_some_iff.mp hi).1, List.getElem?_map, hi]
      rfl
    · rw [if_neg hij]
  refine ⟨fun e he => ?_, by rw [em _ rfl]; exact h2, by rw [em _ rfl]; exact h3, by rw [List.length_set]; exact h4, fun b hb => by rw [hc]; exact h5 b hb, fun b j x hx => by rw [hc] at hx ⊢; exact h6 b j x hx⟩
  rcases List.mem_or_eq_of_mem_set he with h | h
  · exact h1 e h
  · rw [h]; exact h1 p (List.mem_of_getElem? hi)
theorem HMo.add {G : gG} {F : fS} {f nx f' nx' : Nat → Option Nat} {es : List En} (h : HMo G F f nx es) {x : En} (hS : SH G F x.2.1 x.2.2.1) (hx : x.2.2.1 ∉ es.map (fun e => e.2.2.1)) (hn : x.1 ∉ es.map (fun e => e.1)) (hl : es.length < 12)
    (hf : ∀ b, b < 16 → f' b = if bk x.2.2.1 = b ∧ cha es b = [] then some x.1 else f b) (hnew : nx' x.1 = none) (hnx : ∀ b i y, (cha es b)[i]? = some y → nx' y = if bk x.2.2.1 = b ∧ (cha es b)[i + 1]? = none then some x.1 else nx y) : HMo G F f' nx' (es ++ [x]) := by
  obtain ⟨h1, h2, h3, h4, h5, h6⟩ := h
  refine ⟨fun e he => ?_, ?_, ?_, by simp; omega, fun b hb => ?_, fun b i y hy => ?_⟩
  · rcases List.mem_append.mp he with h | h
    · exact h1 e h
    · simp at h; rw [h]; exact hS
  · rw [List.map_append, List.nodup_append]
    refine ⟨h2, by simp, ?_⟩
    intro a ha b hb e
    simp at hb
    exact hx (by rw [← hb, ← e]; exact ha)
  · rw [List.map_append, List.nodup_append]
    refine ⟨h3, by simp, ?_⟩
    intro a ha b hb e
    simp at hb
    exact hn (by rw [← hb, ← e]; exact ha)
  · rw [hf b hb, cha_snoc]
    by_cases h : bk x.2.2.1 = b
    · rw [if_pos h]
      by_cases hc : cha es b = []
      · rw [if_pos ⟨h, hc⟩, hc]; rfl
      · rw [if_neg (fun e => hc e.2), h5 b hb]
        cases hcc : cha es b with
        | nil => exact absurd hcc hc
        | cons => rfl
    · rw [if_neg (fun e => h e.1), if_neg h, List.append_nil]; exact h5 b hb
  · rw [cha_snoc] at hy ⊢
    by_cases hi : i < (cha es b).length
    · rw [List.getElem?_append_left hi] at hy
      rw [hnx b i y hy]
      by_cases h : bk x.2.2.1 = b
      · rw [if_pos h]
        by_cases hlast : i + 1 < (cha es b).length
        · rw [if_neg (fun e => by have := List.getElem?_eq_none_iff.mp e.2; omega), List.getElem?_append_left hlast]
          exact h6 b i y hy
        · rw [if_pos ⟨h, List.getElem?_eq_none_iff.mpr (by omega)⟩, List.getElem?_append_right (by omega), show i + 1 - (cha es b).length = 0 by omega]
          rfl
      · rw [if_neg (fun e => h e.1), if_neg h, List.append_nil]
        exact h6 b i y hy
    · rw [List.getElem?_append_right (by omega)] at hy
      by_cases h : bk x.2.2.1 = b
      · rw [if_pos h] at hy ⊢
        have hi0 : i - (cha es b).length = 0 := by
          have := (List.getElem?_eq_some_iff.mp hy).1
          simp at this
          omega
        rw [hi0] at hy
        have : y = x.1 := (Option.some.inj hy).symm
        subst this
        rw [hnew, List.getElem?_append_right (by omega), List.getElem?_eq_none (by simp; omega)]
      · rw [if_neg h] at hy
        cases hy
theorem z_anyN {G : gG} {Fk : fS} {s : State} {H : Heap} {a : Nat} {fs : List Value} (hk : KK G Fk s) (hc : va_at G.1 CL (a, .inr (7, fs)) H) : va_Any "java/util/HashMap$Node" s H a :=
  va_rAny (q0 := 0) (r := (RJ33, TJ33, 4)) hk.K (one_P hc) rfl rfl (fun comp c0 f1 f2 => by
    cases f1.symm.trans f2
    exact va_asg _ _)
theorem nds_app {nx : Nat → Option Nat} {es : List En} {n a va : Nat} {t : List Nat} (hn : n ∉ es.map (fun e => e.1)) : nds (va_up nx n none) (es ++ [(n, a, t, va)]) = nds nx es ++ [(n, ob 7 [iV (hz t), .ref a, .ref va, .null])] := by
  have h := nds_fresh (nx := nx) hn none
  unfold nds at h ⊢
  rw [List.map_append, h]
  congr 1
  show [nd _ _] = _
  unfold nd va_up
  rw [if_pos rfl]
  rfl
theorem fresh_of {G : gG} {A : Nat → Prop} {F0 F : fS} {w : va_W} {H0 H : Heap} {locs : List Loc} {nx : Nat → Option Nat} {es : List En} (V : VV G A F0 F (w ++ nds nx es) H0 H locs) (i : Nat) {n : Nat} {c : va_E} (h : w[i]? = some (n, c)) : n ∉ es.map (fun e => e.1) := by
  intro hm
  obtain ⟨e, he, hn⟩ := List.mem_map.mp hm
  obtain ⟨j, hj⟩ := List.getElem?_of_mem he
  have hi := (List.getElem?_eq_some_iff.mp h).1
  have h1 : (w ++ nds nx es)[i]? = some (n, c) := by rw [List.getElem?_append_left hi]; exact h
  have h2 : (w ++ nds nx es)[w.length + j]? = some (nd nx e) := by
    rw [List.getElem?_append_right (by omega), show w.length + j - w.length = j by omega]
    unfold nds
    rw [List.getElem?_map, hj]
    rfl
  have := V.D.1 i (w.length + j) _ _ h1 h2 hn.symm
  omega
theorem HMo.nil (G : gG) (F : fS) : HMo G F (fun _ => none) (fun _ => none) [] := by
  refine ⟨fun e he => absurd he List.not_mem_nil, List.nodup_nil, List.nodup_nil, Nat.zero_le _, fun b hb => rfl, fun b i x hx => ?_⟩
  simp [cha, ch] at hx
theorem VV.to {G : gG} {A : Nat → Prop} {F0 F : fS} {w w' : va_W} {H0 H : Heap} {locs : List Loc} (e : w = w') (V : VV G A F0 F w H0 H locs) : VV G A F0 F w' H0 H locs := e ▸ V
set_option maxHeartbeats 4000000 in
theorem ct_HM_ana (l : Launch) (G : gG) {F : fS} {Ha : Heap} (m0 n : Nat) (hp : Hp G F [] Ha) : CT l G yJ30_afterNodeAccess cJ30_afterNodeAccess 2 none 1 12 0 0 [.ref m0, .ref n] F [] Ha (fun rv F' w' => rv = none ∧ F = F' ∧ w' = []) := by
  refine z_of hp (Or.inl (by decide)) (Nat.le_of_ble_eq_true rfl) ?_
  intro p e s m below meth c ls hx hb hr hml hts hown hlk hnm hk hsH V hl
  have hl : lv_has ls 2 [(0, .ref m0), (1, .ref n)] := hl
  exact z_vret hx hb hr hlk V dJ30_afterNodeAccess_0 ⟨rfl, rfl, rfl⟩ ⟨Nat.le_of_ble_eq_true rfl, Nat.le_of_ble_eq_true rfl⟩
set_option maxHeartbeats 4000000 in
theorem ct_HM_ani (l : Launch) (G : gG) {F : fS} {Ha : Heap} (m0 : Nat) (hp : Hp G F [] Ha) : CT l G yJ30_afterNodeInsertion cJ30_afterNodeInsertion 2 none 1 12 0 0 [.ref m0, iV 1] F [] Ha (fun rv F' w' => rv = none ∧ F = F' ∧ w' = []) := by
  refine z_of hp (Or.inl (by decide)) (Nat.le_of_ble_eq_true rfl) ?_
  intro p e s m below meth c ls hx hb hr hml hts hown hlk hnm hk hsH V hl
  have hl : lv_has ls 2 [(0, .ref m0), (1, iV 1)] := hl
  exact z_vret hx hb hr hlk V dJ30_afterNodeInsertion_0 ⟨rfl, rfl, rfl⟩ ⟨Nat.le_of_ble_eq_true rfl, Nat.le_of_ble_eq_true rfl⟩
theorem fnd_key {es : List En} {t : List Nat} (h : fnd es t = none) : t ∉ es.map (fun e => e.2.2.1) := by
  intro hm
  obtain ⟨e, he, ht⟩ := List.mem_map.mp hm
  have := List.find?_eq_none.mp h e he
  simp [ht] at this
theorem HM_link {es : List En} {nx : Nat → Option Nat} {t : List Nat} {a n va i : Nat} {ei : En} (h3 : (es.map (fun e => e.1)).Nodup) (h6 : ∀ b i x, (cha es b)[i]? = some x → nx x = (cha es b)[i + 1]?) (hfr : n ∉ es.map (fun e => e.1)) (hci : (ch es (bk t))[i]? = some ei) (hc2 : (ch es (bk t))[i + 1]? = none) :
    ∀ b j y, (cha es b)[j]? = some y → va_up (va_up nx ei.1 (some n)) n none y = if bk ((n, a, t, va) : En).2.2.1 = b ∧ (cha es b)[j + 1]? = none then some ((n, a, t, va) : En).1 else nx y := by
  intro b j y hy
  have hyn : y ≠ n := fun e => hfr (by rw [← e]; exact cha_sub (List.mem_of_getElem? hy))
  show va_up (va_up nx ei.1 (some n)) n none y = if bk t = b ∧ (cha es b)[j + 1]? = none then some n else nx y
  have hlast : (cha es (bk t))[i + 1]? = none := by unfold cha; rw [List.getElem?_map, hc2]; rfl
  unfold va_up
  rw [if_neg hyn]
  by_cases he : y = ei.1
  · subst he
    have hb : bk t = b := cha_bk h3 (List.mem_of_getElem? (cha_ch hci)) (List.mem_of_getElem? hy)
    subst hb
    have e1 := h6 _ _ _ (cha_ch hci)
    have e2 := h6 _ _ _ hy
    rw [if_pos rfl, if_pos ⟨rfl, by rw [← e2, e1, hlast]⟩]
  · rw [if_neg he]
    by_cases hc : bk t = b ∧ (cha es b)[j + 1]? = none
    · exfalso
      obtain ⟨rfl, hj⟩ := hc
      have l1 := (List.getElem?_eq_some_iff.mp (cha_ch hci)).1
      have l2 := (List.getElem?_eq_some_iff.mp hy).1
      have l3 := List.getElem?_eq_none_iff.mp hlast
      have l4 := List.getElem?_eq_none_iff.mp hj
      have : i = j := by omega
      subst this
      exact he (Option.some.inj (hy.symm.trans (cha_ch hci)))
    · rw [if_neg hc]
theorem HMo.add0 {G : gG} {F : fS} {f nx : Nat → Option Nat} {es : List En} {n a va : Nat} {t : List Nat} (ho : HMo G F f nx es) (hS : SH G F a t) (hE : fnd es t = none) (hfr : n ∉ es.map (fun e => e.1)) (hcap : es.length < 12) (hch : cha es (bk t) = []) : HMo G F (va_up f (bk t) (some n)) (va_up nx n none) (es ++ [(n, a, t, va)]) := by
  refine HMo.add ho hS (fnd_key hE) hfr hcap (fun b hb => ?_) (by unfold va_up; rw [if_pos rfl]) (fun b i y hy => ?_)
  · show va_up f (bk t) (some n) b = if bk t = b ∧ cha es b = [] then some n else f b
    unfold va_up
    by_cases hbb : b = bk t
    · subst hbb; rw [if_pos rfl, if_pos ⟨rfl, hch⟩]
    · rw [if_neg hbb, if_neg (fun e => hbb e.1.symm)]
  · show va_up nx n none y = if bk t = b ∧ (cha es b)[i + 1]? = none then some n else nx y
    have hyn : y ≠ n := fun e => hfr (by rw [← e]; exact cha_sub (List.mem_of_getElem? hy))
    unfold va_up
    rw [if_neg hyn, if_neg (fun e => by rw [← e.1, hch] at hy; cases hy)]
theorem HMo.add1 {G : gG} {F : fS} {f nx : Nat → Option Nat} {es : List En} {n a va i : Nat} {ei : En} {t : List Nat} (ho : HMo G F f nx es) (hS : SH G F a t) (hE : fnd es t = none) (hfr : n ∉ es.map (fun e => e.1)) (hcap : es.length < 12) (hci : (ch es (bk t))[i]? = some ei) (hc2 : (ch es (bk t))[i + 1]? = none) : HMo G F f (va_up (va_up nx ei.1 (some n)) n none) (es ++ [(n, a, t, va)]) := by
  refine HMo.add ho hS (fnd_key hE) hfr hcap (fun b hb => ?_) (by unfold va_up; rw [if_pos rfl]) (HM_link ho.2.2.1 ho.2.2.2.2.2 hfr hci hc2)
  show f b = if bk t = b ∧ cha es b = [] then some n else f b
  rw [if_neg (fun e => by have := cha_ch hci; rw [e.1, e.2] at this; cases this)]
set_option maxHeartbeats 4000000 in
theorem ct_HM_putVal (l : Launch) (G : gG) {F : fS} {Ha : Heap} (m0 a : Nat) (t : List Nat) (h : SH G F a t) (es : List En) (wl : va_W) (hw : HM G F m0 es wl) (va : Nat) (hcap : es.length < 12) (hbk : (cha es (bk t)).length ≤ 7) (hp : Hp G F wl Ha) : CT l G yJ30_putVal cJ30_putVal 13 (some (.object "java/lang/Object")) 3 88 3 40 [.ref m0, iV (hz t), .ref a, .ref va, iV 0, iV 1] F wl Ha (fun rv F' w' => F = F' ∧ ((∃ (i : Nat) (e : En), es[i]? = some e ∧ e.2.2.1 = t ∧ rv = some (.ref e.2.2.2) ∧ HM G F m0 (es.set i (e.1, e.2.1, e.2.2.1, va)) w') ∨ (fnd es t = none ∧ rv = some .null ∧ ∃ n : Nat, HM G F m0 (es ++ [(n, a, t, va)]) w'))) := by
  refine z_of hp (Or.inl (by decide)) (Nat.le_of_ble_eq_true rfl) ?_
  intro p e s m below meth c ls hx hb hr hml hts hown hlk hnm hk hsH V hl
  have hl : lv_has ls 13 [(0, .ref m0), (1, iV (hz t)), (2, .ref a), (3, .ref va), (4, iV 0), (5, iV 1)] := hl
  obtain ⟨hes, rfl⟩ | ⟨T, f, nx, mc, ho, rfl⟩ := hw
  · skip
    obtain ⟨f, nx, mc, hfe, hne, hmc⟩ : ∃ (f nx : Nat → Option Nat) (mc : Int), f = (fun _ => none) ∧ nx = (fun _ => none) ∧ mc = 0 := ⟨_, _, _, rfl, rfl, rfl⟩
    have ho : HMo G F f nx es := by rw [hes, hfe, hne]; exact HMo.nil G F
    have hO := ho
    obtain ⟨h1, h2, h3, h4, h5, h6⟩ := ho
    have hbt := bk_lt t
    have hzt := hz_B t
    have h5t := h5 (bk t) hbt
    refine lv_aload_n hx hb dJ30_putVal_0 rfl (lv_at hl 0 rfl) ?_
    refine z_get hx hb hts hk hown K_J30 (V.w 0 rfl) 2 (by decide) q1775 (fun _ h => h) rfl dJ30_putVal_1 ?_
    refine lv_dup hx hb dJ30_putVal_4 rfl ?_
    refine lv_astoreN (lv' := [(6, .null), (0, .ref m0), (1, iV (hz t)), (2, .ref a), (3, .ref va), (4, iV 0), (5, iV 1)]) hx hb dJ30_putVal_5 hl (by decide) rfl (fun ls hl => ?_)
    refine lv_ifnullN (tgt := 19) hx hb dJ30_putVal_7 (by decide) ?_
    refine lv_aload_n hx hb dJ30_putVal_19 rfl (lv_at hl 1 rfl) ?_
    refine z_callV ⟨hx, hb, hml, hown, hts⟩ hk hl.1 V (wc := [(m0, ob 6 [.null, .null, .null, .null, iV 0, iV 0, iV 0, .float 1061158912])]) (wr := []) [0] [] rfl rfl rfl rfl (by decide) (As := []) (rest := []) (fun hp => ct_HM_resize l G m0 hp) (cwV 0 hts (lw_V q2252 q2253 q2254 q121 q2255) rfl rfl rfl (by decide +kernel) ⟨Nat.le_of_ble_eq_true rfl, Nat.le_of_ble_eq_true rfl⟩) (z_rc hk (V.w 0 rfl) (q := (RJ30, TJ30, 8)) rfl) rfl rfl (Nat.le_of_ble_eq_true rfl) dJ30_putVal_20 ⟨Nat.le_of_ble_eq_true rfl, Nat.le_of_ble_eq_true rfl⟩ (fun v F1 w1 H locs hq hle hou V => ?_)
    obtain ⟨T, rfl, rfl, rfl⟩ := hq
    refine W.eq (g2 := F0 m 23 ls [.ref T]) rfl ?_
    have V : VV G _ _ F [(m0, ob 6 [.null, .null, .ref T, .null, iV 0, iV 0, iV 12, .float 1061158912]), (T, aN G 16 (fun _ => none))] _ _ _ := V
    refine lv_dup hx hb dJ30_putVal_23 rfl ?_
    refine lv_astore (lv' := [(6, .ref T), (0, .ref m0), (1, iV (hz t)), (2, .ref a), (3, .ref va), (4, iV 0), (5, iV 1)]) hx hb dJ30_putVal_24 hl (by decide) rfl (fun ls hl => ?_)
    refine z_nlen hx hb hk (V.w 1 rfl) dJ30_putVal_26 ?_
    refine lv_istore (lv' := [(8, iV 16), (6, .ref T), (0, .ref m0), (1, iV (hz t)), (2, .ref a), (3, .ref va), (4, iV 0), (5, iV 1)]) hx hb dJ30_putVal_27 hl (by decide) rfl (fun ls hl => ?_)
    have V := VV.to (w' := [(m0, ob 6 [.null, .null, .ref T, .null, iV (es.length : Nat), iV mc, iV 12, .float 1061158912]), (T, aN G 16 f)] ++ nds nx es) (by rw [hes, hfe, hne, hmc]; rfl) V
    refine lv_aload hx hb dJ30_putVal_29 (lv_at hl 1 rfl) ?_
    refine lv_iload hx hb dJ30_putVal_31 (lv_at hl 0 rfl) ?_
    refine lv_iconst (v := iZ 1) hx hb dJ30_putVal_33 rfl ?_
    refine z_isub hx hb dJ30_putVal_34 ?_
    refine lv_iload_n hx hb dJ30_putVal_35 rfl (lv_at hl 3 rfl) ?_
    refine W.eq (g2 := F0 m 36 ls [iV (hz t), iV 15, .ref T]) rfl ?_
    refine z_bk hx hb dJ30_putVal_36 ?_
    refine lv_dup hx hb dJ30_putVal_37 rfl ?_
    refine lv_istore (lv' := [(9, iV (bk t : Nat)), (8, iV 16), (6, .ref T), (0, .ref m0), (1, iV (hz t)), (2, .ref a), (3, .ref va), (4, iV 0), (5, iV 1)]) hx hb dJ30_putVal_38 hl (by decide) rfl (fun ls hl => ?_)
    cases hc0 : (ch es (bk t))[0]? with
    | none =>
      have hch : cha es (bk t) = [] := by unfold cha; have := List.getElem?_eq_none_iff.mp hc0; rw [List.length_eq_zero_iff.mp (show (ch es (bk t)).length = 0 by omega)]; rfl
      have e0 : f (bk t) = none := by rw [h5t, hch]; rfl
      have hE : fnd es t = none := fnd_none (fun i e hi => by have hl0 := List.getElem?_eq_none_iff.mp hc0; rw [List.getElem?_eq_none (by omega)] at hi; cases hi)
      refine z_nald (v := .null) hx hb hk (V.w 1 rfl) (bk t) (by omega) dJ30_putVal_40 (by rw [e0]; rfl) ?_
      refine lv_dup hx hb dJ30_putVal_41 rfl ?_
      refine lv_astoreN (lv' := [(7, .null), (9, iV (bk t : Nat)), (8, iV 16), (6, .ref T), (0, .ref m0), (1, iV (hz t)), (2, .ref a), (3, .ref va), (4, iV 0), (5, iV 1)]) hx hb dJ30_putVal_42 hl (by decide) rfl (fun ls hl => ?_)
      refine lv_ifnonnullN hx hb dJ30_putVal_44 ?_
      refine lv_aload hx hb dJ30_putVal_47 (lv_at hl 3 rfl) ?_
      refine lv_iload hx hb dJ30_putVal_49 (lv_at hl 1 rfl) ?_
      refine lv_aload_n hx hb dJ30_putVal_51 rfl (lv_at hl 4 rfl) ?_
      refine lv_iload_n hx hb dJ30_putVal_52 rfl (lv_at hl 5 rfl) ?_
      refine lv_aload_n hx hb dJ30_putVal_53 rfl (lv_at hl 6 rfl) ?_
      refine lv_aload_n hx hb dJ30_putVal_54 rfl (lv_at hl 7 rfl) ?_
      refine lv_null hx hb dJ30_putVal_55 ?_
      refine z_callV ⟨hx, hb, hml, hown, hts⟩ hk hl.1 V (wc := []) (wr := ([(m0, ob 6 [.null, .null, .ref T, .null, iV (es.length : Nat), iV mc, iV 12, .float 1061158912]), (T, aN G 16 f)] ++ (nds nx es))) [] ([0, 1] ++ tIx [(m0, ob 6 [.null, .null, .ref T, .null, iV (es.length : Nat), iV mc, iV 12, .float 1061158912]), (T, aN G 16 f)] (nds nx es)) (idxN (w := [(m0, ob 6 [.null, .null, .ref T, .null, iV (es.length : Nat), iV mc, iV 12, .float 1061158912]), (T, aN G 16 f)]) (t := (nds nx es)) (wC := []) (is := []) rfl) (idxT (w := [(m0, ob 6 [.null, .null, .ref T, .null, iV (es.length : Nat), iV mc, iV 12, .float 1061158912]), (T, aN G 16 f)]) (t := (nds nx es)) (wC := [(m0, ob 6 [.null, .null, .ref T, .null, iV (es.length : Nat), iV mc, iV 12, .float 1061158912]), (T, aN G 16 f)]) (is := [0, 1]) rfl) rfl (ndT (w := [(m0, ob 6 [.null, .null, .ref T, .null, iV (es.length : Nat), iV mc, iV 12, .float 1061158912]), (T, aN G 16 f)]) (t := (nds nx es)) (wC := [(m0, ob 6 [.null, .null, .ref T, .null, iV (es.length : Nat), iV mc, iV 12, .float 1061158912]), (T, aN G 16 f)]) (is := [0, 1]) rfl rfl) (disT2 (w := [(m0, ob 6 [.null, .null, .ref T, .null, iV (es.length : Nat), iV mc, iV 12, .float 1061158912]), (T, aN G 16 f)]) (t := (nds nx es)) (wC := []) (isC := []) rfl (by decide)) (As := [iV (hz t), .ref a, .ref va, .null]) (rest := [iV (bk t : Nat), .ref T]) (fun hp => ct_HM_newNode l G m0 a va (hz t) hp) (cwV 4 hts (lw_V q2322 q2323 q2324 q121 q2325) rfl rfl rfl (by decide +kernel) ⟨Nat.le_of_ble_eq_true rfl, Nat.le_of_ble_eq_true rfl⟩) (z_rc hk (V.w 0 rfl) (q := (RJ30, TJ30, 8)) rfl) rfl rfl (Nat.le_of_ble_eq_true rfl) dJ30_putVal_56 ⟨Nat.le_of_ble_eq_true rfl, Nat.le_of_ble_eq_true rfl⟩ (fun v F1 w1 H locs hq hle hou V => ?_)
      obtain ⟨n, rfl, rfl, rfl⟩ := hq
      have V := VV.rot1 V
      refine W.eq (g2 := F0 m 59 ls [.ref n, iV (bk t : Nat), .ref T]) rfl ?_
      have V : VV G _ _ F ([(m0, ob 6 [.null, .null, .ref T, .null, iV (es.length : Nat), iV mc, iV 12, .float 1061158912]), (T, aN G 16 f), (n, ob 7 [iV (hz t), .ref a, .ref va, .null])] ++ (nds nx es)) _ _ _ := V
      have hfr : n ∉ es.map (fun e => e.1) := fresh_of (w := [(m0, ob 6 [.null, .null, .ref T, .null, iV (es.length : Nat), iV mc, iV 12, .float 1061158912]), (T, aN G 16 f), (n, ob 7 [iV (hz t), .ref a, .ref va, .null])]) V 2 rfl
      refine z_nast hx hb hk V 1 rfl (bk t) (by omega) (z_anyN hk (V.w 2 rfl)) dJ30_putVal_59 (fun H locs V => ?_)
      have V : VV G _ _ F ([(m0, ob 6 [.null, .null, .ref T, .null, iV (es.length : Nat), iV mc, iV 12, .float 1061158912]), (T, aN G 16 (va_up f (bk t) (some n))), (n, ob 7 [iV (hz t), .ref a, .ref va, .null])] ++ (nds nx es)) _ _ _ := V
      refine lv_goto (tgt := 259) hx hb dJ30_putVal_60 (by decide) ?_
      refine lv_aload_n hx hb dJ30_putVal_259 rfl (lv_at hl 4 rfl) ?_
      refine lv_dup hx hb dJ30_putVal_260 rfl ?_
      refine z_get hx hb hts hk hown K_J30 (V.w 0 rfl) 5 (by decide) q1777 (fun _ h => h) rfl dJ30_putVal_261 ?_
      refine lv_iconst (v := iZ 1) hx hb dJ30_putVal_264 rfl ?_
      refine z_iadd hx hb dJ30_putVal_265 ?_
      refine z_put hx hb hts hk V hown K_J30 0 rfl 5 (by decide) q1777 (fun _ h => h) rfl rfl rfl (Nat.le_of_ble_eq_true rfl) dJ30_putVal_266 (fun H locs V => ?_)
      have V : VV G _ _ F ([(m0, ob 6 [.null, .null, .ref T, .null, iV (es.length : Nat), iV (mc + 1), iV 12, .float 1061158912]), (T, aN G 16 (va_up f (bk t) (some n))), (n, ob 7 [iV (hz t), .ref a, .ref va, .null])] ++ (nds nx es)) _ _ _ := V
      refine lv_aload_n hx hb dJ30_putVal_269 rfl (lv_at hl 4 rfl) ?_
      refine lv_dup hx hb dJ30_putVal_270 rfl ?_
      refine z_get hx hb hts hk hown K_J30 (V.w 0 rfl) 4 (by decide) q1776 (fun _ h => h) rfl dJ30_putVal_271 ?_
      refine lv_iconst (v := iZ 1) hx hb dJ30_putVal_274 rfl ?_
      refine z_iadd hx hb dJ30_putVal_275 ?_
      refine lv_dup_x1 hx hb dJ30_putVal_276 rfl rfl ?_
      refine z_put hx hb hts hk V hown K_J30 0 rfl 4 (by decide) q1776 (fun _ h => h) rfl rfl rfl (Nat.le_of_ble_eq_true rfl) dJ30_putVal_277 (fun H locs V => ?_)
      have V : VV G _ _ F ([(m0, ob 6 [.null, .null, .ref T, .null, iV ((es.length : Nat) + 1), iV (mc + 1), iV 12, .float 1061158912]), (T, aN G 16 (va_up f (bk t) (some n))), (n, ob 7 [iV (hz t), .ref a, .ref va, .null])] ++ (nds nx es)) _ _ _ := V
      refine lv_aload_n hx hb dJ30_putVal_280 rfl (lv_at hl 4 rfl) ?_
      refine z_get hx hb hts hk hown K_J30 (V.w 0 rfl) 6 (by decide) q1778 (fun _ h => h) rfl dJ30_putVal_281 ?_
      refine z_icmp_le (tgt := 292) hx hb (by omega) dJ30_putVal_284 (by decide) (fun c284 => ?_) (fun c284 => by omega)
      refine lv_aload_n hx hb dJ30_putVal_292 rfl (lv_at hl 4 rfl) ?_
      refine lv_iload hx hb dJ30_putVal_293 (lv_at hl 9 rfl) ?_
      refine z_callV ⟨hx, hb, hml, hown, hts⟩ hk hl.1 V (wc := []) (wr := ([(m0, ob 6 [.null, .null, .ref T, .null, iV ((es.length : Nat) + 1), iV (mc + 1), iV 12, .float 1061158912]), (T, aN G 16 (va_up f (bk t) (some n))), (n, ob 7 [iV (hz t), .ref a, .ref va, .null])] ++ (nds nx es))) [] ([0, 1, 2] ++ tIx [(m0, ob 6 [.null, .null, .ref T, .null, iV ((es.length : Nat) + 1), iV (mc + 1), iV 12, .float 1061158912]), (T, aN G 16 (va_up f (bk t) (some n))), (n, ob 7 [iV (hz t), .ref a, .ref va, .null])] (nds nx es)) (idxN (w := [(m0, ob 6 [.null, .null, .ref T, .null, iV ((es.length : Nat) + 1), iV (mc + 1), iV 12, .float 1061158912]), (T, aN G 16 (va_up f (bk t) (some n))), (n, ob 7 [iV (hz t), .ref a, .ref va, .null])]) (t := (nds nx es)) (wC := []) (is := []) rfl) (idxT (w := [(m0, ob 6 [.null, .null, .ref T, .null, iV ((es.length : Nat) + 1), iV (mc + 1), iV 12, .float 1061158912]), (T, aN G 16 (va_up f (bk t) (some n))), (n, ob 7 [iV (hz t), .ref a, .ref va, .null])]) (t := (nds nx es)) (wC := [(m0, ob 6 [.null, .null, .ref T, .null, iV ((es.length : Nat) + 1), iV (mc + 1), iV 12, .float 1061158912]), (T, aN G 16 (va_up f (bk t) (some n))), (n, ob 7 [iV (hz t), .ref a, .ref va, .null])]) (is := [0, 1, 2]) rfl) rfl (ndT (w := [(m0, ob 6 [.null, .null, .ref T, .null, iV ((es.length : Nat) + 1), iV (mc + 1), iV 12, .float 1061158912]), (T, aN G 16 (va_up f (bk t) (some n))), (n, ob 7 [iV (hz t), .ref a, .ref va, .null])]) (t := (nds nx es)) (wC := [(m0, ob 6 [.null, .null, .ref T, .null, iV ((es.length : Nat) + 1), iV (mc + 1), iV 12, .float 1061158912]), (T, aN G 16 (va_up f (bk t) (some n))), (n, ob 7 [iV (hz t), .ref a, .ref va, .null])]) (is := [0, 1, 2]) rfl rfl) (disT2 (w := [(m0, ob 6 [.null, .null, .ref T, .null, iV ((es.length : Nat) + 1), iV (mc + 1), iV 12, .float 1061158912]), (T, aN G 16 (va_up f (bk t) (some n))), (n, ob 7 [iV (hz t), .ref a, .ref va, .null])]) (t := (nds nx es)) (wC := []) (isC := []) rfl (by decide)) (As := [iV 1]) (rest := []) (fun hp => ct_HM_ani l G m0 hp) (cwV 1 hts (lw_V q2380 q2381 q2382 q121 q2383) rfl rfl rfl (by decide +kernel) ⟨Nat.le_of_ble_eq_true rfl, Nat.le_of_ble_eq_true rfl⟩) (z_rc hk (V.w 0 rfl) (q := (RJ30, TJ30, 8)) rfl) rfl rfl (Nat.le_of_ble_eq_true rfl) dJ30_putVal_295 ⟨Nat.le_of_ble_eq_true rfl, Nat.le_of_ble_eq_true rfl⟩ (fun v F1 w1 H locs hq hle hou V => ?_)
      obtain ⟨rfl, rfl, rfl⟩ := hq
      have V := VV.rot1 V
      refine W.eq (g2 := F0 m 298 ls []) rfl ?_
      have V : VV G _ _ F ([(m0, ob 6 [.null, .null, .ref T, .null, iV ((es.length : Nat) + 1), iV (mc + 1), iV 12, .float 1061158912]), (T, aN G 16 (va_up f (bk t) (some n))), (n, ob 7 [iV (hz t), .ref a, .ref va, .null])] ++ (nds nx es)) _ _ _ := V
      refine lv_null hx hb dJ30_putVal_298 ?_
      have V := V.sub (w1 := ([(m0, ob 6 [.null, .null, .ref T, .null, iV ((es.length : Nat) + 1), iV (mc + 1), iV 12, .float 1061158912]), (T, aN G 16 (va_up f (bk t) (some n))), (n, ob 7 [iV (hz t), .ref a, .ref va, .null])] ++ (nds nx es))) ([0, 1, 2] ++ tIx [(m0, ob 6 [.null, .null, .ref T, .null, iV ((es.length : Nat) + 1), iV (mc + 1), iV 12, .float 1061158912]), (T, aN G 16 (va_up f (bk t) (some n))), (n, ob 7 [iV (hz t), .ref a, .ref va, .null])] (nds nx es)) (ndT (w := [(m0, ob 6 [.null, .null, .ref T, .null, iV ((es.length : Nat) + 1), iV (mc + 1), iV 12, .float 1061158912]), (T, aN G 16 (va_up f (bk t) (some n))), (n, ob 7 [iV (hz t), .ref a, .ref va, .null])]) (t := (nds nx es)) (wC := [(m0, ob 6 [.null, .null, .ref T, .null, iV ((es.length : Nat) + 1), iV (mc + 1), iV 12, .float 1061158912]), (T, aN G 16 (va_up f (bk t) (some n))), (n, ob 7 [iV (hz t), .ref a, .ref va, .null])]) (is := [0, 1, 2]) rfl rfl) (idxT (w := [(m0, ob 6 [.null, .null, .ref T, .null, iV ((es.length : Nat) + 1), iV (mc + 1), iV 12, .float 1061158912]), (T, aN G 16 (va_up f (bk t) (some n))), (n, ob 7 [iV (hz t), .ref a, .ref va, .null])]) (t := (nds nx es)) (wC := [(m0, ob 6 [.null, .null, .ref T, .null, iV ((es.length : Nat) + 1), iV (mc + 1), iV 12, .float 1061158912]), (T, aN G 16 (va_up f (bk t) (some n))), (n, ob 7 [iV (hz t), .ref a, .ref va, .null])]) (is := [0, 1, 2]) rfl)
      have V := VV.rot1 (w := [(m0, ob 6 [.null, .null, .ref T, .null, iV ((es.length : Nat) + 1), iV (mc + 1), iV 12, .float 1061158912]), (T, aN G 16 (va_up f (bk t) (some n)))]) (t := [(n, ob 7 [iV (hz t), .ref a, .ref va, .null])]) V
      have V := VV.to (w' := [(m0, ob 6 [.null, .null, .ref T, .null, iV ((es.length : Nat) + 1), iV (mc + 1), iV 12, .float 1061158912]), (T, aN G 16 (va_up f (bk t) (some n)))] ++ nds (va_up nx n none) (es ++ [(n, a, t, va)])) (by rw [nds_app hfr, ← List.append_assoc]) V
      exact z_aret hx hb hr hlk V (Or.inl ⟨_, rfl⟩) (Or.inl rfl) dJ30_putVal_299 ⟨rfl, Or.inr ⟨hE, rfl, n, Or.inr ⟨T, (va_up f (bk t) (some n)), va_up nx n none, mc + 1, HMo.add0 hO h hE hfr hcap hch, by simp⟩⟩⟩ ⟨Nat.le_of_ble_eq_true rfl, Nat.le_of_ble_eq_true rfl⟩
    | some e0 =>
      have e1 : f (bk t) = some e0.1 := by rw [h5t]; exact cha_ch hc0
      have hm_e0 := (ch_mem hc0).1
      have hx0 := h6 (bk t) 0 e0.1 (cha_ch hc0)
      refine z_nald (v := .ref e0.1) hx hb hk (V.w 1 rfl) (bk t) (by omega) dJ30_putVal_40 (by rw [e1]; rfl) ?_
      refine lv_dup hx hb dJ30_putVal_41 rfl ?_
      refine lv_astore (lv' := [(7, .ref e0.1), (9, iV (bk t : Nat)), (8, iV 16), (6, .ref T), (0, .ref m0), (1, iV (hz t)), (2, .ref a), (3, .ref va), (4, iV 0), (5, iV 1)]) hx hb dJ30_putVal_42 hl (by decide) rfl (fun ls hl => ?_)
      refine lv_ifnonnull (tgt := 63) hx hb dJ30_putVal_44 (by decide) ?_
      have hn_e0 := nd_at V hm_e0 (show va_rf (nx e0.1) = va_rf (nx e0.1) from rfl)
      have hke_e0 := h1 _ hm_e0
      have hzb_e0 := hz_B e0.2.2.1
      refine lv_aload hx hb dJ30_putVal_63 (lv_at hl 0 rfl) ?_
      refine z_get hx hb hts hk hown K_J33 hn_e0 0 (by decide) q2282 (fun _ h => h) rfl dJ30_putVal_65 ?_
      refine lv_iload_n hx hb dJ30_putVal_68 rfl (lv_at hl 5 rfl) ?_
      refine z_icmp_ne (tgt := 104) hx hb (by omega) dJ30_putVal_69 (by decide) (fun c69 => ?_) (fun c69 => ?_)
      · skip
        have hne_e0 : e0.2.2.1 ≠ t := fun e9 => by rw [e9] at c69; exact c69 rfl
        refine lv_aload hx hb dJ30_putVal_104 (lv_at hl 0 rfl) ?_
        refine va_instNo hx hb hown (hts _ q1962) (hk.nc 0 rfl) (z_rc hk hn_e0 (q := (RJ33, TJ33, 4)) rfl) dJ30_putVal_106 ?_
        refine W.eq (g2 := F0 m 109 ls [iV 0]) rfl ?_
        refine z_if_eq (tgt := 131) hx hb (by omega) dJ30_putVal_109 (by decide) (fun c109 => ?_) (fun c109 => by omega)
        refine lv_iconst (v := iZ 0) hx hb dJ30_putVal_131 rfl ?_
        refine lv_istore (lv' := [(12, iV 0), (7, .ref e0.1), (9, iV (bk t : Nat)), (8, iV 16), (6, .ref T), (0, .ref m0), (1, iV (hz t)), (2, .ref a), (3, .ref va), (4, iV 0), (5, iV 1)]) hx hb dJ30_putVal_132 hl (by decide) rfl (fun ls hl => ?_)
        have loop : ∀ (n : Nat) (i : Nat) (ei : En) (H : Heap) (locs : List Loc) (ls : Array Slot), (ch es (bk t)).length - i < n → ((ch es (bk t))[i]? = some ei) → (∀ (j : Nat) (e : En), j ≤ i → (ch es (bk t))[j]? = some e → e.2.2.1 ≠ t) → VV G (FR F [(m0, ob 6 [.null, .null, .null, .null, iV 0, iV 0, iV 0, .float 1061158912])] Ha) F F ([(m0, ob 6 [.null, .null, .ref T, .null, iV (es.length : Nat), iV mc, iV 12, .float 1061158912]), (T, aN G 16 f)] ++ (nds nx es)) Ha H locs → lv_has ls 13 [(0, .ref m0), (1, iV (hz t)), (2, .ref a), (3, .ref va), (4, iV 0), (5, iV 1), (6, .ref T), (7, .ref ei.1), (8, iV 16), (9, iV (bk t : Nat)), (12, iV (i : Nat))] → W p l e ({ frames := 3, cells := 3, slots := 40, locals := 88 } : Room) s m [.ref m0, iV (hz t), .ref a, .ref va, iV 0, iV 1].toArray below meth c H locs 1 16 (MQ below (Qz G F [(m0, ob 6 [.null, .null, .null, .null, iV 0, iV 0, iV 0, .float 1061158912])] Ha (fun rv F' w' => F = F' ∧ ((∃ (i : Nat) (e : En), es[i]? = some e ∧ e.2.2.1 = t ∧ rv = some (.ref e.2.2.2) ∧ HM G F m0 (es.set i (e.1, e.2.1, e.2.2.1, va)) w') ∨ (fnd es t = none ∧ rv = some .null ∧ ∃ n : Nat, HM G F m0 (es ++ [(n, a, t, va)]) w')))) [.ref m0, iV (hz t), .ref a, .ref va, iV 0, iV 1].toArray s 3 40 (FR F [(m0, ob 6 [.null, .null, .null, .null, iV 0, iV 0, iV 0, .float 1061158912])] Ha)) (F0 m 134 ls []) := by
          intro n
          induction n with
          | zero => intro i ei H locs ls hm9; exact absurd hm9 (Nat.not_lt_zero _)
          | succ n ih_loop =>
            intro i ei H locs ls hm9 hci hno V hl
            have hm_ei := (ch_mem hci).1
            have hxi := h6 (bk t) i ei.1 (cha_ch hci)
            have hli := (List.getElem?_eq_some_iff.mp hci).1
            have hcl : (ch es (bk t)).length ≤ 7 := by rw [show (ch es (bk t)).length = (cha es (bk t)).length by unfold cha; rw [List.length_map]]; exact hbk
            cases hc2 : (ch es (bk t))[i + 1]? with
            | none =>
              have hx2 : nx ei.1 = none := by rw [hxi]; unfold cha; rw [List.getElem?_map, hc2]; rfl
              have hE : fnd es t = none := fnd_none (fun j e hj => hno j e (by have hl0 := List.getElem?_eq_none_iff.mp hc2; have hl1 := (List.getElem?_eq_some_iff.mp hj).1; omega) hj)
              obtain ⟨i9, hi9⟩ := List.getElem?_of_mem hm_ei
              have hn_ei := nd_at V hm_ei (show va_rf (nx ei.1) = .null from (by rw [hx2]; rfl))
              refine lv_aload hx hb dJ30_putVal_134 (lv_at hl 7 rfl) ?_
              refine z_get hx hb hts hk hown K_J33 hn_ei 3 (by decide) q2293 (fun _ h => h) rfl dJ30_putVal_136 ?_
              refine lv_dup hx hb dJ30_putVal_139 rfl ?_
              refine lv_astoreN (lv' := [(10, .null), (0, .ref m0), (1, iV (hz t)), (2, .ref a), (3, .ref va), (4, iV 0), (5, iV 1), (6, .ref T), (7, .ref ei.1), (8, iV 16), (9, iV (bk t : Nat)), (12, iV (i : Nat))]) hx hb dJ30_putVal_140 hl (by decide) rfl (fun ls hl => ?_)
              refine lv_ifnonnullN hx hb dJ30_putVal_142 ?_
              refine lv_aload hx hb dJ30_putVal_145 (lv_at hl 8 rfl) ?_
              refine lv_aload_n hx hb dJ30_putVal_147 rfl (lv_at hl 1 rfl) ?_
              refine lv_iload_n hx hb dJ30_putVal_148 rfl (lv_at hl 2 rfl) ?_
              refine lv_aload_n hx hb dJ30_putVal_149 rfl (lv_at hl 3 rfl) ?_
              refine lv_aload_n hx hb dJ30_putVal_150 rfl (lv_at hl 4 rfl) ?_
              refine lv_null hx hb dJ30_putVal_151 ?_
              refine z_callV ⟨hx, hb, hml, hown, hts⟩ hk hl.1 V (wc := []) (wr := ([(m0, ob 6 [.null, .null, .ref T, .null, iV (es.length : Nat), iV mc, iV 12, .float 1061158912]), (T, aN G 16 f)] ++ (nds nx es))) [] ([0, 1] ++ tIx [(m0, ob 6 [.null, .null, .ref T, .null, iV (es.length : Nat), iV mc, iV 12, .float 1061158912]), (T, aN G 16 f)] (nds nx es)) (idxN (w := [(m0, ob 6 [.null, .null, .ref T, .null, iV (es.length : Nat), iV mc, iV 12, .float 1061158912]), (T, aN G 16 f)]) (t := (nds nx es)) (wC := []) (is := []) rfl) (idxT (w := [(m0, ob 6 [.null, .null, .ref T, .null, iV (es.length : Nat), iV mc, iV 12, .float 1061158912]), (T, aN G 16 f)]) (t := (nds nx es)) (wC := [(m0, ob 6 [.null, .null, .ref T, .null, iV (es.length : Nat), iV mc, iV 12, .float 1061158912]), (T, aN G 16 f)]) (is := [0, 1]) rfl) rfl (ndT (w := [(m0, ob 6 [.null, .null, .ref T, .null, iV (es.length : Nat), iV mc, iV 12, .float 1061158912]), (T, aN G 16 f)]) (t := (nds nx es)) (wC := [(m0, ob 6 [.null, .null, .ref T, .null, iV (es.length : Nat), iV mc, iV 12, .float 1061158912]), (T, aN G 16 f)]) (is := [0, 1]) rfl rfl) (disT2 (w := [(m0, ob 6 [.null, .null, .ref T, .null, iV (es.length : Nat), iV mc, iV 12, .float 1061158912]), (T, aN G 16 f)]) (t := (nds nx es)) (wC := []) (isC := []) rfl (by decide)) (As := [iV (hz t), .ref a, .ref va, .null]) (rest := [.ref ei.1]) (fun hp => ct_HM_newNode l G m0 a va (hz t) hp) (cwV 4 hts (lw_V q2322 q2323 q2324 q121 q2325) rfl rfl rfl (by decide +kernel) ⟨Nat.le_of_ble_eq_true rfl, Nat.le_of_ble_eq_true rfl⟩) (z_rc hk (V.w 0 rfl) (q := (RJ30, TJ30, 8)) rfl) rfl rfl (Nat.le_of_ble_eq_true rfl) dJ30_putVal_152 ⟨Nat.le_of_ble_eq_true rfl, Nat.le_of_ble_eq_true rfl⟩ (fun v F1 w1 H locs hq hle hou V => ?_)
              obtain ⟨n, rfl, rfl, rfl⟩ := hq
              have V := VV.rot1 V
              refine W.eq (g2 := F0 m 155 ls [.ref n, .ref ei.1]) rfl ?_
              have V : VV G _ _ F ([(m0, ob 6 [.null, .null, .ref T, .null, iV (es.length : Nat), iV mc, iV 12, .float 1061158912]), (T, aN G 16 f), (n, ob 7 [iV (hz t), .ref a, .ref va, .null])] ++ (nds nx es)) _ _ _ := V
              have hfr : n ∉ es.map (fun e => e.1) := fresh_of (w := [(m0, ob 6 [.null, .null, .ref T, .null, iV (es.length : Nat), iV mc, iV 12, .float 1061158912]), (T, aN G 16 f), (n, ob 7 [iV (hz t), .ref a, .ref va, .null])]) V 2 rfl
              refine z_putT (w := [(m0, ob 6 [.null, .null, .ref T, .null, iV (es.length : Nat), iV mc, iV 12, .float 1061158912]), (T, aN G 16 f), (n, ob 7 [iV (hz t), .ref a, .ref va, .null])]) (t := nds nx es) hx hb hts hk V hown K_J33 i9 (nds_at hi9 rfl) 3 (by decide) q2293 (fun _ h => h) rfl rfl rfl (Nat.le_of_ble_eq_true rfl) dJ30_putVal_155 (fun H locs V => ?_)
              have V := VV.to (w' := ([(m0, ob 6 [.null, .null, .ref T, .null, iV (es.length : Nat), iV mc, iV 12, .float 1061158912]), (T, aN G 16 f), (n, ob 7 [iV (hz t), .ref a, .ref va, .null])] ++ (nds (va_up nx ei.1 (some n)) es))) (congrArg (fun z => [(m0, ob 6 [.null, .null, .ref T, .null, iV (es.length : Nat), iV mc, iV 12, .float 1061158912]), (T, aN G 16 f), (n, ob 7 [iV (hz t), .ref a, .ref va, .null])] ++ z) (nds_next (nx := nx) h3 hi9 (some n))) V
              refine lv_iload hx hb dJ30_putVal_158 (lv_at hl 11 rfl) ?_
              refine lv_bipush (v := iZ 7) hx hb dJ30_putVal_160 (by decide) ?_
              refine z_icmp_lt (tgt := 222) hx hb (by omega) dJ30_putVal_162 (by decide) (fun c162 => ?_) (fun c162 => by omega)
              refine lv_aloadN hx hb dJ30_putVal_222 (lv_at hl 0 rfl) ?_
              refine lv_ifnullN (tgt := 259) hx hb dJ30_putVal_224 (by decide) ?_
              refine lv_aload_n hx hb dJ30_putVal_259 rfl (lv_at hl 1 rfl) ?_
              refine lv_dup hx hb dJ30_putVal_260 rfl ?_
              refine z_get hx hb hts hk hown K_J30 (V.w 0 rfl) 5 (by decide) q1777 (fun _ h => h) rfl dJ30_putVal_261 ?_
              refine lv_iconst (v := iZ 1) hx hb dJ30_putVal_264 rfl ?_
              refine z_iadd hx hb dJ30_putVal_265 ?_
              refine z_put hx hb hts hk V hown K_J30 0 rfl 5 (by decide) q1777 (fun _ h => h) rfl rfl rfl (Nat.le_of_ble_eq_true rfl) dJ30_putVal_266 (fun H locs V => ?_)
              have V : VV G _ _ F ([(m0, ob 6 [.null, .null, .ref T, .null, iV (es.length : Nat), iV (mc + 1), iV 12, .float 1061158912]), (T, aN G 16 f), (n, ob 7 [iV (hz t), .ref a, .ref va, .null])] ++ (nds (va_up nx ei.1 (some n)) es)) _ _ _ := V
              refine lv_aload_n hx hb dJ30_putVal_269 rfl (lv_at hl 1 rfl) ?_
              refine lv_dup hx hb dJ30_putVal_270 rfl ?_
              refine z_get hx hb hts hk hown K_J30 (V.w 0 rfl) 4 (by decide) q1776 (fun _ h => h) rfl dJ30_putVal_271 ?_
              refine lv_iconst (v := iZ 1) hx hb dJ30_putVal_274 rfl ?_
              refine z_iadd hx hb dJ30_putVal_275 ?_
              refine lv_dup_x1 hx hb dJ30_putVal_276 rfl rfl ?_
              refine z_put hx hb hts hk V hown K_J30 0 rfl 4 (by decide) q1776 (fun _ h => h) rfl rfl rfl (Nat.le_of_ble_eq_true rfl) dJ30_putVal_277 (fun H locs V => ?_)
              have V : VV G _ _ F ([(m0, ob 6 [.null, .null, .ref T, .null, iV ((es.length : Nat) + 1), iV (mc + 1), iV 12, .float 1061158912]), (T, aN G 16 f), (n, ob 7 [iV (hz t), .ref a, .ref va, .null])] ++ (nds (va_up nx ei.1 (some n)) es)) _ _ _ := V
              refine lv_aload_n hx hb dJ30_putVal_280 rfl (lv_at hl 1 rfl) ?_
              refine z_get hx hb hts hk hown K_J30 (V.w 0 rfl) 6 (by decide) q1778 (fun _ h => h) rfl dJ30_putVal_281 ?_
              refine z_icmp_le (tgt := 292) hx hb (by omega) dJ30_putVal_284 (by decide) (fun c284 => ?_) (fun c284 => by omega)
              refine lv_aload_n hx hb dJ30_putVal_292 rfl (lv_at hl 1 rfl) ?_
              refine lv_iload hx hb dJ30_putVal_293 (lv_at hl 6 rfl) ?_
              refine z_callV ⟨hx, hb, hml, hown, hts⟩ hk hl.1 V (wc := []) (wr := ([(m0, ob 6 [.null, .null, .ref T, .null, iV ((es.length : Nat) + 1), iV (mc + 1), iV 12, .float 1061158912]), (T, aN G 16 f), (n, ob 7 [iV (hz t), .ref a, .ref va, .null])] ++ (nds (va_up nx ei.1 (some n)) es))) [] ([0, 1, 2] ++ tIx [(m0, ob 6 [.null, .null, .ref T, .null, iV ((es.length : Nat) + 1), iV (mc + 1), iV 12, .float 1061158912]), (T, aN G 16 f), (n, ob 7 [iV (hz t), .ref a, .ref va, .null])] (nds (va_up nx ei.1 (some n)) es)) (idxN (w := [(m0, ob 6 [.null, .null, .ref T, .null, iV ((es.length : Nat) + 1), iV (mc + 1), iV 12, .float 1061158912]), (T, aN G 16 f), (n, ob 7 [iV (hz t), .ref a, .ref va, .null])]) (t := (nds (va_up nx ei.1 (some n)) es)) (wC := []) (is := []) rfl) (idxT (w := [(m0, ob 6 [.null, .null, .ref T, .null, iV ((es.length : Nat) + 1), iV (mc + 1), iV 12, .float 1061158912]), (T, aN G 16 f), (n, ob 7 [iV (hz t), .ref a, .ref va, .null])]) (t := (nds (va_up nx ei.1 (some n)) es)) (wC := [(m0, ob 6 [.null, .null, .ref T, .null, iV ((es.length : Nat) + 1), iV (mc + 1), iV 12, .float 1061158912]), (T, aN G 16 f), (n, ob 7 [iV (hz t), .ref a, .ref va, .null])]) (is := [0, 1, 2]) rfl) rfl (ndT (w := [(m0, ob 6 [.null, .null, .ref T, .null, iV ((es.length : Nat) + 1), iV (mc + 1), iV 12, .float 1061158912]), (T, aN G 16 f), (n, ob 7 [iV (hz t), .ref a, .ref va, .null])]) (t := (nds (va_up nx ei.1 (some n)) es)) (wC := [(m0, ob 6 [.null, .null, .ref T, .null, iV ((es.length : Nat) + 1), iV (mc + 1), iV 12, .float 1061158912]), (T, aN G 16 f), (n, ob 7 [iV (hz t), .ref a, .ref va, .null])]) (is := [0, 1, 2]) rfl rfl) (disT2 (w := [(m0, ob 6 [.null, .null, .ref T, .null, iV ((es.length : Nat) + 1), iV (mc + 1), iV 12, .float 1061158912]), (T, aN G 16 f), (n, ob 7 [iV (hz t), .ref a, .ref va, .null])]) (t := (nds (va_up nx ei.1 (some n)) es)) (wC := []) (isC := []) rfl (by decide)) (As := [iV 1]) (rest := []) (fun hp => ct_HM_ani l G m0 hp) (cwV 1 hts (lw_V q2380 q2381 q2382 q121 q2383) rfl rfl rfl (by decide +kernel) ⟨Nat.le_of_ble_eq_true rfl, Nat.le_of_ble_eq_true rfl⟩) (z_rc hk (V.w 0 rfl) (q := (RJ30, TJ30, 8)) rfl) rfl rfl (Nat.le_of_ble_eq_true rfl) dJ30_putVal_295 ⟨Nat.le_of_ble_eq_true rfl, Nat.le_of_ble_eq_true rfl⟩ (fun v F1 w1 H locs hq hle hou V => ?_)
              obtain ⟨rfl, rfl, rfl⟩ := hq
              have V := VV.rot1 V
              refine W.eq (g2 := F0 m 298 ls []) rfl ?_
              have V : VV G _ _ F ([(m0, ob 6 [.null, .null, .ref T, .null, iV ((es.length : Nat) + 1), iV (mc + 1), iV 12, .float 1061158912]), (T, aN G 16 f), (n, ob 7 [iV (hz t), .ref a, .ref va, .null])] ++ (nds (va_up nx ei.1 (some n)) es)) _ _ _ := V
              refine lv_null hx hb dJ30_putVal_298 ?_
              have V := V.sub (w1 := ([(m0, ob 6 [.null, .null, .ref T, .null, iV ((es.length : Nat) + 1), iV (mc + 1), iV 12, .float 1061158912]), (T, aN G 16 f), (n, ob 7 [iV (hz t), .ref a, .ref va, .null])] ++ (nds (va_up nx ei.1 (some n)) es))) ([0, 1, 2] ++ tIx [(m0, ob 6 [.null, .null, .ref T, .null, iV ((es.length : Nat) + 1), iV (mc + 1), iV 12, .float 1061158912]), (T, aN G 16 f), (n, ob 7 [iV (hz t), .ref a, .ref va, .null])] (nds (va_up nx ei.1 (some n)) es)) (ndT (w := [(m0, ob 6 [.null, .null, .ref T, .null, iV ((es.length : Nat) + 1), iV (mc + 1), iV 12, .float 1061158912]), (T, aN G 16 f), (n, ob 7 [iV (hz t), .ref a, .ref va, .null])]) (t := (nds (va_up nx ei.1 (some n)) es)) (wC := [(m0, ob 6 [.null, .null, .ref T, .null, iV ((es.length : Nat) + 1), iV (mc + 1), iV 12, .float 1061158912]), (T, aN G 16 f), (n, ob 7 [iV (hz t), .ref a, .ref va, .null])]) (is := [0, 1, 2]) rfl rfl) (idxT (w := [(m0, ob 6 [.null, .null, .ref T, .null, iV ((es.length : Nat) + 1), iV (mc + 1), iV 12, .float 1061158912]), (T, aN G 16 f), (n, ob 7 [iV (hz t), .ref a, .ref va, .null])]) (t := (nds (va_up nx ei.1 (some n)) es)) (wC := [(m0, ob 6 [.null, .null, .ref T, .null, iV ((es.length : Nat) + 1), iV (mc + 1), iV 12, .float 1061158912]), (T, aN G 16 f), (n, ob 7 [iV (hz t), .ref a, .ref va, .null])]) (is := [0, 1, 2]) rfl)
              have V := VV.rot1 (w := [(m0, ob 6 [.null, .null, .ref T, .null, iV ((es.length : Nat) + 1), iV (mc + 1), iV 12, .float 1061158912]), (T, aN G 16 f)]) (t := [(n, ob 7 [iV (hz t), .ref a, .ref va, .null])]) V
              have V := VV.to (w' := [(m0, ob 6 [.null, .null, .ref T, .null, iV ((es.length : Nat) + 1), iV (mc + 1), iV 12, .float 1061158912]), (T, aN G 16 f)] ++ nds (va_up (va_up nx ei.1 (some n)) n none) (es ++ [(n, a, t, va)])) (by rw [nds_app hfr, ← List.append_assoc]) V
              exact z_aret hx hb hr hlk V (Or.inl ⟨_, rfl⟩) (Or.inl rfl) dJ30_putVal_299 ⟨rfl, Or.inr ⟨hE, rfl, n, Or.inr ⟨T, f, va_up (va_up nx ei.1 (some n)) n none, mc + 1, HMo.add1 hO h hE hfr hcap hci hc2, by simp⟩⟩⟩ ⟨Nat.le_of_ble_eq_true rfl, Nat.le_of_ble_eq_true rfl⟩
            | some e2 =>
              have hx2 : nx ei.1 = some e2.1 := by rw [hxi]; exact cha_ch hc2
              have hm_e2 := (ch_mem hc2).1
              have hn_ei := nd_at V hm_ei (show va_rf (nx ei.1) = .ref e2.1 from (by rw [hx2]; rfl))
              have hn_e2 := nd_at V hm_e2 (show va_rf (nx e2.1) = va_rf (nx e2.1) from rfl)
              refine lv_aload hx hb dJ30_putVal_134 (lv_at hl 7 rfl) ?_
              refine z_get hx hb hts hk hown K_J33 hn_ei 3 (by decide) q2293 (fun _ h => h) rfl dJ30_putVal_136 ?_
              refine lv_dup hx hb dJ30_putVal_139 rfl ?_
              refine lv_astore (lv' := [(10, .ref e2.1), (0, .ref m0), (1, iV (hz t)), (2, .ref a), (3, .ref va), (4, iV 0), (5, iV 1), (6, .ref T), (7, .ref ei.1), (8, iV 16), (9, iV (bk t : Nat)), (12, iV (i : Nat))]) hx hb dJ30_putVal_140 hl (by decide) rfl (fun ls hl => ?_)
              refine lv_ifnonnull (tgt := 175) hx hb dJ30_putVal_142 (by decide) ?_
              have hke_e2 := h1 _ hm_e2
              have hzb_e2 := hz_B e2.2.2.1
              refine lv_aload hx hb dJ30_putVal_175 (lv_at hl 0 rfl) ?_
              refine z_get hx hb hts hk hown K_J33 hn_e2 0 (by decide) q2282 (fun _ h => h) rfl dJ30_putVal_177 ?_
              refine lv_iload_n hx hb dJ30_putVal_180 rfl (lv_at hl 2 rfl) ?_
              refine z_icmp_ne (tgt := 212) hx hb (by omega) dJ30_putVal_181 (by decide) (fun c181 => ?_) (fun c181 => ?_)
              · skip
                have hne_e2 : e2.2.2.1 ≠ t := fun e9 => by rw [e9] at c181; exact c181 rfl
                refine lv_aload hx hb dJ30_putVal_212 (lv_at hl 0 rfl) ?_
                refine lv_astore (lv' := [(7, .ref e2.1), (10, .ref e2.1), (0, .ref m0), (1, iV (hz t)), (2, .ref a), (3, .ref va), (4, iV 0), (5, iV 1), (6, .ref T), (8, iV 16), (9, iV (bk t : Nat)), (12, iV (i : Nat))]) hx hb dJ30_putVal_214 hl (by decide) rfl (fun ls hl => ?_)
                refine lv_iinc (v := iZ ((i : Nat) + 1)) (lv' := [(12, iV ((i : Nat) + 1)), (7, .ref e2.1), (10, .ref e2.1), (0, .ref m0), (1, iV (hz t)), (2, .ref a), (3, .ref va), (4, iV 0), (5, iV 1), (6, .ref T), (8, iV 16), (9, iV (bk t : Nat))]) hx hb dJ30_putVal_216 hl (k := 11) rfl (iZ_add _ _) (by decide) rfl (fun ls hl => ?_)
                have hno2 : ∀ (j : Nat) (e : En), j ≤ i + 1 → (ch es (bk t))[j]? = some e → e.2.2.1 ≠ t := fun j e hj hje => by
                  by_cases hji : j = i + 1
                  · subst hji; rw [hc2] at hje; cases hje; exact hne_e2
                  · exact hno j e (by omega) hje
                refine lv_goto (tgt := 134) hx hb dJ30_putVal_219 (by decide) ?_
                exact ih_loop (i + 1) e2 _ _ _ (by omega) hc2 hno2 V (lv_sub hl [3, 4, 5, 6, 7, 8, 9, 1, 10, 11, 0] rfl)
              · skip
                refine lv_aload hx hb dJ30_putVal_184 (lv_at hl 0 rfl) ?_
                refine z_get hx hb hts hk hown K_J33 hn_e2 1 (by decide) q2286 (fun _ h => h) rfl dJ30_putVal_186 ?_
                refine lv_dup hx hb dJ30_putVal_189 rfl ?_
                refine lv_astore (lv' := [(11, .ref e2.2.1), (10, .ref e2.1), (0, .ref m0), (1, iV (hz t)), (2, .ref a), (3, .ref va), (4, iV 0), (5, iV 1), (6, .ref T), (7, .ref ei.1), (8, iV 16), (9, iV (bk t : Nat)), (12, iV (i : Nat))]) hx hb dJ30_putVal_190 hl (by decide) rfl (fun ls hl => ?_)
                refine lv_aload_n hx hb dJ30_putVal_192 rfl (lv_at hl 4 rfl) ?_
                refine z_acmp_eq (tgt := 222) hx hb dJ30_putVal_193 (by decide) (fun he193 => ?_) (fun he193 => ?_)
                · skip
                  have hee_e2 : e2.2.2.1 = t := SF.eq (Or.inl (he193 ▸ hke_e2)) (Or.inl h)
                  obtain ⟨i9, hi9⟩ := List.getElem?_of_mem hm_e2
                  refine lv_aload hx hb dJ30_putVal_222 (lv_at hl 1 rfl) ?_
                  refine lv_ifnull hx hb dJ30_putVal_224 ?_
                  refine lv_aload hx hb dJ30_putVal_227 (lv_at hl 1 rfl) ?_
                  refine z_get hx hb hts hk hown K_J33 hn_e2 2 (by decide) q2288 (fun _ h => h) rfl dJ30_putVal_229 ?_
                  refine lv_astore (lv' := [(12, .ref e2.2.2.2), (11, .ref e2.2.1), (10, .ref e2.1), (0, .ref m0), (1, iV (hz t)), (2, .ref a), (3, .ref va), (4, iV 0), (5, iV 1), (6, .ref T), (7, .ref ei.1), (8, iV 16), (9, iV (bk t : Nat))]) hx hb dJ30_putVal_232 hl (by decide) rfl (fun ls hl => ?_)
                  refine lv_iload hx hb dJ30_putVal_234 (lv_at hl 7 rfl) ?_
                  refine z_if_eq (tgt := 244) hx hb (by omega) dJ30_putVal_236 (by decide) (fun c236 => ?_) (fun c236 => by omega)
                  refine lv_aload hx hb dJ30_putVal_244 (lv_at hl 2 rfl) ?_
                  refine lv_aload_n hx hb dJ30_putVal_246 rfl (lv_at hl 6 rfl) ?_
                  refine z_putT (w := [(m0, ob 6 [.null, .null, .ref T, .null, iV (es.length : Nat), iV mc, iV 12, .float 1061158912]), (T, aN G 16 f)]) (t := nds nx es) hx hb hts hk V hown K_J33 i9 (nds_at hi9 rfl) 2 (by decide) q2288 (fun _ h => h) rfl rfl rfl (Nat.le_of_ble_eq_true rfl) dJ30_putVal_247 (fun H locs V => ?_)
                  have V := VV.to (w' := ([(m0, ob 6 [.null, .null, .ref T, .null, iV (es.length : Nat), iV mc, iV 12, .float 1061158912]), (T, aN G 16 f)] ++ (nds nx (es.set i9 (e2.1, e2.2.1, e2.2.2.1, va))))) (congrArg (fun z => [(m0, ob 6 [.null, .null, .ref T, .null, iV (es.length : Nat), iV mc, iV 12, .float 1061158912]), (T, aN G 16 f)] ++ z) (nds_val (nx := nx) h3 hi9 va)) V
                  refine lv_aload_n hx hb dJ30_putVal_250 rfl (lv_at hl 3 rfl) ?_
                  refine lv_aload hx hb dJ30_putVal_251 (lv_at hl 2 rfl) ?_
                  refine z_callV ⟨hx, hb, hml, hown, hts⟩ hk hl.1 V (wc := []) (wr := ([(m0, ob 6 [.null, .null, .ref T, .null, iV (es.length : Nat), iV mc, iV 12, .float 1061158912]), (T, aN G 16 f)] ++ (nds nx (es.set i9 (e2.1, e2.2.1, e2.2.2.1, va))))) [] ([0, 1] ++ tIx [(m0, ob 6 [.null, .null, .ref T, .null, iV (es.length : Nat), iV mc, iV 12, .float 1061158912]), (T, aN G 16 f)] (nds nx (es.set i9 (e2.1, e2.2.1, e2.2.2.1, va)))) (idxN (w := [(m0, ob 6 [.null, .null, .ref T, .null, iV (es.length : Nat), iV mc, iV 12, .float 1061158912]), (T, aN G 16 f)]) (t := (nds nx (es.set i9 (e2.1, e2.2.1, e2.2.2.1, va)))) (wC := []) (is := []) rfl) (idxT (w := [(m0, ob 6 [.null, .null, .ref T, .null, iV (es.length : Nat), iV mc, iV 12, .float 1061158912]), (T, aN G 16 f)]) (t := (nds nx (es.set i9 (e2.1, e2.2.1, e2.2.2.1, va)))) (wC := [(m0, ob 6 [.null, .null, .ref T, .null, iV (es.length : Nat), iV mc, iV 12, .float 1061158912]), (T, aN G 16 f)]) (is := [0, 1]) rfl) rfl (ndT (w := [(m0, ob 6 [.null, .null, .ref T, .null, iV (es.length : Nat), iV mc, iV 12, .float 1061158912]), (T, aN G 16 f)]) (t := (nds nx (es.set i9 (e2.1, e2.2.1, e2.2.2.1, va)))) (wC := [(m0, ob 6 [.null, .null, .ref T, .null, iV (es.length : Nat), iV mc, iV 12, .float 1061158912]), (T, aN G 16 f)]) (is := [0, 1]) rfl rfl) (disT2 (w := [(m0, ob 6 [.null, .null, .ref T, .null, iV (es.length : Nat), iV mc, iV 12, .float 1061158912]), (T, aN G 16 f)]) (t := (nds nx (es.set i9 (e2.1, e2.2.1, e2.2.2.1, va)))) (wC := []) (isC := []) rfl (by decide)) (As := [.ref e2.1]) (rest := []) (fun hp => ct_HM_ana l G m0 e2.1 hp) (cwV 1 hts (lw_V q2376 q2377 q2378 q121 q2379) rfl rfl rfl (by decide +kernel) ⟨Nat.le_of_ble_eq_true rfl, Nat.le_of_ble_eq_true rfl⟩) (z_rc hk (V.w 0 rfl) (q := (RJ30, TJ30, 8)) rfl) rfl rfl (Nat.le_of_ble_eq_true rfl) dJ30_putVal_253 ⟨Nat.le_of_ble_eq_true rfl, Nat.le_of_ble_eq_true rfl⟩ (fun v F1 w1 H locs hq hle hou V => ?_)
                  obtain ⟨rfl, rfl, rfl⟩ := hq
                  have V := VV.rot1 V
                  refine W.eq (g2 := F0 m 256 ls []) rfl ?_
                  have V : VV G _ _ F ([(m0, ob 6 [.null, .null, .ref T, .null, iV (es.length : Nat), iV mc, iV 12, .float 1061158912]), (T, aN G 16 f)] ++ (nds nx (es.set i9 (e2.1, e2.2.1, e2.2.2.1, va)))) _ _ _ := V
                  refine lv_aload hx hb dJ30_putVal_256 (lv_at hl 0 rfl) ?_
                  have V := V.sub (w1 := ([(m0, ob 6 [.null, .null, .ref T, .null, iV (es.length : Nat), iV mc, iV 12, .float 1061158912]), (T, aN G 16 f)] ++ (nds nx (es.set i9 (e2.1, e2.2.1, e2.2.2.1, va))))) ([0, 1] ++ tIx [(m0, ob 6 [.null, .null, .ref T, .null, iV (es.length : Nat), iV mc, iV 12, .float 1061158912]), (T, aN G 16 f)] (nds nx (es.set i9 (e2.1, e2.2.1, e2.2.2.1, va)))) (ndT (w := [(m0, ob 6 [.null, .null, .ref T, .null, iV (es.length : Nat), iV mc, iV 12, .float 1061158912]), (T, aN G 16 f)]) (t := (nds nx (es.set i9 (e2.1, e2.2.1, e2.2.2.1, va)))) (wC := [(m0, ob 6 [.null, .null, .ref T, .null, iV (es.length : Nat), iV mc, iV 12, .float 1061158912]), (T, aN G 16 f)]) (is := [0, 1]) rfl rfl) (idxT (w := [(m0, ob 6 [.null, .null, .ref T, .null, iV (es.length : Nat), iV mc, iV 12, .float 1061158912]), (T, aN G 16 f)]) (t := (nds nx (es.set i9 (e2.1, e2.2.1, e2.2.2.1, va)))) (wC := [(m0, ob 6 [.null, .null, .ref T, .null, iV (es.length : Nat), iV mc, iV 12, .float 1061158912]), (T, aN G 16 f)]) (is := [0, 1]) rfl)
                  exact z_aret hx hb hr hlk V (Or.inl ⟨_, rfl⟩) (Or.inr ⟨_, rfl⟩) dJ30_putVal_258 ⟨rfl, Or.inl ⟨i9, e2, hi9, hee_e2, rfl, Or.inr ⟨T, f, nx, mc, HMo.upd hO hi9 va, by rw [List.length_set]⟩⟩⟩ ⟨Nat.le_of_ble_eq_true rfl, Nat.le_of_ble_eq_true rfl⟩
                · skip
                  refine lv_aload_n hx hb dJ30_putVal_196 rfl (lv_at hl 4 rfl) ?_
                  refine lv_ifnull hx hb dJ30_putVal_197 ?_
                  refine lv_aload_n hx hb dJ30_putVal_200 rfl (lv_at hl 4 rfl) ?_
                  refine lv_aload hx hb dJ30_putVal_201 (lv_at hl 0 rfl) ?_
                  obtain ⟨v9, h9, z9, hF9, hB9, hrel9, hat9, hbf9⟩ := SH.at h V
                  refine z_callU ⟨hx, hb, hml, hown, hts⟩ hk hl.1 V (wc := []) (wr := ([(m0, ob 6 [.null, .null, .ref T, .null, iV (es.length : Nat), iV mc, iV 12, .float 1061158912]), (T, aN G 16 f)] ++ (nds nx es))) [] ([0, 1] ++ tIx [(m0, ob 6 [.null, .null, .ref T, .null, iV (es.length : Nat), iV mc, iV 12, .float 1061158912]), (T, aN G 16 f)] (nds nx es)) (idxN (w := [(m0, ob 6 [.null, .null, .ref T, .null, iV (es.length : Nat), iV mc, iV 12, .float 1061158912]), (T, aN G 16 f)]) (t := (nds nx es)) (wC := []) (is := []) rfl) (idxT (w := [(m0, ob 6 [.null, .null, .ref T, .null, iV (es.length : Nat), iV mc, iV 12, .float 1061158912]), (T, aN G 16 f)]) (t := (nds nx es)) (wC := [(m0, ob 6 [.null, .null, .ref T, .null, iV (es.length : Nat), iV mc, iV 12, .float 1061158912]), (T, aN G 16 f)]) (is := [0, 1]) rfl) rfl (ndT (w := [(m0, ob 6 [.null, .null, .ref T, .null, iV (es.length : Nat), iV mc, iV 12, .float 1061158912]), (T, aN G 16 f)]) (t := (nds nx es)) (wC := [(m0, ob 6 [.null, .null, .ref T, .null, iV (es.length : Nat), iV mc, iV 12, .float 1061158912]), (T, aN G 16 f)]) (is := [0, 1]) rfl rfl) (disT2 (w := [(m0, ob 6 [.null, .null, .ref T, .null, iV (es.length : Nat), iV mc, iV 12, .float 1061158912]), (T, aN G 16 f)]) (t := (nds nx es)) (wC := []) (isC := []) rfl (by decide)) (As := [.ref e2.2.1]) (rest := []) (fun hp => ct_S_equals l G a e2.2.1 t e2.2.2.1 (Or.inl h) (Or.inl hke_e2) hp) (va_cwO (owner := "java/lang/Object") 1 hts (lw_app (lw_in6 q1918 q1920 q1919 q1955 q1098 q81) (lw_meth q1100)) rfl rfl rfl q1961 (by decide +kernel) ⟨Nat.le_of_ble_eq_true rfl, Nat.le_of_ble_eq_true rfl⟩) (z_rc hk hat9 (q := (RJ6, TJ6, 4)) rfl) rfl rfl (Nat.le_of_ble_eq_true rfl) dJ30_putVal_203 ⟨Nat.le_of_ble_eq_true rfl, Nat.le_of_ble_eq_true rfl⟩ (fun v F1 w1 H locs hq hle hou V => ?_)
                  obtain ⟨rfl, rfl, rfl⟩ := hq
                  have V := VV.rot1 V
                  refine W.eq (g2 := F0 m 206 ls [iV (bZ (decide (t = e2.2.2.1)))]) rfl ?_
                  have V : VV G _ _ F ([(m0, ob 6 [.null, .null, .ref T, .null, iV (es.length : Nat), iV mc, iV 12, .float 1061158912]), (T, aN G 16 f)] ++ (nds nx es)) _ _ _ := V
                  have hn_ei := nd_at V hm_ei (show va_rf (nx ei.1) = .ref e2.1 from (by rw [hx2]; rfl))
                  have hn_e2 := nd_at V hm_e2 (show va_rf (nx e2.1) = va_rf (nx e2.1) from rfl)
                  have hbz : bZ (decide (t = e2.2.2.1)) = 0 ∨ bZ (decide (t = e2.2.2.1)) = 1 := by unfold bZ; split <;> simp
                  refine z_if_eq (tgt := 212) hx hb (by omega) dJ30_putVal_206 (by decide) (fun c206 => ?_) (fun c206 => ?_)
                  · skip
                    have hne_e2 : e2.2.2.1 ≠ t := fun e9 => by rw [decide_eq_true e9.symm] at c206; exact absurd c206 (by decide)
                    refine lv_aload hx hb dJ30_putVal_212 (lv_at hl 1 rfl) ?_
                    refine lv_astore (lv' := [(7, .ref e2.1), (11, .ref e2.2.1), (10, .ref e2.1), (0, .ref m0), (1, iV (hz t)), (2, .ref a), (3, .ref va), (4, iV 0), (5, iV 1), (6, .ref T), (8, iV 16), (9, iV (bk t : Nat)), (12, iV (i : Nat))]) hx hb dJ30_putVal_214 hl (by decide) rfl (fun ls hl => ?_)
                    refine lv_iinc (v := iZ ((i : Nat) + 1)) (lv' := [(12, iV ((i : Nat) + 1)), (7, .ref e2.1), (11, .ref e2.2.1), (10, .ref e2.1), (0, .ref m0), (1, iV (hz t)), (2, .ref a), (3, .ref va), (4, iV 0), (5, iV 1), (6, .ref T), (8, iV 16), (9, iV (bk t : Nat))]) hx hb dJ30_putVal_216 hl (k := 12) rfl (iZ_add _ _) (by decide) rfl (fun ls hl => ?_)
                    have hno2 : ∀ (j : Nat) (e : En), j ≤ i + 1 → (ch es (bk t))[j]? = some e → e.2.2.1 ≠ t := fun j e hj hje => by
                      by_cases hji : j = i + 1
                      · subst hji; rw [hc2] at hje; cases hje; exact hne_e2
                      · exact hno j e (by omega) hje
                    refine lv_goto (tgt := 134) hx hb dJ30_putVal_219 (by decide) ?_
                    exact ih_loop (i + 1) e2 _ _ _ (by omega) hc2 hno2 V (lv_sub hl [4, 5, 6, 7, 8, 9, 10, 1, 11, 12, 0] rfl)
                  · skip
                    have hee_e2 : e2.2.2.1 = t := Classical.byContradiction fun e9 => by rw [decide_eq_false (fun e8 => e9 e8.symm)] at c206; exact c206 rfl
                    obtain ⟨i9, hi9⟩ := List.getElem?_of_mem hm_e2
                    refine lv_goto (tgt := 222) hx hb dJ30_putVal_209 (by decide) ?_
                    refine lv_aload hx hb dJ30_putVal_222 (lv_at hl 1 rfl) ?_
                    refine lv_ifnull hx hb dJ30_putVal_224 ?_
                    refine lv_aload hx hb dJ30_putVal_227 (lv_at hl 1 rfl) ?_
                    refine z_get hx hb hts hk hown K_J33 hn_e2 2 (by decide) q2288 (fun _ h => h) rfl dJ30_putVal_229 ?_
                    refine lv_astore (lv' := [(12, .ref e2.2.2.2), (11, .ref e2.2.1), (10, .ref e2.1), (0, .ref m0), (1, iV (hz t)), (2, .ref a), (3, .ref va), (4, iV 0), (5, iV 1), (6, .ref T), (7, .ref ei.1), (8, iV 16), (9, iV (bk t : Nat))]) hx hb dJ30_putVal_232 hl (by decide) rfl (fun ls hl => ?_)
                    refine lv_iload hx hb dJ30_putVal_234 (lv_at hl 7 rfl) ?_
                    refine z_if_eq (tgt := 244) hx hb (by omega) dJ30_putVal_236 (by decide) (fun c236 => ?_) (fun c236 => by omega)
                    refine lv_aload hx hb dJ30_putVal_244 (lv_at hl 2 rfl) ?_
                    refine lv_aload_n hx hb dJ30_putVal_246 rfl (lv_at hl 6 rfl) ?_
                    refine z_putT (w := [(m0, ob 6 [.null, .null, .ref T, .null, iV (es.length : Nat), iV mc, iV 12, .float 1061158912]), (T, aN G 16 f)]) (t := nds nx es) hx hb hts hk V hown K_J33 i9 (nds_at hi9 rfl) 2 (by decide) q2288 (fun _ h => h) rfl rfl rfl (Nat.le_of_ble_eq_true rfl) dJ30_putVal_247 (fun H locs V => ?_)
                    have V := VV.to (w' := ([(m0, ob 6 [.null, .null, .ref T, .null, iV (es.length : Nat), iV mc, iV 12, .float 1061158912]), (T, aN G 16 f)] ++ (nds nx (es.set i9 (e2.1, e2.2.1, e2.2.2.1, va))))) (congrArg (fun z => [(m0, ob 6 [.null, .null, .ref T, .null, iV (es.length : Nat), iV mc, iV 12, .float 1061158912]), (T, aN G 16 f)] ++ z) (nds_val (nx := nx) h3 hi9 va)) V
                    refine lv_aload_n hx hb dJ30_putVal_250 rfl (lv_at hl 3 rfl) ?_
                    refine lv_aload hx hb dJ30_putVal_251 (lv_at hl 2 rfl) ?_
                    refine z_callV ⟨hx, hb, hml, hown, hts⟩ hk hl.1 V (wc := []) (wr := ([(m0, ob 6 [.null, .null, .ref T, .null, iV (es.length : Nat), iV mc, iV 12, .float 1061158912]), (T, aN G 16 f)] ++ (nds nx (es.set i9 (e2.1, e2.2.1, e2.2.2.1, va))))) [] ([0, 1] ++ tIx [(m0, ob 6 [.null, .null, .ref T, .null, iV (es.length : Nat), iV mc, iV 12, .float 1061158912]), (T, aN G 16 f)] (nds nx (es.set i9 (e2.1, e2.2.1, e2.2.2.1, va)))) (idxN (w := [(m0, ob 6 [.null, .null, .ref T, .null, iV (es.length : Nat), iV mc, iV 12, .float 1061158912]), (T, aN G 16 f)]) (t := (nds nx (es.set i9 (e2.1, e2.2.1, e2.2.2.1, va)))) (wC := []) (is := []) rfl) (idxT (w := [(m0, ob 6 [.null, .null, .ref T, .null, iV (es.length : Nat), iV mc, iV 12, .float 1061158912]), (T, aN G 16 f)]) (t := (nds nx (es.set i9 (e2.1, e2.2.1, e2.2.2.1, va)))) (wC := [(m0, ob 6 [.null, .null, .ref T, .null, iV (es.length : Nat), iV mc, iV 12, .float 1061158912]), (T, aN G 16 f)]) (is := [0, 1]) rfl) rfl (ndT (w := [(m0, ob 6 [.null, .null, .ref T, .null, iV (es.length : Nat), iV mc, iV 12, .float 1061158912]), (T, aN G 16 f)]) (t := (nds nx (es.set i9 (e2.1, e2.2.1, e2.2.2.1, va)))) (wC := [(m0, ob 6 [.null, .null, .ref T, .null, iV (es.length : Nat), iV mc, iV 12, .float 1061158912]), (T, aN G 16 f)]) (is := [0, 1]) rfl rfl) (disT2 (w := [(m0, ob 6 [.null, .null, .ref T, .null, iV (es.length : Nat), iV mc, iV 12, .float 1061158912]), (T, aN G 16 f)]) (t := (nds nx (es.set i9 (e2.1, e2.2.1, e2.2.2.1, va)))) (wC := []) (isC := []) rfl (by decide)) (As := [.ref e2.1]) (rest := []) (fun hp => ct_HM_ana l G m0 e2.1 hp) (cwV 1 hts (lw_V q2376 q2377 q2378 q121 q2379) rfl rfl rfl (by decide +kernel) ⟨Nat.le_of_ble_eq_true rfl, Nat.le_of_ble_eq_true rfl⟩) (z_rc hk (V.w 0 rfl) (q := (RJ30, TJ30, 8)) rfl) rfl rfl (Nat.le_of_ble_eq_true rfl) dJ30_putVal_253 ⟨Nat.le_of_ble_eq_true rfl, Nat.le_of_ble_eq_true rfl⟩ (fun v F1 w1 H locs hq hle hou V => ?_)
                    obtain ⟨rfl, rfl, rfl⟩ := hq
                    have V := VV.rot1 V
                    refine W.eq (g2 := F0 m 256 ls []) rfl ?_
                    have V : VV G _ _ F ([(m0, ob 6 [.null, .null, .ref T, .null, iV (es.length : Nat), iV mc, iV 12, .float 1061158912]), (T, aN G 16 f)] ++ (nds nx (es.set i9 (e2.1, e2.2.1, e2.2.2.1, va)))) _ _ _ := V
                    refine lv_aload hx hb dJ30_putVal_256 (lv_at hl 0 rfl) ?_
                    have V := V.sub (w1 := ([(m0, ob 6 [.null, .null, .ref T, .null, iV (es.length : Nat), iV mc, iV 12, .float 1061158912]), (T, aN G 16 f)] ++ (nds nx (es.set i9 (e2.1, e2.2.1, e2.2.2.1, va))))) ([0, 1] ++ tIx [(m0, ob 6 [.null, .null, .ref T, .null, iV (es.length : Nat), iV mc, iV 12, .float 1061158912]), (T, aN G 16 f)] (nds nx (es.set i9 (e2.1, e2.2.1, e2.2.2.1, va)))) (ndT (w := [(m0, ob 6 [.null, .null, .ref T, .null, iV (es.length : Nat), iV mc, iV 12, .float 1061158912]), (T, aN G 16 f)]) (t := (nds nx (es.set i9 (e2.1, e2.2.1, e2.2.2.1, va)))) (wC := [(m0, ob 6 [.null, .null, .ref T, .null, iV (es.length : Nat), iV mc, iV 12, .float 1061158912]), (T, aN G 16 f)]) (is := [0, 1]) rfl rfl) (idxT (w := [(m0, ob 6 [.null, .null, .ref T, .null, iV (es.length : Nat), iV mc, iV 12, .float 1061158912]), (T, aN G 16 f)]) (t := (nds nx (es.set i9 (e2.1, e2.2.1, e2.2.2.1, va)))) (wC := [(m0, ob 6 [.null, .null, .ref T, .null, iV (es.length : Nat), iV mc, iV 12, .float 1061158912]), (T, aN G 16 f)]) (is := [0, 1]) rfl)
                    exact z_aret hx hb hr hlk V (Or.inl ⟨_, rfl⟩) (Or.inr ⟨_, rfl⟩) dJ30_putVal_258 ⟨rfl, Or.inl ⟨i9, e2, hi9, hee_e2, rfl, Or.inr ⟨T, f, nx, mc, HMo.upd hO hi9 va, by rw [List.length_set]⟩⟩⟩ ⟨Nat.le_of_ble_eq_true rfl, Nat.le_of_ble_eq_true rfl⟩
        exact loop _ 0 e0 _ _ _ (Nat.lt_succ_self _) hc0 (fun j e hj hje => by
          have hj0 : j = 0 := by omega
          subst hj0
          rw [hc0] at hje
          cases hje
          exact hne_e0) V (lv_sub hl [5, 6, 7, 8, 9, 10, 4, 1, 3, 2, 0] rfl)
      · skip
        refine lv_aload hx hb dJ30_putVal_72 (lv_at hl 0 rfl) ?_
        refine z_get hx hb hts hk hown K_J33 hn_e0 1 (by decide) q2286 (fun _ h => h) rfl dJ30_putVal_74 ?_
        refine lv_dup hx hb dJ30_putVal_77 rfl ?_
        refine lv_astore (lv' := [(11, .ref e0.2.1), (7, .ref e0.1), (9, iV (bk t : Nat)), (8, iV 16), (6, .ref T), (0, .ref m0), (1, iV (hz t)), (2, .ref a), (3, .ref va), (4, iV 0), (5, iV 1)]) hx hb dJ30_putVal_78 hl (by decide) rfl (fun ls hl => ?_)
        refine lv_aload_n hx hb dJ30_putVal_80 rfl (lv_at hl 7 rfl) ?_
        refine z_acmp_eq (tgt := 97) hx hb dJ30_putVal_81 (by decide) (fun he81 => ?_) (fun he81 => ?_)
        · skip
          have hee_e0 : e0.2.2.1 = t := SF.eq (Or.inl (he81 ▸ hke_e0)) (Or.inl h)
          obtain ⟨i9, hi9⟩ := List.getElem?_of_mem hm_e0
          refine lv_aload hx hb dJ30_putVal_97 (lv_at hl 1 rfl) ?_
          refine lv_astore (lv' := [(10, .ref e0.1), (11, .ref e0.2.1), (7, .ref e0.1), (9, iV (bk t : Nat)), (8, iV 16), (6, .ref T), (0, .ref m0), (1, iV (hz t)), (2, .ref a), (3, .ref va), (4, iV 0), (5, iV 1)]) hx hb dJ30_putVal_99 hl (by decide) rfl (fun ls hl => ?_)
          refine lv_goto (tgt := 222) hx hb dJ30_putVal_101 (by decide) ?_
          refine lv_aload hx hb dJ30_putVal_222 (lv_at hl 0 rfl) ?_
          refine lv_ifnull hx hb dJ30_putVal_224 ?_
          refine lv_aload hx hb dJ30_putVal_227 (lv_at hl 0 rfl) ?_
          refine z_get hx hb hts hk hown K_J33 hn_e0 2 (by decide) q2288 (fun _ h => h) rfl dJ30_putVal_229 ?_
          refine lv_astore (lv' := [(12, .ref e0.2.2.2), (10, .ref e0.1), (11, .ref e0.2.1), (7, .ref e0.1), (9, iV (bk t : Nat)), (8, iV 16), (6, .ref T), (0, .ref m0), (1, iV (hz t)), (2, .ref a), (3, .ref va), (4, iV 0), (5, iV 1)]) hx hb dJ30_putVal_232 hl (by decide) rfl (fun ls hl => ?_)
          refine lv_iload hx hb dJ30_putVal_234 (lv_at hl 11 rfl) ?_
          refine z_if_eq (tgt := 244) hx hb (by omega) dJ30_putVal_236 (by decide) (fun c236 => ?_) (fun c236 => by omega)
          refine lv_aload hx hb dJ30_putVal_244 (lv_at hl 1 rfl) ?_
          refine lv_aload_n hx hb dJ30_putVal_246 rfl (lv_at hl 10 rfl) ?_
          refine z_putT (w := [(m0, ob 6 [.null, .null, .ref T, .null, iV (es.length : Nat), iV mc, iV 12, .float 1061158912]), (T, aN G 16 f)]) (t := nds nx es) hx hb hts hk V hown K_J33 i9 (nds_at hi9 rfl) 2 (by decide) q2288 (fun _ h => h) rfl rfl rfl (Nat.le_of_ble_eq_true rfl) dJ30_putVal_247 (fun H locs V => ?_)
          have V := VV.to (w' := ([(m0, ob 6 [.null, .null, .ref T, .null, iV (es.length : Nat), iV mc, iV 12, .float 1061158912]), (T, aN G 16 f)] ++ (nds nx (es.set i9 (e0.1, e0.2.1, e0.2.2.1, va))))) (congrArg (fun z => [(m0, ob 6 [.null, .null, .ref T, .null, iV (es.length : Nat), iV mc, iV 12, .float 1061158912]), (T, aN G 16 f)] ++ z) (nds_val (nx := nx) h3 hi9 va)) V
          refine lv_aload_n hx hb dJ30_putVal_250 rfl (lv_at hl 7 rfl) ?_
          refine lv_aload hx hb dJ30_putVal_251 (lv_at hl 1 rfl) ?_
          refine z_callV ⟨hx, hb, hml, hown, hts⟩ hk hl.1 V (wc := []) (wr := ([(m0, ob 6 [.null, .null, .ref T, .null, iV (es.length : Nat), iV mc, iV 12, .float 1061158912]), (T, aN G 16 f)] ++ (nds nx (es.set i9 (e0.1, e0.2.1, e0.2.2.1, va))))) [] ([0, 1] ++ tIx [(m0, ob 6 [.null, .null, .ref T, .null, iV (es.length : Nat), iV mc, iV 12, .float 1061158912]), (T, aN G 16 f)] (nds nx (es.set i9 (e0.1, e0.2.1, e0.2.2.1, va)))) (idxN (w := [(m0, ob 6 [.null, .null, .ref T, .null, iV (es.length : Nat), iV mc, iV 12, .float 1061158912]), (T, aN G 16 f)]) (t := (nds nx (es.set i9 (e0.1, e0.2.1, e0.2.2.1, va)))) (wC := []) (is := []) rfl) (idxT (w := [(m0, ob 6 [.null, .null, .ref T, .null, iV (es.length : Nat), iV mc, iV 12, .float 1061158912]), (T, aN G 16 f)]) (t := (nds nx (es.set i9 (e0.1, e0.2.1, e0.2.2.1, va)))) (wC := [(m0, ob 6 [.null, .null, .ref T, .null, iV (es.length : Nat), iV mc, iV 12, .float 1061158912]), (T, aN G 16 f)]) (is := [0, 1]) rfl) rfl (ndT (w := [(m0, ob 6 [.null, .null, .ref T, .null, iV (es.length : Nat), iV mc, iV 12, .float 1061158912]), (T, aN G 16 f)]) (t := (nds nx (es.set i9 (e0.1, e0.2.1, e0.2.2.1, va)))) (wC := [(m0, ob 6 [.null, .null, .ref T, .null, iV (es.length : Nat), iV mc, iV 12, .float 1061158912]), (T, aN G 16 f)]) (is := [0, 1]) rfl rfl) (disT2 (w := [(m0, ob 6 [.null, .null, .ref T, .null, iV (es.length : Nat), iV mc, iV 12, .float 1061158912]), (T, aN G 16 f)]) (t := (nds nx (es.set i9 (e0.1, e0.2.1, e0.2.2.1, va)))) (wC := []) (isC := []) rfl (by decide)) (As := [.ref e0.1]) (rest := []) (fun hp => ct_HM_ana l G m0 e0.1 hp) (cwV 1 hts (lw_V q2376 q2377 q2378 q121 q2379) rfl rfl rfl (by decide +kernel) ⟨Nat.le_of_ble_eq_true rfl, Nat.le_of_ble_eq_true rfl⟩) (z_rc hk (V.w 0 rfl) (q := (RJ30, TJ30, 8)) rfl) rfl rfl (Nat.le_of_ble_eq_true rfl) dJ30_putVal_253 ⟨Nat.le_of_ble_eq_true rfl, Nat.le_of_ble_eq_true rfl⟩ (fun v F1 w1 H locs hq hle hou V => ?_)
          obtain ⟨rfl, rfl, rfl⟩ := hq
          have V := VV.rot1 V
          refine W.eq (g2 := F0 m 256 ls []) rfl ?_
          have V : VV G _ _ F ([(m0, ob 6 [.null, .null, .ref T, .null, iV (es.length : Nat), iV mc, iV 12, .float 1061158912]), (T, aN G 16 f)] ++ (nds nx (es.set i9 (e0.1, e0.2.1, e0.2.2.1, va)))) _ _ _ := V
          refine lv_aload hx hb dJ30_putVal_256 (lv_at hl 0 rfl) ?_
          have V := V.sub (w1 := ([(m0, ob 6 [.null, .null, .ref T, .null, iV (es.length : Nat), iV mc, iV 12, .float 1061158912]), (T, aN G 16 f)] ++ (nds nx (es.set i9 (e0.1, e0.2.1, e0.2.2.1, va))))) ([0, 1] ++ tIx [(m0, ob 6 [.null, .null, .ref T, .null, iV (es.length : Nat), iV mc, iV 12, .float 1061158912]), (T, aN G 16 f)] (nds nx (es.set i9 (e0.1, e0.2.1, e0.2.2.1, va)))) (ndT (w := [(m0, ob 6 [.null, .null, .ref T, .null, iV (es.length : Nat), iV mc, iV 12, .float 1061158912]), (T, aN G 16 f)]) (t := (nds nx (es.set i9 (e0.1, e0.2.1, e0.2.2.1, va)))) (wC := [(m0, ob 6 [.null, .null, .ref T, .null, iV (es.length : Nat), iV mc, iV 12, .float 1061158912]), (T, aN G 16 f)]) (is := [0, 1]) rfl rfl) (idxT (w := [(m0, ob 6 [.null, .null, .ref T, .null, iV (es.length : Nat), iV mc, iV 12, .float 1061158912]), (T, aN G 16 f)]) (t := (nds nx (es.set i9 (e0.1, e0.2.1, e0.2.2.1, va)))) (wC := [(m0, ob 6 [.null, .null, .ref T, .null, iV (es.length : Nat), iV mc, iV 12, .float 1061158912]), (T, aN G 16 f)]) (is := [0, 1]) rfl)
          exact z_aret hx hb hr hlk V (Or.inl ⟨_, rfl⟩) (Or.inr ⟨_, rfl⟩) dJ30_putVal_258 ⟨rfl, Or.inl ⟨i9, e0, hi9, hee_e0, rfl, Or.inr ⟨T, f, nx, mc, HMo.upd hO hi9 va, by rw [List.length_set]⟩⟩⟩ ⟨Nat.le_of_ble_eq_true rfl, Nat.le_of_ble_eq_true rfl⟩
        · skip
          refine lv_aload_n hx hb dJ30_putVal_84 rfl (lv_at hl 7 rfl) ?_
          refine lv_ifnull hx hb dJ30_putVal_85 ?_
          refine lv_aload_n hx hb dJ30_putVal_88 rfl (lv_at hl 7 rfl) ?_
          refine lv_aload hx hb dJ30_putVal_89 (lv_at hl 0 rfl) ?_
          obtain ⟨v9, h9, z9, hF9, hB9, hrel9, hat9, hbf9⟩ := SH.at h V
          refine z_callU ⟨hx, hb, hml, hown, hts⟩ hk hl.1 V (wc := []) (wr := ([(m0, ob 6 [.null, .null, .ref T, .null, iV (es.length : Nat), iV mc, iV 12, .float 1061158912]), (T, aN G 16 f)] ++ (nds nx es))) [] ([0, 1] ++ tIx [(m0, ob 6 [.null, .null, .ref T, .null, iV (es.length : Nat), iV mc, iV 12, .float 1061158912]), (T, aN G 16 f)] (nds nx es)) (idxN (w := [(m0, ob 6 [.null, .null, .ref T, .null, iV (es.length : Nat), iV mc, iV 12, .float 1061158912]), (T, aN G 16 f)]) (t := (nds nx es)) (wC := []) (is := []) rfl) (idxT (w := [(m0, ob 6 [.null, .null, .ref T, .null, iV (es.length : Nat), iV mc, iV 12, .float 1061158912]), (T, aN G 16 f)]) (t := (nds nx es)) (wC := [(m0, ob 6 [.null, .null, .ref T, .null, iV (es.length : Nat), iV mc, iV 12, .float 1061158912]), (T, aN G 16 f)]) (is := [0, 1]) rfl) rfl (ndT (w := [(m0, ob 6 [.null, .null, .ref T, .null, iV (es.length : Nat), iV mc, iV 12, .float 1061158912]), (T, aN G 16 f)]) (t := (nds nx es)) (wC := [(m0, ob 6 [.null, .null, .ref T, .null, iV (es.length : Nat), iV mc, iV 12, .float 1061158912]), (T, aN G 16 f)]) (is := [0, 1]) rfl rfl) (disT2 (w := [(m0, ob 6 [.null, .null, .ref T, .null, iV (es.length : Nat), iV mc, iV 12, .float 1061158912]), (T, aN G 16 f)]) (t := (nds nx es)) (wC := []) (isC := []) rfl (by decide)) (As := [.ref e0.2.1]) (rest := []) (fun hp => ct_S_equals l G a e0.2.1 t e0.2.2.1 (Or.inl h) (Or.inl hke_e0) hp) (va_cwO (owner := "java/lang/Object") 1 hts (lw_app (lw_in6 q1918 q1920 q1919 q1955 q1098 q81) (lw_meth q1100)) rfl rfl rfl q1961 (by decide +kernel) ⟨Nat.le_of_ble_eq_true rfl, Nat.le_of_ble_eq_true rfl⟩) (z_rc hk hat9 (q := (RJ6, TJ6, 4)) rfl) rfl rfl (Nat.le_of_ble_eq_true rfl) dJ30_putVal_91 ⟨Nat.le_of_ble_eq_true rfl, Nat.le_of_ble_eq_true rfl⟩ (fun v F1 w1 H locs hq hle hou V => ?_)
          obtain ⟨rfl, rfl, rfl⟩ := hq
          have V := VV.rot1 V
          refine W.eq (g2 := F0 m 94 ls [iV (bZ (decide (t = e0.2.2.1)))]) rfl ?_
          have V : VV G _ _ F ([(m0, ob 6 [.null, .null, .ref T, .null, iV (es.length : Nat), iV mc, iV 12, .float 1061158912]), (T, aN G 16 f)] ++ (nds nx es)) _ _ _ := V
          have hn_e0 := nd_at V hm_e0 (show va_rf (nx e0.1) = va_rf (nx e0.1) from rfl)
          have hbz : bZ (decide (t = e0.2.2.1)) = 0 ∨ bZ (decide (t = e0.2.2.1)) = 1 := by unfold bZ; split <;> simp
          refine z_if_eq (tgt := 104) hx hb (by omega) dJ30_putVal_94 (by decide) (fun c94 => ?_) (fun c94 => ?_)
          · skip
            have hne_e0 : e0.2.2.1 ≠ t := fun e9 => by rw [decide_eq_true e9.symm] at c94; exact absurd c94 (by decide)
            refine lv_aload hx hb dJ30_putVal_104 (lv_at hl 1 rfl) ?_
            refine va_instNo hx hb hown (hts _ q1962) (hk.nc 0 rfl) (z_rc hk hn_e0 (q := (RJ33, TJ33, 4)) rfl) dJ30_putVal_106 ?_
            refine W.eq (g2 := F0 m 109 ls [iV 0]) rfl ?_
            refine z_if_eq (tgt := 131) hx hb (by omega) dJ30_putVal_109 (by decide) (fun c109 => ?_) (fun c109 => by omega)
            refine lv_iconst (v := iZ 0) hx hb dJ30_putVal_131 rfl ?_
            refine lv_istore (lv' := [(12, iV 0), (11, .ref e0.2.1), (7, .ref e0.1), (9, iV (bk t : Nat)), (8, iV 16), (6, .ref T), (0, .ref m0), (1, iV (hz t)), (2, .ref a), (3, .ref va), (4, iV 0), (5, iV 1)]) hx hb dJ30_putVal_132 hl (by decide) rfl (fun ls hl => ?_)
            have loop : ∀ (n : Nat) (i : Nat) (ei : En) (H : Heap) (locs : List Loc) (ls : Array Slot), (ch es (bk t)).length - i < n → ((ch es (bk t))[i]? = some ei) → (∀ (j : Nat) (e : En), j ≤ i → (ch es (bk t))[j]? = some e → e.2.2.1 ≠ t) → VV G (FR F [(m0, ob 6 [.null, .null, .null, .null, iV 0, iV 0, iV 0, .float 1061158912])] Ha) F F ([(m0, ob 6 [.null, .null, .ref T, .null, iV (es.length : Nat), iV mc, iV 12, .float 1061158912]), (T, aN G 16 f)] ++ (nds nx es)) Ha H locs → lv_has ls 13 [(0, .ref m0), (1, iV (hz t)), (2, .ref a), (3, .ref va), (4, iV 0), (5, iV 1), (6, .ref T), (7, .ref ei.1), (8, iV 16), (9, iV (bk t : Nat)), (12, iV (i : Nat))] → W p l e ({ frames := 3, cells := 3, slots := 40, locals := 88 } : Room) s m [.ref m0, iV (hz t), .ref a, .ref va, iV 0, iV 1].toArray below meth c H locs 1 16 (MQ below (Qz G F [(m0, ob 6 [.null, .null, .null, .null, iV 0, iV 0, iV 0, .float 1061158912])] Ha (fun rv F' w' => F = F' ∧ ((∃ (i : Nat) (e : En), es[i]? = some e ∧ e.2.2.1 = t ∧ rv = some (.ref e.2.2.2) ∧ HM G F m0 (es.set i (e.1, e.2.1, e.2.2.1, va)) w') ∨ (fnd es t = none ∧ rv = some .null ∧ ∃ n : Nat, HM G F m0 (es ++ [(n, a, t, va)]) w')))) [.ref m0, iV (hz t), .ref a, .ref va, iV 0, iV 1].toArray s 3 40 (FR F [(m0, ob 6 [.null, .null, .null, .null, iV 0, iV 0, iV 0, .float 1061158912])] Ha)) (F0 m 134 ls []) := by
              intro n
              induction n with
              | zero => intro i ei H locs ls hm9; exact absurd hm9 (Nat.not_lt_zero _)
              | succ n ih_loop =>
                intro i ei H locs ls hm9 hci hno V hl
                have hm_ei := (ch_mem hci).1
                have hxi := h6 (bk t) i ei.1 (cha_ch hci)
                have hli := (List.getElem?_eq_some_iff.mp hci).1
                have hcl : (ch es (bk t)).length ≤ 7 := by rw [show (ch es (bk t)).length = (cha es (bk t)).length by unfold cha; rw [List.length_map]]; exact hbk
                cases hc2 : (ch es (bk t))[i + 1]? with
                | none =>
                  have hx2 : nx ei.1 = none := by rw [hxi]; unfold cha; rw [List.getElem?_map, hc2]; rfl
                  have hE : fnd es t = none := fnd_none (fun j e hj => hno j e (by have hl0 := List.getElem?_eq_none_iff.mp hc2; have hl1 := (List.getElem?_eq_some_iff.mp hj).1; omega) hj)
                  obtain ⟨i9, hi9⟩ := List.getElem?_of_mem hm_ei
                  have hn_ei := nd_at V hm_ei (show va_rf (nx ei.1) = .null from (by rw [hx2]; rfl))
                  refine lv_aload hx hb dJ30_putVal_134 (lv_at hl 7 rfl) ?_
                  refine z_get hx hb hts hk hown K_J33 hn_ei 3 (by decide) q2293 (fun _ h => h) rfl dJ30_putVal_136 ?_
                  refine lv_dup hx hb dJ30_putVal_139 rfl ?_
                  refine lv_astoreN (lv' := [(10, .null), (0, .ref m0), (1, iV (hz t)), (2, .ref a), (3, .ref va), (4, iV 0), (5, iV 1), (6, .ref T), (7, .ref ei.1), (8, iV 16), (9, iV (bk t : Nat)), (12, iV (i : Nat))]) hx hb dJ30_putVal_140 hl (by decide) rfl (fun ls hl => ?_)
                  refine lv_ifnonnullN hx hb dJ30_putVal_142 ?_
                  refine lv_aload hx hb dJ30_putVal_145 (lv_at hl 8 rfl) ?_
                  refine lv_aload_n hx hb dJ30_putVal_147 rfl (lv_at hl 1 rfl) ?_
                  refine lv_iload_n hx hb dJ30_putVal_148 rfl (lv_at hl 2 rfl) ?_
                  refine lv_aload_n hx hb dJ30_putVal_149 rfl (lv_at hl 3 rfl) ?_
                  refine lv_aload_n hx hb dJ30_putVal_150 rfl (lv_at hl 4 rfl) ?_
                  refine lv_null hx hb dJ30_putVal_151 ?_
                  refine z_callV ⟨hx, hb, hml, hown, hts⟩ hk hl.1 V (wc := []) (wr := ([(m0, ob 6 [.null, .null, .ref T, .null, iV (es.length : Nat), iV mc, iV 12, .float 1061158912]), (T, aN G 16 f)] ++ (nds nx es))) [] ([0, 1] ++ tIx [(m0, ob 6 [.null, .null, .ref T, .null, iV (es.length : Nat), iV mc, iV 12, .float 1061158912]), (T, aN G 16 f)] (nds nx es)) (idxN (w := [(m0, ob 6 [.null, .null, .ref T, .null, iV (es.length : Nat), iV mc, iV 12, .float 1061158912]), (T, aN G 16 f)]) (t := (nds nx es)) (wC := []) (is := []) rfl) (idxT (w := [(m0, ob 6 [.null, .null, .ref T, .null, iV (es.length : Nat), iV mc, iV 12, .float 1061158912]), (T, aN G 16 f)]) (t := (nds nx es)) (wC := [(m0, ob 6 [.null, .null, .ref T, .null, iV (es.length : Nat), iV mc, iV 12, .float 1061158912]), (T, aN G 16 f)]) (is := [0, 1]) rfl) rfl (ndT (w := [(m0, ob 6 [.null, .null, .ref T, .null, iV (es.length : Nat), iV mc, iV 12, .float 1061158912]), (T, aN G 16 f)]) (t := (nds nx es)) (wC := [(m0, ob 6 [.null, .null, .ref T, .null, iV (es.length : Nat), iV mc, iV 12, .float 1061158912]), (T, aN G 16 f)]) (is := [0, 1]) rfl rfl) (disT2 (w := [(m0, ob 6 [.null, .null, .ref T, .null, iV (es.length : Nat), iV mc, iV 12, .float 1061158912]), (T, aN G 16 f)]) (t := (nds nx es)) (wC := []) (isC := []) rfl (by decide)) (As := [iV (hz t), .ref a, .ref va, .null]) (rest := [.ref ei.1]) (fun hp => ct_HM_newNode l G m0 a va (hz t) hp) (cwV 4 hts (lw_V q2322 q2323 q2324 q121 q2325) rfl rfl rfl (by decide +kernel) ⟨Nat.le_of_ble_eq_true rfl, Nat.le_of_ble_eq_true rfl⟩) (z_rc hk (V.w 0 rfl) (q := (RJ30, TJ30, 8)) rfl) rfl rfl (Nat.le_of_ble_eq_true rfl) dJ30_putVal_152 ⟨Nat.le_of_ble_eq_true rfl, Nat.le_of_ble_eq_true rfl⟩ (fun v F1 w1 H locs hq hle hou V => ?_)
                  obtain ⟨n, rfl, rfl, rfl⟩ := hq
                  have V := VV.rot1 V
                  refine W.eq (g2 := F0 m 155 ls [.ref n, .ref ei.1]) rfl ?_
                  have V : VV G _ _ F ([(m0, ob 6 [.null, .null, .ref T, .null, iV (es.length : Nat), iV mc, iV 12, .float 1061158912]), (T, aN G 16 f), (n, ob 7 [iV (hz t), .ref a, .ref va, .null])] ++ (nds nx es)) _ _ _ := V
                  have hfr : n ∉ es.map (fun e => e.1) := fresh_of (w := [(m0, ob 6 [.null, .null, .ref T, .null, iV (es.length : Nat), iV mc, iV 12, .float 1061158912]), (T, aN G 16 f), (n, ob 7 [iV (hz t), .ref a, .ref va, .null])]) V 2 rfl
                  refine z_putT (w := [(m0, ob 6 [.null, .null, .ref T, .null, iV (es.length : Nat), iV mc, iV 12, .float 1061158912]), (T, aN G 16 f), (n, ob 7 [iV (hz t), .ref a, .ref va, .null])]) (t := nds nx es) hx hb hts hk V hown K_J33 i9 (nds_at hi9 rfl) 3 (by decide) q2293 (fun _ h => h) rfl rfl rfl (Nat.le_of_ble_eq_true rfl) dJ30_putVal_155 (fun H locs V => ?_)
                  have V := VV.to (w' := ([(m0, ob 6 [.null, .null, .ref T, .null, iV (es.length : Nat), iV mc, iV 12, .float 1061158912]), (T, aN G 16 f), (n, ob 7 [iV (hz t), .ref a, .ref va, .null])] ++ (nds (va_up nx ei.1 (some n)) es))) (congrArg (fun z => [(m0, ob 6 [.null, .null, .ref T, .null, iV (es.length : Nat), iV mc, iV 12, .float 1061158912]), (T, aN G 16 f), (n, ob 7 [iV (hz t), .ref a, .ref va, .null])] ++ z) (nds_next (nx := nx) h3 hi9 (some n))) V
                  refine lv_iload hx hb dJ30_putVal_158 (lv_at hl 11 rfl) ?_
                  refine lv_bipush (v := iZ 7) hx hb dJ30_putVal_160 (by decide) ?_
                  refine z_icmp_lt (tgt := 222) hx hb (by omega) dJ30_putVal_162 (by decide) (fun c162 => ?_) (fun c162 => by omega)
                  refine lv_aloadN hx hb dJ30_putVal_222 (lv_at hl 0 rfl) ?_
                  refine lv_ifnullN (tgt := 259) hx hb dJ30_putVal_224 (by decide) ?_
                  refine lv_aload_n hx hb dJ30_putVal_259 rfl (lv_at hl 1 rfl) ?_
                  refine lv_dup hx hb dJ30_putVal_260 rfl ?_
                  refine z_get hx hb hts hk hown K_J30 (V.w 0 rfl) 5 (by decide) q1777 (fun _ h => h) rfl dJ30_putVal_261 ?_
                  refine lv_iconst (v := iZ 1) hx hb dJ30_putVal_264 rfl ?_
                  refine z_iadd hx hb dJ30_putVal_265 ?_
                  refine z_put hx hb hts hk V hown K_J30 0 rfl 5 (by decide) q1777 (fun _ h => h) rfl rfl rfl (Nat.le_of_ble_eq_true rfl) dJ30_putVal_266 (fun H locs V => ?_)
                  have V : VV G _ _ F ([(m0, ob 6 [.null, .null, .ref T, .null, iV (es.length : Nat), iV (mc + 1), iV 12, .float 1061158912]), (T, aN G 16 f), (n, ob 7 [iV (hz t), .ref a, .ref va, .null])] ++ (nds (va_up nx ei.1 (some n)) es)) _ _ _ := V
                  refine lv_aload_n hx hb dJ30_putVal_269 rfl (lv_at hl 1 rfl) ?_
                  refine lv_dup hx hb dJ30_putVal_270 rfl ?_
                  refine z_get hx hb hts hk hown K_J30 (V.w 0 rfl) 4 (by decide) q1776 (fun _ h => h) rfl dJ30_putVal_271 ?_
                  refine lv_iconst (v := iZ 1) hx hb dJ30_putVal_274 rfl ?_
                  refine z_iadd hx hb dJ30_putVal_275 ?_
                  refine lv_dup_x1 hx hb dJ30_putVal_276 rfl rfl ?_
                  refine z_put hx hb hts hk V hown K_J30 0 rfl 4 (by decide) q1776 (fun _ h => h) rfl rfl rfl (Nat.le_of_ble_eq_true rfl) dJ30_putVal_277 (fun H locs V => ?_)
                  have V : VV G _ _ F ([(m0, ob 6 [.null, .null, .ref T, .null, iV ((es.length : Nat) + 1), iV (mc + 1), iV 12, .float 1061158912]), (T, aN G 16 f), (n, ob 7 [iV (hz t), .ref a, .ref va, .null])] ++ (nds (va_up nx ei.1 (some n)) es)) _ _ _ := V
                  refine lv_aload_n hx hb dJ30_putVal_280 rfl (lv_at hl 1 rfl) ?_
                  refine z_get hx hb hts hk hown K_J30 (V.w 0 rfl) 6 (by decide) q1778 (fun _ h => h) rfl dJ30_putVal_281 ?_
                  refine z_icmp_le (tgt := 292) hx hb (by omega) dJ30_putVal_284 (by decide) (fun c284 => ?_) (fun c284 => by omega)
                  refine lv_aload_n hx hb dJ30_putVal_292 rfl (lv_at hl 1 rfl) ?_
                  refine lv_iload hx hb dJ30_putVal_293 (lv_at hl 6 rfl) ?_
                  refine z_callV ⟨hx, hb, hml, hown, hts⟩ hk hl.1 V (wc := []) (wr := ([(m0, ob 6 [.null, .null, .ref T, .null, iV ((es.length : Nat) + 1), iV (mc + 1), iV 12, .float 1061158912]), (T, aN G 16 f), (n, ob 7 [iV (hz t), .ref a, .ref va, .null])] ++ (nds (va_up nx ei.1 (some n)) es))) [] ([0, 1, 2] ++ tIx [(m0, ob 6 [.null, .null, .ref T, .null, iV ((es.length : Nat) + 1), iV (mc + 1), iV 12, .float 1061158912]), (T, aN G 16 f), (n, ob 7 [iV (hz t), .ref a, .ref va, .null])] (nds (va_up nx ei.1 (some n)) es)) (idxN (w := [(m0, ob 6 [.null, .null, .ref T, .null, iV ((es.length : Nat) + 1), iV (mc + 1), iV 12, .float 1061158912]), (T, aN G 16 f), (n, ob 7 [iV (hz t), .ref a, .ref va, .null])]) (t := (nds (va_up nx ei.1 (some n)) es)) (wC := []) (is := []) rfl) (idxT (w := [(m0, ob 6 [.null, .null, .ref T, .null, iV ((es.length : Nat) + 1), iV (mc + 1), iV 12, .float 1061158912]), (T, aN G 16 f), (n, ob 7 [iV (hz t), .ref a, .ref va, .null])]) (t := (nds (va_up nx ei.1 (some n)) es)) (wC := [(m0, ob 6 [.null, .null, .ref T, .null, iV ((es.length : Nat) + 1), iV (mc + 1), iV 12, .float 1061158912]), (T, aN G 16 f), (n, ob 7 [iV (hz t), .ref a, .ref va, .null])]) (is := [0, 1, 2]) rfl) rfl (ndT (w := [(m0, ob 6 [.null, .null, .ref T, .null, iV ((es.length : Nat) + 1), iV (mc + 1), iV 12, .float 1061158912]), (T, aN G 16 f), (n, ob 7 [iV (hz t), .ref a, .ref va, .null])]) (t := (nds (va_up nx ei.1 (some n)) es)) (wC := [(m0, ob 6 [.null, .null, .ref T, .null, iV ((es.length : Nat) + 1), iV (mc + 1), iV 12, .float 1061158912]), (T, aN G 16 f), (n, ob 7 [iV (hz t), .ref a, .ref va, .null])]) (is := [0, 1, 2]) rfl rfl) (disT2 (w := [(m0, ob 6 [.null, .null, .ref T, .null, iV ((es.length : Nat) + 1), iV (mc + 1), iV 12, .float 1061158912]), (T, aN G 16 f), (n, ob 7 [iV (hz t), .ref a, .ref va, .null])]) (t := (nds (va_up nx ei.1 (some n)) es)) (wC := []) (isC := []) rfl (by decide)) (As := [iV 1]) (rest := []) (fun hp => ct_HM_ani l G m0 hp) (cwV 1 hts (lw_V q2380 q2381 q2382 q121 q2383) rfl rfl rfl (by decide +kernel) ⟨Nat.le_of_ble_eq_true rfl, Nat.le_of_ble_eq_true rfl⟩) (z_rc hk (V.w 0 rfl) (q := (RJ30, TJ30, 8)) rfl) rfl rfl (Nat.le_of_ble_eq_true rfl) dJ30_putVal_295 ⟨Nat.le_of_ble_eq_true rfl, Nat.le_of_ble_eq_true rfl⟩ (fun v F1 w1 H locs hq hle hou V => ?_)
                  obtain ⟨rfl, rfl, rfl⟩ := hq
                  have V := VV.rot1 V
                  refine W.eq (g2 := F0 m 298 ls []) rfl ?_
                  have V : VV G _ _ F ([(m0, ob 6 [.null, .null, .ref T, .null, iV ((es.length : Nat) + 1), iV (mc + 1), iV 12, .float 1061158912]), (T, aN G 16 f), (n, ob 7 [iV (hz t), .ref a, .ref va, .null])] ++ (nds (va_up nx ei.1 (some n)) es)) _ _ _ := V
                  refine lv_null hx hb dJ30_putVal_298 ?_
                  have V := V.sub (w1 := ([(m0, ob 6 [.null, .null, .ref T, .null, iV ((es.length : Nat) + 1), iV (mc + 1), iV 12, .float 1061158912]), (T, aN G 16 f), (n, ob 7 [iV (hz t), .ref a, .ref va, .null])] ++ (nds (va_up nx ei.1 (some n)) es))) ([0, 1, 2] ++ tIx [(m0, ob 6 [.null, .null, .ref T, .null, iV ((es.length : Nat) + 1), iV (mc + 1), iV 12, .float 1061158912]), (T, aN G 16 f), (n, ob 7 [iV (hz t), .ref a, .ref va, .null])] (nds (va_up nx ei.1 (some n)) es)) (ndT (w := [(m0, ob 6 [.null, .null, .ref T, .null, iV ((es.length : Nat) + 1), iV (mc + 1), iV 12, .float 1061158912]), (T, aN G 16 f), (n, ob 7 [iV (hz t), .ref a, .ref va, .null])]) (t := (nds (va_up nx ei.1 (some n)) es)) (wC := [(m0, ob 6 [.null, .null, .ref T, .null, iV ((es.length : Nat) + 1), iV (mc + 1), iV 12, .float 1061158912]), (T, aN G 16 f), (n, ob 7 [iV (hz t), .ref a, .ref va, .null])]) (is := [0, 1, 2]) rfl rfl) (idxT (w := [(m0, ob 6 [.null, .null, .ref T, .null, iV ((es.length : Nat) + 1), iV (mc + 1), iV 12, .float 1061158912]), (T, aN G 16 f), (n, ob 7 [iV (hz t), .ref a, .ref va, .null])]) (t := (nds (va_up nx ei.1 (some n)) es)) (wC := [(m0, ob 6 [.null, .null, .ref T, .null, iV ((es.length : Nat) + 1), iV (mc + 1), iV 12, .float 1061158912]), (T, aN G 16 f), (n, ob 7 [iV (hz t), .ref a, .ref va, .null])]) (is := [0, 1, 2]) rfl)
                  have V := VV.rot1 (w := [(m0, ob 6 [.null, .null, .ref T, .null, iV ((es.length : Nat) + 1), iV (mc + 1), iV 12, .float 1061158912]), (T, aN G 16 f)]) (t := [(n, ob 7 [iV (hz t), .ref a, .ref va, .null])]) V
                  have V := VV.to (w' := [(m0, ob 6 [.null, .null, .ref T, .null, iV ((es.length : Nat) + 1), iV (mc + 1), iV 12, .float 1061158912]), (T, aN G 16 f)] ++ nds (va_up (va_up nx ei.1 (some n)) n none) (es ++ [(n, a, t, va)])) (by rw [nds_app hfr, ← List.append_assoc]) V
                  exact z_aret hx hb hr hlk V (Or.inl ⟨_, rfl⟩) (Or.inl rfl) dJ30_putVal_299 ⟨rfl, Or.inr ⟨hE, rfl, n, Or.inr ⟨T, f, va_up (va_up nx ei.1 (some n)) n none, mc + 1, HMo.add1 hO h hE hfr hcap hci hc2, by simp⟩⟩⟩ ⟨Nat.le_of_ble_eq_true rfl, Nat.le_of_ble_eq_true rfl⟩
                | some e2 =>
                  have hx2 : nx ei.1 = some e2.1 := by rw [hxi]; exact cha_ch hc2
                  have hm_e2 := (ch_mem hc2).1
                  have hn_ei := nd_at V hm_ei (show va_rf (nx ei.1) = .ref e2.1 from (by rw [hx2]; rfl))
                  have hn_e2 := nd_at V hm_e2 (show va_rf (nx e2.1) = va_rf (nx e2.1) from rfl)
                  refine lv_aload hx hb dJ30_putVal_134 (lv_at hl 7 rfl) ?_
                  refine z_get hx hb hts hk hown K_J33 hn_ei 3 (by decide) q2293 (fun _ h => h) rfl dJ30_putVal_136 ?_
                  refine lv_dup hx hb dJ30_putVal_139 rfl ?_
                  refine lv_astore (lv' := [(10, .ref e2.1), (0, .ref m0), (1, iV (hz t)), (2, .ref a), (3, .ref va), (4, iV 0), (5, iV 1), (6, .ref T), (7, .ref ei.1), (8, iV 16), (9, iV (bk t : Nat)), (12, iV (i : Nat))]) hx hb dJ30_putVal_140 hl (by decide) rfl (fun ls hl => ?_)
                  refine lv_ifnonnull (tgt := 175) hx hb dJ30_putVal_142 (by decide) ?_
                  have hke_e2 := h1 _ hm_e2
                  have hzb_e2 := hz_B e2.2.2.1
                  refine lv_aload hx hb dJ30_putVal_175 (lv_at hl 0 rfl) ?_
                  refine z_get hx hb hts hk hown K_J33 hn_e2 0 (by decide) q2282 (fun _ h => h) rfl dJ30_putVal_177 ?_
                  refine lv_iload_n hx hb dJ30_putVal_180 rfl (lv_at hl 2 rfl) ?_
                  refine z_icmp_ne (tgt := 212) hx hb (by omega) dJ30_putVal_181 (by decide) (fun c181 => ?_) (fun c181 => ?_)
                  · skip
                    have hne_e2 : e2.2.2.1 ≠ t := fun e9 => by rw [e9] at c181; exact c181 rfl
                    refine lv_aload hx hb dJ30_putVal_212 (lv_at hl 0 rfl) ?_
                    refine lv_astore (lv' := [(7, .ref e2.1), (10, .ref e2.1), (0, .ref m0), (1, iV (hz t)), (2, .ref a), (3, .ref va), (4, iV 0), (5, iV 1), (6, .ref T), (8, iV 16), (9, iV (bk t : Nat)), (12, iV (i : Nat))]) hx hb dJ30_putVal_214 hl (by decide) rfl (fun ls hl => ?_)
                    refine lv_iinc (v := iZ ((i : Nat) + 1)) (lv' := [(12, iV ((i : Nat) + 1)), (7, .ref e2.1), (10, .ref e2.1), (0, .ref m0), (1, iV (hz t)), (2, .ref a), (3, .ref va), (4, iV 0), (5, iV 1), (6, .ref T), (8, iV 16), (9, iV (bk t : Nat))]) hx hb dJ30_putVal_216 hl (k := 11) rfl (iZ_add _ _) (by decide) rfl (fun ls hl => ?_)
                    have hno2 : ∀ (j : Nat) (e : En), j ≤ i + 1 → (ch es (bk t))[j]? = some e → e.2.2.1 ≠ t := fun j e hj hje => by
                      by_cases hji : j = i + 1
                      · subst hji; rw [hc2] at hje; cases hje; exact hne_e2
                      · exact hno j e (by omega) hje
                    refine lv_goto (tgt := 134) hx hb dJ30_putVal_219 (by decide) ?_
                    exact ih_loop (i + 1) e2 _ _ _ (by omega) hc2 hno2 V (lv_sub hl [3, 4, 5, 6, 7, 8, 9, 1, 10, 11, 0] rfl)
                  · skip
                    refine lv_aload hx hb dJ30_putVal_184 (lv_at hl 0 rfl) ?_
                    refine z_get hx hb hts hk hown K_J33 hn_e2 1 (by decide) q2286 (fun _ h => h) rfl dJ30_putVal_186 ?_
                    refine lv_dup hx hb dJ30_putVal_189 rfl ?_
                    refine lv_astore (lv' := [(11, .ref e2.2.1), (10, .ref e2.1), (0, .ref m0), (1, iV (hz t)), (2, .ref a), (3, .ref va), (4, iV 0), (5, iV 1), (6, .ref T), (7, .ref ei.1), (8, iV 16), (9, iV (bk t : Nat)), (12, iV (i : Nat))]) hx hb dJ30_putVal_190 hl (by decide) rfl (fun ls hl => ?_)
                    refine lv_aload_n hx hb dJ30_putVal_192 rfl (lv_at hl 4 rfl) ?_
                    refine z_acmp_eq (tgt := 222) hx hb dJ30_putVal_193 (by decide) (fun he193 => ?_) (fun he193 => ?_)
                    · skip
                      have hee_e2 : e2.2.2.1 = t := SF.eq (Or.inl (he193 ▸ hke_e2)) (Or.inl h)
                      obtain ⟨i9, hi9⟩ := List.getElem?_of_mem hm_e2
                      refine lv_aload hx hb dJ30_putVal_222 (lv_at hl 1 rfl) ?_
                      refine lv_ifnull hx hb dJ30_putVal_224 ?_
                      refine lv_aload hx hb dJ30_putVal_227 (lv_at hl 1 rfl) ?_
                      refine z_get hx hb hts hk hown K_J33 hn_e2 2 (by decide) q2288 (fun _ h => h) rfl dJ30_putVal_229 ?_
                      refine lv_astore (lv' := [(12, .ref e2.2.2.2), (11, .ref e2.2.1), (10, .ref e2.1), (0, .ref m0), (1, iV (hz t)), (2, .ref a), (3, .ref va), (4, iV 0), (5, iV 1), (6, .ref T), (7, .ref ei.1), (8, iV 16), (9, iV (bk t : Nat))]) hx hb dJ30_putVal_232 hl (by decide) rfl (fun ls hl => ?_)
                      refine lv_iload hx hb dJ30_putVal_234 (lv_at hl 7 rfl) ?_
                      refine z_if_eq (tgt := 244) hx hb (by omega) dJ30_putVal_236 (by decide) (fun c236 => ?_) (fun c236 => by omega)
                      refine lv_aload hx hb dJ30_putVal_244 (lv_at hl 2 rfl) ?_
                      refine lv_aload_n hx hb dJ30_putVal_246 rfl (lv_at hl 6 rfl) ?_
                      refine z_putT (w := [(m0, ob 6 [.null, .null, .ref T, .null, iV (es.length : Nat), iV mc, iV 12, .float 1061158912]), (T, aN G 16 f)]) (t := nds nx es) hx hb hts hk V hown K_J33 i9 (nds_at hi9 rfl) 2 (by decide) q2288 (fun _ h => h) rfl rfl rfl (Nat.le_of_ble_eq_true rfl) dJ30_putVal_247 (fun H locs V => ?_)
                      have V := VV.to (w' := ([(m0, ob 6 [.null, .null, .ref T, .null, iV (es.length : Nat), iV mc, iV 12, .float 1061158912]), (T, aN G 16 f)] ++ (nds nx (es.set i9 (e2.1, e2.2.1, e2.2.2.1, va))))) (congrArg (fun z => [(m0, ob 6 [.null, .null, .ref T, .null, iV (es.length : Nat), iV mc, iV 12, .float 1061158912]), (T, aN G 16 f)] ++ z) (nds_val (nx := nx) h3 hi9 va)) V
                      refine lv_aload_n hx hb dJ30_putVal_250 rfl (lv_at hl 3 rfl) ?_
                      refine lv_aload hx hb dJ30_putVal_251 (lv_at hl 2 rfl) ?_
                      refine z_callV ⟨hx, hb, hml, hown, hts⟩ hk hl.1 V (wc := []) (wr := ([(m0, ob 6 [.null, .null, .ref T, .null, iV (es.length : Nat), iV mc, iV 12, .float 1061158912]), (T, aN G 16 f)] ++ (nds nx (es.set i9 (e2.1, e2.2.1, e2.2.2.1, va))))) [] ([0, 1] ++ tIx [(m0, ob 6 [.null, .null, .ref T, .null, iV (es.length : Nat), iV mc, iV 12, .float 1061158912]), (T, aN G 16 f)] (nds nx (es.set i9 (e2.1, e2.2.1, e2.2.2.1, va)))) (idxN (w := [(m0, ob 6 [.null, .null, .ref T, .null, iV (es.length : Nat), iV mc, iV 12, .float 1061158912]), (T, aN G 16 f)]) (t := (nds nx (es.set i9 (e2.1, e2.2.1, e2.2.2.1, va)))) (wC := []) (is := []) rfl) (idxT (w := [(m0, ob 6 [.null, .null, .ref T, .null, iV (es.length : Nat), iV mc, iV 12, .float 1061158912]), (T, aN G 16 f)]) (t := (nds nx (es.set i9 (e2.1, e2.2.1, e2.2.2.1, va)))) (wC := [(m0, ob 6 [.null, .null, .ref T, .null, iV (es.length : Nat), iV mc, iV 12, .float 1061158912]), (T, aN G 16 f)]) (is := [0, 1]) rfl) rfl (ndT (w := [(m0, ob 6 [.null, .null, .ref T, .null, iV (es.length : Nat), iV mc, iV 12, .float 1061158912]), (T, aN G 16 f)]) (t := (nds nx (es.set i9 (e2.1, e2.2.1, e2.2.2.1, va)))) (wC := [(m0, ob 6 [.null, .null, .ref T, .null, iV (es.length : Nat), iV mc, iV 12, .float 1061158912]), (T, aN G 16 f)]) (is := [0, 1]) rfl rfl) (disT2 (w := [(m0, ob 6 [.null, .null, .ref T, .null, iV (es.length : Nat), iV mc, iV 12, .float 1061158912]), (T, aN G 16 f)]) (t := (nds nx (es.set i9 (e2.1, e2.2.1, e2.2.2.1, va)))) (wC := []) (isC := []) rfl (by decide)) (As := [.ref e2.1]) (rest := []) (fun hp => ct_HM_ana l G m0 e2.1 hp) (cwV 1 hts (lw_V q2376 q2377 q2378 q121 q2379) rfl rfl rfl (by decide +kernel) ⟨Nat.le_of_ble_eq_true rfl, Nat.le_of_ble_eq_true rfl⟩) (z_rc hk (V.w 0 rfl) (q := (RJ30, TJ30, 8)) rfl) rfl rfl (Nat.le_of_ble_eq_true rfl) dJ30_putVal_253 ⟨Nat.le_of_ble_eq_true rfl, Nat.le_of_ble_eq_true rfl⟩ (fun v F1 w1 H locs hq hle hou V => ?_)
                      obtain ⟨rfl, rfl, rfl⟩ := hq
                      have V := VV.rot1 V
                      refine W.eq (g2 := F0 m 256 ls []) rfl ?_
                      have V : VV G _ _ F ([(m0, ob 6 [.null, .null, .ref T, .null, iV (es.length : Nat), iV mc, iV 12, .float 1061158912]), (T, aN G 16 f)] ++ (nds nx (es.set i9 (e2.1, e2.2.1, e2.2.2.1, va)))) _ _ _ := V
                      refine lv_aload hx hb dJ30_putVal_256 (lv_at hl 0 rfl) ?_
                      have V := V.sub (w1 := ([(m0, ob 6 [.null, .null, .ref T, .null, iV (es.length : Nat), iV mc, iV 12, .float 1061158912]), (T, aN G 16 f)] ++ (nds nx (es.set i9 (e2.1, e2.2.1, e2.2.2.1, va))))) ([0, 1] ++ tIx [(m0, ob 6 [.null, .null, .ref T, .null, iV (es.length : Nat), iV mc, iV 12, .float 1061158912]), (T, aN G 16 f)] (nds nx (es.set i9 (e2.1, e2.2.1, e2.2.2.1, va)))) (ndT (w := [(m0, ob 6 [.null, .null, .ref T, .null, iV (es.length : Nat), iV mc, iV 12, .float 1061158912]), (T, aN G 16 f)]) (t := (nds nx (es.set i9 (e2.1, e2.2.1, e2.2.2.1, va)))) (wC := [(m0, ob 6 [.null, .null, .ref T, .null, iV (es.length : Nat), iV mc, iV 12, .float 1061158912]), (T, aN G 16 f)]) (is := [0, 1]) rfl rfl) (idxT (w := [(m0, ob 6 [.null, .null, .ref T, .null, iV (es.length : Nat), iV mc, iV 12, .float 1061158912]), (T, aN G 16 f)]) (t := (nds nx (es.set i9 (e2.1, e2.2.1, e2.2.2.1, va)))) (wC := [(m0, ob 6 [.null, .null, .ref T, .null, iV (es.length : Nat), iV mc, iV 12, .float 1061158912]), (T, aN G 16 f)]) (is := [0, 1]) rfl)
                      exact z_aret hx hb hr hlk V (Or.inl ⟨_, rfl⟩) (Or.inr ⟨_, rfl⟩) dJ30_putVal_258 ⟨rfl, Or.inl ⟨i9, e2, hi9, hee_e2, rfl, Or.inr ⟨T, f, nx, mc, HMo.upd hO hi9 va, by rw [List.length_set]⟩⟩⟩ ⟨Nat.le_of_ble_eq_true rfl, Nat.le_of_ble_eq_true rfl⟩
                    · skip
                      refine lv_aload_n hx hb dJ30_putVal_196 rfl (lv_at hl 4 rfl) ?_
                      refine lv_ifnull hx hb dJ30_putVal_197 ?_
                      refine lv_aload_n hx hb dJ30_putVal_200 rfl (lv_at hl 4 rfl) ?_
                      refine lv_aload hx hb dJ30_putVal_201 (lv_at hl 0 rfl) ?_
                      obtain ⟨v9, h9, z9, hF9, hB9, hrel9, hat9, hbf9⟩ := SH.at h V
                      refine z_callU ⟨hx, hb, hml, hown, hts⟩ hk hl.1 V (wc := []) (wr := ([(m0, ob 6 [.null, .null, .ref T, .null, iV (es.length : Nat), iV mc, iV 12, .float 1061158912]), (T, aN G 16 f)] ++ (nds nx es))) [] ([0, 1] ++ tIx [(m0, ob 6 [.null, .null, .ref T, .null, iV (es.length : Nat), iV mc, iV 12, .float 1061158912]), (T, aN G 16 f)] (nds nx es)) (idxN (w := [(m0, ob 6 [.null, .null, .ref T, .null, iV (es.length : Nat), iV mc, iV 12, .float 1061158912]), (T, aN G 16 f)]) (t := (nds nx es)) (wC := []) (is := []) rfl) (idxT (w := [(m0, ob 6 [.null, .null, .ref T, .null, iV (es.length : Nat), iV mc, iV 12, .float 1061158912]), (T, aN G 16 f)]) (t := (nds nx es)) (wC := [(m0, ob 6 [.null, .null, .ref T, .null, iV (es.length : Nat), iV mc, iV 12, .float 1061158912]), (T, aN G 16 f)]) (is := [0, 1]) rfl) rfl (ndT (w := [(m0, ob 6 [.null, .null, .ref T, .null, iV (es.length : Nat), iV mc, iV 12, .float 1061158912]), (T, aN G 16 f)]) (t := (nds nx es)) (wC := [(m0, ob 6 [.null, .null, .ref T, .null, iV (es.length : Nat), iV mc, iV 12, .float 1061158912]), (T, aN G 16 f)]) (is := [0, 1]) rfl rfl) (disT2 (w := [(m0, ob 6 [.null, .null, .ref T, .null, iV (es.length : Nat), iV mc, iV 12, .float 1061158912]), (T, aN G 16 f)]) (t := (nds nx es)) (wC := []) (isC := []) rfl (by decide)) (As := [.ref e2.2.1]) (rest := []) (fun hp => ct_S_equals l G a e2.2.1 t e2.2.2.1 (Or.inl h) (Or.inl hke_e2) hp) (va_cwO (owner := "java/lang/Object") 1 hts (lw_app (lw_in6 q1918 q1920 q1919 q1955 q1098 q81) (lw_meth q1100)) rfl rfl rfl q1961 (by decide +kernel) ⟨Nat.le_of_ble_eq_true rfl, Nat.le_of_ble_eq_true rfl⟩) (z_rc hk hat9 (q := (RJ6, TJ6, 4)) rfl) rfl rfl (Nat.le_of_ble_eq_true rfl) dJ30_putVal_203 ⟨Nat.le_of_ble_eq_true rfl, Nat.le_of_ble_eq_true rfl⟩ (fun v F1 w1 H locs hq hle hou V => ?_)
                      obtain ⟨rfl, rfl, rfl⟩ := hq
                      have V := VV.rot1 V
                      refine W.eq (g2 := F0 m 206 ls [iV (bZ (decide (t = e2.2.2.1)))]) rfl ?_
                      have V : VV G _ _ F ([(m0, ob 6 [.null, .null, .ref T, .null, iV (es.length : Nat), iV mc, iV 12, .float 1061158912]), (T, aN G 16 f)] ++ (nds nx es)) _ _ _ := V
                      have hn_ei := nd_at V hm_ei (show va_rf (nx ei.1) = .ref e2.1 from (by rw [hx2]; rfl))
                      have hn_e2 := nd_at V hm_e2 (show va_rf (nx e2.1) = va_rf (nx e2.1) from rfl)
                      have hbz : bZ (decide (t = e2.2.2.1)) = 0 ∨ bZ (decide (t = e2.2.2.1)) = 1 := by unfold bZ; split <;> simp
                      refine z_if_eq (tgt := 212) hx hb (by omega) dJ30_putVal_206 (by decide) (fun c206 => ?_) (fun c206 => ?_)
                      · skip
                        have hne_e2 : e2.2.2.1 ≠ t := fun e9 => by rw [decide_eq_true e9.symm] at c206; exact absurd c206 (by decide)
                        refine lv_aload hx hb dJ30_putVal_212 (lv_at hl 1 rfl) ?_
                        refine lv_astore (lv' := [(7, .ref e2.1), (11, .ref e2.2.1), (10, .ref e2.1), (0, .ref m0), (1, iV (hz t)), (2, .ref a), (3, .ref va), (4, iV 0), (5, iV 1), (6, .ref T), (8, iV 16), (9, iV (bk t : Nat)), (12, iV (i : Nat))]) hx hb dJ30_putVal_214 hl (by decide) rfl (fun ls hl => ?_)
                        refine lv_iinc (v := iZ ((i : Nat) + 1)) (lv' := [(12, iV ((i : Nat) + 1)), (7, .ref e2.1), (11, .ref e2.2.1), (10, .ref e2.1), (0, .ref m0), (1, iV (hz t)), (2, .ref a), (3, .ref va), (4, iV 0), (5, iV 1), (6, .ref T), (8, iV 16), (9, iV (bk t : Nat))]) hx hb dJ30_putVal_216 hl (k := 12) rfl (iZ_add _ _) (by decide) rfl (fun ls hl => ?_)
                        have hno2 : ∀ (j : Nat) (e : En), j ≤ i + 1 → (ch es (bk t))[j]? = some e → e.2.2.1 ≠ t := fun j e hj hje => by
                          by_cases hji : j = i + 1
                          · subst hji; rw [hc2] at hje; cases hje; exact hne_e2
                          · exact hno j e (by omega) hje
                        refine lv_goto (tgt := 134) hx hb dJ30_putVal_219 (by decide) ?_
                        exact ih_loop (i + 1) e2 _ _ _ (by omega) hc2 hno2 V (lv_sub hl [4, 5, 6, 7, 8, 9, 10, 1, 11, 12, 0] rfl)
                      · skip
                        have hee_e2 : e2.2.2.1 = t := Classical.byContradiction fun e9 => by rw [decide_eq_false (fun e8 => e9 e8.symm)] at c206; exact c206 rfl
                        obtain ⟨i9, hi9⟩ := List.getElem?_of_mem hm_e2
                        refine lv_goto (tgt := 222) hx hb dJ30_putVal_209 (by decide) ?_
                        refine lv_aload hx hb dJ30_putVal_222 (lv_at hl 1 rfl) ?_
                        refine lv_ifnull hx hb dJ30_putVal_224 ?_
                        refine lv_aload hx hb dJ30_putVal_227 (lv_at hl 1 rfl) ?_
                        refine z_get hx hb hts hk hown K_J33 hn_e2 2 (by decide) q2288 (fun _ h => h) rfl dJ30_putVal_229 ?_
                        refine lv_astore (lv' := [(12, .ref e2.2.2.2), (11, .ref e2.2.1), (10, .ref e2.1), (0, .ref m0), (1, iV (hz t)), (2, .ref a), (3, .ref va), (4, iV 0), (5, iV 1), (6, .ref T), (7, .ref ei.1), (8, iV 16), (9, iV (bk t : Nat))]) hx hb dJ30_putVal_232 hl (by decide) rfl (fun ls hl => ?_)
                        refine lv_iload hx hb dJ30_putVal_234 (lv_at hl 7 rfl) ?_
                        refine z_if_eq (tgt := 244) hx hb (by omega) dJ30_putVal_236 (by decide) (fun c236 => ?_) (fun c236 => by omega)
                        refine lv_aload hx hb dJ30_putVal_244 (lv_at hl 2 rfl) ?_
                        refine lv_aload_n hx hb dJ30_putVal_246 rfl (lv_at hl 6 rfl) ?_
                        refine z_putT (w := [(m0, ob 6 [.null, .null, .ref T, .null, iV (es.length : Nat), iV mc, iV 12, .float 1061158912]), (T, aN G 16 f)]) (t := nds nx es) hx hb hts hk V hown K_J33 i9 (nds_at hi9 rfl) 2 (by decide) q2288 (fun _ h => h) rfl rfl rfl (Nat.le_of_ble_eq_true rfl) dJ30_putVal_247 (fun H locs V => ?_)
                        have V := VV.to (w' := ([(m0, ob 6 [.null, .null, .ref T, .null, iV (es.length : Nat), iV mc, iV 12, .float 1061158912]), (T, aN G 16 f)] ++ (nds nx (es.set i9 (e2.1, e2.2.1, e2.2.2.1, va))))) (congrArg (fun z => [(m0, ob 6 [.null, .null, .ref T, .null, iV (es.length : Nat), iV mc, iV 12, .float 1061158912]), (T, aN G 16 f)] ++ z) (nds_val (nx := nx) h3 hi9 va)) V
                        refine lv_aload_n hx hb dJ30_putVal_250 rfl (lv_at hl 3 rfl) ?_
                        refine lv_aload hx hb dJ30_putVal_251 (lv_at hl 2 rfl) ?_
                        refine z_callV ⟨hx, hb, hml, hown, hts⟩ hk hl.1 V (wc := []) (wr := ([(m0, ob 6 [.null, .null, .ref T, .null, iV (es.length : Nat), iV mc, iV 12, .float 1061158912]), (T, aN G 16 f)] ++ (nds nx (es.set i9 (e2.1, e2.2.1, e2.2.2.1, va))))) [] ([0, 1] ++ tIx [(m0, ob 6 [.null, .null, .ref T, .null, iV (es.length : Nat), iV mc, iV 12, .float 1061158912]), (T, aN G 16 f)] (nds nx (es.set i9 (e2.1, e2.2.1, e2.2.2.1, va)))) (idxN (w := [(m0, ob 6 [.null, .null, .ref T, .null, iV (es.length : Nat), iV mc, iV 12, .float 1061158912]), (T, aN G 16 f)]) (t := (nds nx (es.set i9 (e2.1, e2.2.1, e2.2.2.1, va)))) (wC := []) (is := []) rfl) (idxT (w := [(m0, ob 6 [.null, .null, .ref T, .null, iV (es.length : Nat), iV mc, iV 12, .float 1061158912]), (T, aN G 16 f)]) (t := (nds nx (es.set i9 (e2.1, e2.2.1, e2.2.2.1, va)))) (wC := [(m0, ob 6 [.null, .null, .ref T, .null, iV (es.length : Nat), iV mc, iV 12, .float 1061158912]), (T, aN G 16 f)]) (is := [0, 1]) rfl) rfl (ndT (w := [(m0, ob 6 [.null, .null, .ref T, .null, iV (es.length : Nat), iV mc, iV 12, .float 1061158912]), (T, aN G 16 f)]) (t := (nds nx (es.set i9 (e2.1, e2.2.1, e2.2.2.1, va)))) (wC := [(m0, ob 6 [.null, .null, .ref T, .null, iV (es.length : Nat), iV mc, iV 12, .float 1061158912]), (T, aN G 16 f)]) (is := [0, 1]) rfl rfl) (disT2 (w := [(m0, ob 6 [.null, .null, .ref T, .null, iV (es.length : Nat), iV mc, iV 12, .float 1061158912]), (T, aN G 16 f)]) (t := (nds nx (es.set i9 (e2.1, e2.2.1, e2.2.2.1, va)))) (wC := []) (isC := []) rfl (by decide)) (As := [.ref e2.1]) (rest := []) (fun hp => ct_HM_ana l G m0 e2.1 hp) (cwV 1 hts (lw_V q2376 q2377 q2378 q121 q2379) rfl rfl rfl (by decide +kernel) ⟨Nat.le_of_ble_eq_true rfl, Nat.le_of_ble_eq_true rfl⟩) (z_rc hk (V.w 0 rfl) (q := (RJ30, TJ30, 8)) rfl) rfl rfl (Nat.le_of_ble_eq_true rfl) dJ30_putVal_253 ⟨Nat.le_of_ble_eq_true rfl, Nat.le_of_ble_eq_true rfl⟩ (fun v F1 w1 H locs hq hle hou V => ?_)
                        obtain ⟨rfl, rfl, rfl⟩ := hq
                        have V := VV.rot1 V
                        refine W.eq (g2 := F0 m 256 ls []) rfl ?_
                        have V : VV G _ _ F ([(m0, ob 6 [.null, .null, .ref T, .null, iV (es.length : Nat), iV mc, iV 12, .float 1061158912]), (T, aN G 16 f)] ++ (nds nx (es.set i9 (e2.1, e2.2.1, e2.2.2.1, va)))) _ _ _ := V
                        refine lv_aload hx hb dJ30_putVal_256 (lv_at hl 0 rfl) ?_
                        have V := V.sub (w1 := ([(m0, ob 6 [.null, .null, .ref T, .null, iV (es.length : Nat), iV mc, iV 12, .float 1061158912]), (T, aN G 16 f)] ++ (nds nx (es.set i9 (e2.1, e2.2.1, e2.2.2.1, va))))) ([0, 1] ++ tIx [(m0, ob 6 [.null, .null, .ref T, .null, iV (es.length : Nat), iV mc, iV 12, .float 1061158912]), (T, aN G 16 f)] (nds nx (es.set i9 (e2.1, e2.2.1, e2.2.2.1, va)))) (ndT (w := [(m0, ob 6 [.null, .null, .ref T, .null, iV (es.length : Nat), iV mc, iV 12, .float 1061158912]), (T, aN G 16 f)]) (t := (nds nx (es.set i9 (e2.1, e2.2.1, e2.2.2.1, va)))) (wC := [(m0, ob 6 [.null, .null, .ref T, .null, iV (es.length : Nat), iV mc, iV 12, .float 1061158912]), (T, aN G 16 f)]) (is := [0, 1]) rfl rfl) (idxT (w := [(m0, ob 6 [.null, .null, .ref T, .null, iV (es.length : Nat), iV mc, iV 12, .float 1061158912]), (T, aN G 16 f)]) (t := (nds nx (es.set i9 (e2.1, e2.2.1, e2.2.2.1, va)))) (wC := [(m0, ob 6 [.null, .null, .ref T, .null, iV (es.length : Nat), iV mc, iV 12, .float 1061158912]), (T, aN G 16 f)]) (is := [0, 1]) rfl)
                        exact z_aret hx hb hr hlk V (Or.inl ⟨_, rfl⟩) (Or.inr ⟨_, rfl⟩) dJ30_putVal_258 ⟨rfl, Or.inl ⟨i9, e2, hi9, hee_e2, rfl, Or.inr ⟨T, f, nx, mc, HMo.upd hO hi9 va, by rw [List.length_set]⟩⟩⟩ ⟨Nat.le_of_ble_eq_true rfl, Nat.le_of_ble_eq_true rfl⟩
            exact loop _ 0 e0 _ _ _ (Nat.lt_succ_self _) hc0 (fun j e hj hje => by
              have hj0 : j = 0 := by omega
              subst hj0
              rw [hc0] at hje
              cases hje
              exact hne_e0) V (lv_sub hl [6, 7, 8, 9, 10, 11, 5, 2, 4, 3, 0] rfl)
          · skip
            have hee_e0 : e0.2.2.1 = t := Classical.byContradiction fun e9 => by rw [decide_eq_false (fun e8 => e9 e8.symm)] at c94; exact c94 rfl
            obtain ⟨i9, hi9⟩ := List.getElem?_of_mem hm_e0
            refine lv_aload hx hb dJ30_putVal_97 (lv_at hl 1 rfl) ?_
            refine lv_astore (lv' := [(10, .ref e0.1), (11, .ref e0.2.1), (7, .ref e0.1), (9, iV (bk t : Nat)), (8, iV 16), (6, .ref T), (0, .ref m0), (1, iV (hz t)), (2, .ref a), (3, .ref va), (4, iV 0), (5, iV 1)]) hx hb dJ30_putVal_99 hl (by decide) rfl (fun ls hl => ?_)
            refine lv_goto (tgt := 222) hx hb dJ30_putVal_101 (by decide) ?_
            refine lv_aload hx hb dJ30_putVal_222 (lv_at hl 0 rfl) ?_
            refine lv_ifnull hx hb dJ30_putVal_224 ?_
            refine lv_aload hx hb dJ30_putVal_227 (lv_at hl 0 rfl) ?_
            refine z_get hx hb hts hk hown K_J33 hn_e0 2 (by decide) q2288 (fun _ h => h) rfl dJ30_putVal_229 ?_
            refine lv_astore (lv' := [(12, .ref e0.2.2.2), (10, .ref e0.1), (11, .ref e0.2.1), (7, .ref e0.1), (9, iV (bk t : Nat)), (8, iV 16), (6, .ref T), (0, .ref m0), (1, iV (hz t)), (2, .ref a), (3, .ref va), (4, iV 0), (5, iV 1)]) hx hb dJ30_putVal_232 hl (by decide) rfl (fun ls hl => ?_)
            refine lv_iload hx hb dJ30_putVal_234 (lv_at hl 11 rfl) ?_
            refine z_if_eq (tgt := 244) hx hb (by omega) dJ30_putVal_236 (by decide) (fun c236 => ?_) (fun c236 => by omega)
            refine lv_aload hx hb dJ30_putVal_244 (lv_at hl 1 rfl) ?_
            refine lv_aload_n hx hb dJ30_putVal_246 rfl (lv_at hl 10 rfl) ?_
            refine z_putT (w := [(m0, ob 6 [.null, .null, .ref T, .null, iV (es.length : Nat), iV mc, iV 12, .float 1061158912]), (T, aN G 16 f)]) (t := nds nx es) hx hb hts hk V hown K_J33 i9 (nds_at hi9 rfl) 2 (by decide) q2288 (fun _ h => h) rfl rfl rfl (Nat.le_of_ble_eq_true rfl) dJ30_putVal_247 (fun H locs V => ?_)
            have V := VV.to (w' := ([(m0, ob 6 [.null, .null, .ref T, .null, iV (es.length : Nat), iV mc, iV 12, .float 1061158912]), (T, aN G 16 f)] ++ (nds nx (es.set i9 (e0.1, e0.2.1, e0.2.2.1, va))))) (congrArg (fun z => [(m0, ob 6 [.null, .null, .ref T, .null, iV (es.length : Nat), iV mc, iV 12, .float 1061158912]), (T, aN G 16 f)] ++ z) (nds_val (nx := nx) h3 hi9 va)) V
            refine lv_aload_n hx hb dJ30_putVal_250 rfl (lv_at hl 7 rfl) ?_
            refine lv_aload hx hb dJ30_putVal_251 (lv_at hl 1 rfl) ?_
            refine z_callV ⟨hx, hb, hml, hown, hts⟩ hk hl.1 V (wc := []) (wr := ([(m0, ob 6 [.null, .null, .ref T, .null, iV (es.length : Nat), iV mc, iV 12, .float 1061158912]), (T, aN G 16 f)] ++ (nds nx (es.set i9 (e0.1, e0.2.1, e0.2.2.1, va))))) [] ([0, 1] ++ tIx [(m0, ob 6 [.null, .null, .ref T, .null, iV (es.length : Nat), iV mc, iV 12, .float 1061158912]), (T, aN G 16 f)] (nds nx (es.set i9 (e0.1, e0.2.1, e0.2.2.1, va)))) (idxN (w := [(m0, ob 6 [.null, .null, .ref T, .null, iV (es.length : Nat), iV mc, iV 12, .float 1061158912]), (T, aN G 16 f)]) (t := (nds nx (es.set i9 (e0.1, e0.2.1, e0.2.2.1, va)))) (wC := []) (is := []) rfl) (idxT (w := [(m0, ob 6 [.null, .null, .ref T, .null, iV (es.length : Nat), iV mc, iV 12, .float 1061158912]), (T, aN G 16 f)]) (t := (nds nx (es.set i9 (e0.1, e0.2.1, e0.2.2.1, va)))) (wC := [(m0, ob 6 [.null, .null, .ref T, .null, iV (es.length : Nat), iV mc, iV 12, .float 1061158912]), (T, aN G 16 f)]) (is := [0, 1]) rfl) rfl (ndT (w := [(m0, ob 6 [.null, .null, .ref T, .null, iV (es.length : Nat), iV mc, iV 12, .float 1061158912]), (T, aN G 16 f)]) (t := (nds nx (es.set i9 (e0.1, e0.2.1, e0.2.2.1, va)))) (wC := [(m0, ob 6 [.null, .null, .ref T, .null, iV (es.length : Nat), iV mc, iV 12, .float 1061158912]), (T, aN G 16 f)]) (is := [0, 1]) rfl rfl) (disT2 (w := [(m0, ob 6 [.null, .null, .ref T, .null, iV (es.length : Nat), iV mc, iV 12, .float 1061158912]), (T, aN G 16 f)]) (t := (nds nx (es.set i9 (e0.1, e0.2.1, e0.2.2.1, va)))) (wC := []) (isC := []) rfl (by decide)) (As := [.ref e0.1]) (rest := []) (fun hp => ct_HM_ana l G m0 e0.1 hp) (cwV 1 hts (lw_V q2376 q2377 q2378 q121 q2379) rfl rfl rfl (by decide +kernel) ⟨Nat.le_of_ble_eq_true rfl, Nat.le_of_ble_eq_true rfl⟩) (z_rc hk (V.w 0 rfl) (q := (RJ30, TJ30, 8)) rfl) rfl rfl (Nat.le_of_ble_eq_true rfl) dJ30_putVal_253 ⟨Nat.le_of_ble_eq_true rfl, Nat.le_of_ble_eq_true rfl⟩ (fun v F1 w1 H locs hq hle hou V => ?_)
            obtain ⟨rfl, rfl, rfl⟩ := hq
            have V := VV.rot1 V
            refine W.eq (g2 := F0 m 256 ls []) rfl ?_
            have V : VV G _ _ F ([(m0, ob 6 [.null, .null, .ref T, .null, iV (es.length : Nat), iV mc, iV 12, .float 1061158912]), (T, aN G 16 f)] ++ (nds nx (es.set i9 (e0.1, e0.2.1, e0.2.2.1, va)))) _ _ _ := V
            refine lv_aload hx hb dJ30_putVal_256 (lv_at hl 0 rfl) ?_
            have V := V.sub (w1 := ([(m0, ob 6 [.null, .null, .ref T, .null, iV (es.length : Nat), iV mc, iV 12, .float 1061158912]), (T, aN G 16 f)] ++ (nds nx (es.set i9 (e0.1, e0.2.1, e0.2.2.1, va))))) ([0, 1] ++ tIx [(m0, ob 6 [.null, .null, .ref T, .null, iV (es.length : Nat), iV mc, iV 12, .float 1061158912]), (T, aN G 16 f)] (nds nx (es.set i9 (e0.1, e0.2.1, e0.2.2.1, va)))) (ndT (w := [(m0, ob 6 [.null, .null, .ref T, .null, iV (es.length : Nat), iV mc, iV 12, .float 1061158912]), (T, aN G 16 f)]) (t := (nds nx (es.set i9 (e0.1, e0.2.1, e0.2.2.1, va)))) (wC := [(m0, ob 6 [.null, .null, .ref T, .null, iV (es.length : Nat), iV mc, iV 12, .float 1061158912]), (T, aN G 16 f)]) (is := [0, 1]) rfl rfl) (idxT (w := [(m0, ob 6 [.null, .null, .ref T, .null, iV (es.length : Nat), iV mc, iV 12, .float 1061158912]), (T, aN G 16 f)]) (t := (nds nx (es.set i9 (e0.1, e0.2.1, e0.2.2.1, va)))) (wC := [(m0, ob 6 [.null, .null, .ref T, .null, iV (es.length : Nat), iV mc, iV 12, .float 1061158912]), (T, aN G 16 f)]) (is := [0, 1]) rfl)
            exact z_aret hx hb hr hlk V (Or.inl ⟨_, rfl⟩) (Or.inr ⟨_, rfl⟩) dJ30_putVal_258 ⟨rfl, Or.inl ⟨i9, e0, hi9, hee_e0, rfl, Or.inr ⟨T, f, nx, mc, HMo.upd hO hi9 va, by rw [List.length_set]⟩⟩⟩ ⟨Nat.le_of_ble_eq_true rfl, Nat.le_of_ble_eq_true rfl⟩
  · skip
    have hO := ho
    obtain ⟨h1, h2, h3, h4, h5, h6⟩ := ho
    have hbt := bk_lt t
    have hzt := hz_B t
    have h5t := h5 (bk t) hbt
    refine lv_aload_n hx hb dJ30_putVal_0 rfl (lv_at hl 0 rfl) ?_
    refine z_get hx hb hts hk hown K_J30 (V.w 0 rfl) 2 (by decide) q1775 (fun _ h => h) rfl dJ30_putVal_1 ?_
    refine lv_dup hx hb dJ30_putVal_4 rfl ?_
    refine lv_astore (lv' := [(6, .ref T), (0, .ref m0), (1, iV (hz t)), (2, .ref a), (3, .ref va), (4, iV 0), (5, iV 1)]) hx hb dJ30_putVal_5 hl (by decide) rfl (fun ls hl => ?_)
    refine lv_ifnull hx hb dJ30_putVal_7 ?_
    refine lv_aload hx hb dJ30_putVal_10 (lv_at hl 0 rfl) ?_
    refine z_nlen hx hb hk (V.w 1 rfl) dJ30_putVal_12 ?_
    refine lv_dup hx hb dJ30_putVal_13 rfl ?_
    refine lv_istore (lv' := [(8, iV 16), (6, .ref T), (0, .ref m0), (1, iV (hz t)), (2, .ref a), (3, .ref va), (4, iV 0), (5, iV 1)]) hx hb dJ30_putVal_14 hl (by decide) rfl (fun ls hl => ?_)
    refine z_if_ne (tgt := 29) hx hb (by omega) dJ30_putVal_16 (by decide) (fun c16 => ?_) (fun c16 => by omega)
    refine lv_aload hx hb dJ30_putVal_29 (lv_at hl 1 rfl) ?_
    refine lv_iload hx hb dJ30_putVal_31 (lv_at hl 0 rfl) ?_
    refine lv_iconst (v := iZ 1) hx hb dJ30_putVal_33 rfl ?_
    refine z_isub hx hb dJ30_putVal_34 ?_
    refine lv_iload_n hx hb dJ30_putVal_35 rfl (lv_at hl 3 rfl) ?_
    refine W.eq (g2 := F0 m 36 ls [iV (hz t), iV 15, .ref T]) rfl ?_
    refine z_bk hx hb dJ30_putVal_36 ?_
    refine lv_dup hx hb dJ30_putVal_37 rfl ?_
    refine lv_istore (lv' := [(9, iV (bk t : Nat)), (8, iV 16), (6, .ref T), (0, .ref m0), (1, iV (hz t)), (2, .ref a), (3, .ref va), (4, iV 0), (5, iV 1)]) hx hb dJ30_putVal_38 hl (by decide) rfl (fun ls hl => ?_)
    cases hc0 : (ch es (bk t))[0]? with
    | none =>
      have hch : cha es (bk t) = [] := by unfold cha; have := List.getElem?_eq_none_iff.mp hc0; rw [List.length_eq_zero_iff.mp (show (ch es (bk t)).length = 0 by omega)]; rfl
      have e0 : f (bk t) = none := by rw [h5t, hch]; rfl
      have hE : fnd es t = none := fnd_none (fun i e hi => by have hl0 := List.getElem?_eq_none_iff.mp hc0; rw [List.getElem?_eq_none (by omega)] at hi; cases hi)
      refine z_nald (v := .null) hx hb hk (V.w 1 rfl) (bk t) (by omega) dJ30_putVal_40 (by rw [e0]; rfl) ?_
      refine lv_dup hx hb dJ30_putVal_41 rfl ?_
      refine lv_astoreN (lv' := [(7, .null), (9, iV (bk t : Nat)), (8, iV 16), (6, .ref T), (0, .ref m0), (1, iV (hz t)), (2, .ref a), (3, .ref va), (4, iV 0), (5, iV 1)]) hx hb dJ30_putVal_42 hl (by decide) rfl (fun ls hl => ?_)
      refine lv_ifnonnullN hx hb dJ30_putVal_44 ?_
      refine lv_aload hx hb dJ30_putVal_47 (lv_at hl 3 rfl) ?_
      refine lv_iload hx hb dJ30_putVal_49 (lv_at hl 1 rfl) ?_
      refine lv_aload_n hx hb dJ30_putVal_51 rfl (lv_at hl 4 rfl) ?_
      refine lv_iload_n hx hb dJ30_putVal_52 rfl (lv_at hl 5 rfl) ?_
      refine lv_aload_n hx hb dJ30_putVal_53 rfl (lv_at hl 6 rfl) ?_
      refine lv_aload_n hx hb dJ30_putVal_54 rfl (lv_at hl 7 rfl) ?_
      refine lv_null hx hb dJ30_putVal_55 ?_
      refine z_callV ⟨hx, hb, hml, hown, hts⟩ hk hl.1 V (wc := []) (wr := ([(m0, ob 6 [.null, .null, .ref T, .null, iV (es.length : Nat), iV mc, iV 12, .float 1061158912]), (T, aN G 16 f)] ++ (nds nx es))) [] ([0, 1] ++ tIx [(m0, ob 6 [.null, .null, .ref T, .null, iV (es.length : Nat), iV mc, iV 12, .float 1061158912]), (T, aN G 16 f)] (nds nx es)) (idxN (w := [(m0, ob 6 [.null, .null, .ref T, .null, iV (es.length : Nat), iV mc, iV 12, .float 1061158912]), (T, aN G 16 f)]) (t := (nds nx es)) (wC := []) (is := []) rfl) (idxT (w := [(m0, ob 6 [.null, .null, .ref T, .null, iV (es.length : Nat), iV mc, iV 12, .float 1061158912]), (T, aN G 16 f)]) (t := (nds nx es)) (wC := [(m0, ob 6 [.null, .null, .ref T, .null, iV (es.length : Nat), iV mc, iV 12, .float 1061158912]), (T, aN G 16 f)]) (is := [0, 1]) rfl) rfl (ndT (w := [(m0, ob 6 [.null, .null, .ref T, .null, iV (es.length : Nat), iV mc, iV 12, .float 1061158912]), (T, aN G 16 f)]) (t := (nds nx es)) (wC := [(m0, ob 6 [.null, .null, .ref T, .null, iV (es.length : Nat), iV mc, iV 12, .float 1061158912]), (T, aN G 16 f)]) (is := [0, 1]) rfl rfl) (disT2 (w := [(m0, ob 6 [.null, .null, .ref T, .null, iV (es.length : Nat), iV mc, iV 12, .float 1061158912]), (T, aN G 16 f)]) (t := (nds nx es)) (wC := []) (isC := []) rfl (by decide)) (As := [iV (hz t), .ref a, .ref va, .null]) (rest := [iV (bk t : Nat), .ref T]) (fun hp => ct_HM_newNode l G m0 a va (hz t) hp) (cwV 4 hts (lw_V q2322 q2323 q2324 q121 q2325) rfl rfl rfl (by decide +kernel) ⟨Nat.le_of_ble_eq_true rfl, Nat.le_of_ble_eq_true rfl⟩) (z_rc hk (V.w 0 rfl) (q := (RJ30, TJ30, 8)) rfl) rfl rfl (Nat.le_of_ble_eq_true rfl) dJ30_putVal_56 ⟨Nat.le_of_ble_eq_true rfl, Nat.le_of_ble_eq_true rfl⟩ (fun v F1 w1 H locs hq hle hou V => ?_)
      obtain ⟨n, rfl, rfl, rfl⟩ := hq
      have V := VV.rot1 V
      refine W.eq (g2 := F0 m 59 ls [.ref n, iV (bk t : Nat), .ref T]) rfl ?_
      have V : VV G _ _ F ([(m0, ob 6 [.null, .null, .ref T, .null, iV (es.length : Nat), iV mc, iV 12, .float 1061158912]), (T, aN G 16 f), (n, ob 7 [iV (hz t), .ref a, .ref va, .null])] ++ (nds nx es)) _ _ _ := V
      have hfr : n ∉ es.map (fun e => e.1) := fresh_of (w := [(m0, ob 6 [.null, .null, .ref T, .null, iV (es.length : Nat), iV mc, iV 12, .float 1061158912]), (T, aN G 16 f), (n, ob 7 [iV (hz t), .ref a, .ref va, .null])]) V 2 rfl
      refine z_nast hx hb hk V 1 rfl (bk t) (by omega) (z_anyN hk (V.w 2 rfl)) dJ30_putVal_59 (fun H locs V => ?_)
      have V : VV G _ _ F ([(m0, ob 6 [.null, .null, .ref T, .null, iV (es.length : Nat), iV mc, iV 12, .float 1061158912]), (T, aN G 16 (va_up f (bk t) (some n))), (n, ob 7 [iV (hz t), .ref a, .ref va, .null])] ++ (nds nx es)) _ _ _ := V
      refine lv_goto (tgt := 259) hx hb dJ30_putVal_60 (by decide) ?_
      refine lv_aload_n hx hb dJ30_putVal_259 rfl (lv_at hl 4 rfl) ?_
      refine lv_dup hx hb dJ30_putVal_260 rfl ?_
      refine z_get hx hb hts hk hown K_J30 (V.w 0 rfl) 5 (by decide) q1777 (fun _ h => h) rfl dJ30_putVal_261 ?_
      refine lv_iconst (v := iZ 1) hx hb dJ30_putVal_264 rfl ?_
      refine z_iadd hx hb dJ30_putVal_265 ?_
      refine z_put hx hb hts hk V hown K_J30 0 rfl 5 (by decide) q1777 (fun _ h => h) rfl rfl rfl (Nat.le_of_ble_eq_true rfl) dJ30_putVal_266 (fun H locs V => ?_)
      have V : VV G _ _ F ([(m0, ob 6 [.null, .null, .ref T, .null, iV (es.length : Nat), iV (mc + 1), iV 12, .float 1061158912]), (T, aN G 16 (va_up f (bk t) (some n))), (n, ob 7 [iV (hz t), .ref a, .ref va, .null])] ++ (nds nx es)) _ _ _ := V
      refine lv_aload_n hx hb dJ30_putVal_269 rfl (lv_at hl 4 rfl) ?_
      refine lv_dup hx hb dJ30_putVal_270 rfl ?_
      refine z_get hx hb hts hk hown K_J30 (V.w 0 rfl) 4 (by decide) q1776 (fun _ h => h) rfl dJ30_putVal_271 ?_
      refine lv_iconst (v := iZ 1) hx hb dJ30_putVal_274 rfl ?_
      refine z_iadd hx hb dJ30_putVal_275 ?_
      refine lv_dup_x1 hx hb dJ30_putVal_276 rfl rfl ?_
      refine z_put hx hb hts hk V hown K_J30 0 rfl 4 (by decide) q1776 (fun _ h => h) rfl rfl rfl (Nat.le_of_ble_eq_true rfl) dJ30_putVal_277 (fun H locs V => ?_)
      have V : VV G _ _ F ([(m0, ob 6 [.null, .null, .ref T, .null, iV ((es.length : Nat) + 1), iV (mc + 1), iV 12, .float 1061158912]), (T, aN G 16 (va_up f (bk t) (some n))), (n, ob 7 [iV (hz t), .ref a, .ref va, .null])] ++ (nds nx es)) _ _ _ := V
      refine lv_aload_n hx hb dJ30_putVal_280 rfl (lv_at hl 4 rfl) ?_
      refine z_get hx hb hts hk hown K_J30 (V.w 0 rfl) 6 (by decide) q1778 (fun _ h => h) rfl dJ30_putVal_281 ?_
      refine z_icmp_le (tgt := 292) hx hb (by omega) dJ30_putVal_284 (by decide) (fun c284 => ?_) (fun c284 => by omega)
      refine lv_aload_n hx hb dJ30_putVal_292 rfl (lv_at hl 4 rfl) ?_
      refine lv_iload hx hb dJ30_putVal_293 (lv_at hl 9 rfl) ?_
      refine z_callV ⟨hx, hb, hml, hown, hts⟩ hk hl.1 V (wc := []) (wr := ([(m0, ob 6 [.null, .null, .ref T, .null, iV ((es.length : Nat) + 1), iV (mc + 1), iV 12, .float 1061158912]), (T, aN G 16 (va_up f (bk t) (some n))), (n, ob 7 [iV (hz t), .ref a, .ref va, .null])] ++ (nds nx es))) [] ([0, 1, 2] ++ tIx [(m0, ob 6 [.null, .null, .ref T, .null, iV ((es.length : Nat) + 1), iV (mc + 1), iV 12, .float 1061158912]), (T, aN G 16 (va_up f (bk t) (some n))), (n, ob 7 [iV (hz t), .ref a, .ref va, .null])] (nds nx es)) (idxN (w := [(m0, ob 6 [.null, .null, .ref T, .null, iV ((es.length : Nat) + 1), iV (mc + 1), iV 12, .float 1061158912]), (T, aN G 16 (va_up f (bk t) (some n))), (n, ob 7 [iV (hz t), .ref a, .ref va, .null])]) (t := (nds nx es)) (wC := []) (is := []) rfl) (idxT (w := [(m0, ob 6 [.null, .null, .ref T, .null, iV ((es.length : Nat) + 1), iV (mc + 1), iV 12, .float 1061158912]), (T, aN G 16 (va_up f (bk t) (some n))), (n, ob 7 [iV (hz t), .ref a, .ref va, .null])]) (t := (nds nx es)) (wC := [(m0, ob 6 [.null, .null, .ref T, .null, iV ((es.length : Nat) + 1), iV (mc + 1), iV 12, .float 1061158912]), (T, aN G 16 (va_up f (bk t) (some n))), (n, ob 7 [iV (hz t), .ref a, .ref va, .null])]) (is := [0, 1, 2]) rfl) rfl (ndT (w := [(m0, ob 6 [.null, .null, .ref T, .null, iV ((es.length : Nat) + 1), iV (mc + 1), iV 12, .float 1061158912]), (T, aN G 16 (va_up f (bk t) (some n))), (n, ob 7 [iV (hz t), .ref a, .ref va, .null])]) (t := (nds nx es)) (wC := [(m0, ob 6 [.null, .null, .ref T, .null, iV ((es.length : Nat) + 1), iV (mc + 1), iV 12, .float 1061158912]), (T, aN G 16 (va_up f (bk t) (some n))), (n, ob 7 [iV (hz t), .ref a, .ref va, .null])]) (is := [0, 1, 2]) rfl rfl) (disT2 (w := [(m0, ob 6 [.null, .null, .ref T, .null, iV ((es.length : Nat) + 1), iV (mc + 1), iV 12, .float 1061158912]), (T, aN G 16 (va_up f (bk t) (some n))), (n, ob 7 [iV (hz t), .ref a, .ref va, .null])]) (t := (nds nx es)) (wC := []) (isC := []) rfl (by decide)) (As := [iV 1]) (rest := []) (fun hp => ct_HM_ani l G m0 hp) (cwV 1 hts (lw_V q2380 q2381 q2382 q121 q2383) rfl rfl rfl (by decide +kernel) ⟨Nat.le_of_ble_eq_true rfl, Nat.le_of_ble_eq_true rfl⟩) (z_rc hk (V.w 0 rfl) (q := (RJ30, TJ30, 8)) rfl) rfl rfl (Nat.le_of_ble_eq_true rfl) dJ30_putVal_295 ⟨Nat.le_of_ble_eq_true rfl, Nat.le_of_ble_eq_true rfl⟩ (fun v F1 w1 H locs hq hle hou V => ?_)
      obtain ⟨rfl, rfl, rfl⟩ := hq
      have V := VV.rot1 V
      refine W.eq (g2 := F0 m 298 ls []) rfl ?_
      have V : VV G _ _ F ([(m0, ob 6 [.null, .null, .ref T, .null, iV ((es.length : Nat) + 1), iV (mc + 1), iV 12, .float 1061158912]), (T, aN G 16 (va_up f (bk t) (some n))), (n, ob 7 [iV (hz t), .ref a, .ref va, .null])] ++ (nds nx es)) _ _ _ := V
      refine lv_null hx hb dJ30_putVal_298 ?_
      have V := V.sub (w1 := ([(m0, ob 6 [.null, .null, .ref T, .null, iV ((es.length : Nat) + 1), iV (mc + 1), iV 12, .float 1061158912]), (T, aN G 16 (va_up f (bk t) (some n))), (n, ob 7 [iV (hz t), .ref a, .ref va, .null])] ++ (nds nx es))) ([0, 1, 2] ++ tIx [(m0, ob 6 [.null, .null, .ref T, .null, iV ((es.length : Nat) + 1), iV (mc + 1), iV 12, .float 1061158912]), (T, aN G 16 (va_up f (bk t) (some n))), (n, ob 7 [iV (hz t), .ref a, .ref va, .null])] (nds nx es)) (ndT (w := [(m0, ob 6 [.null, .null, .ref T, .null, iV ((es.length : Nat) + 1), iV (mc + 1), iV 12, .float 1061158912]), (T, aN G 16 (va_up f (bk t) (some n))), (n, ob 7 [iV (hz t), .ref a, .ref va, .null])]) (t := (nds nx es)) (wC := [(m0, ob 6 [.null, .null, .ref T, .null, iV ((es.length : Nat) + 1), iV (mc + 1), iV 12, .float 1061158912]), (T, aN G 16 (va_up f (bk t) (some n))), (n, ob 7 [iV (hz t), .ref a, .ref va, .null])]) (is := [0, 1, 2]) rfl rfl) (idxT (w := [(m0, ob 6 [.null, .null, .ref T, .null, iV ((es.length : Nat) + 1), iV (mc + 1), iV 12, .float 1061158912]), (T, aN G 16 (va_up f (bk t) (some n))), (n, ob 7 [iV (hz t), .ref a, .ref va, .null])]) (t := (nds nx es)) (wC := [(m0, ob 6 [.null, .null, .ref T, .null, iV ((es.length : Nat) + 1), iV (mc + 1), iV 12, .float 1061158912]), (T, aN G 16 (va_up f (bk t) (some n))), (n, ob 7 [iV (hz t), .ref a, .ref va, .null])]) (is := [0, 1, 2]) rfl)
      have V := VV.rot1 (w := [(m0, ob 6 [.null, .null, .ref T, .null, iV ((es.length : Nat) + 1), iV (mc + 1), iV 12, .float 1061158912]), (T, aN G 16 (va_up f (bk t) (some n)))]) (t := [(n, ob 7 [iV (hz t), .ref a, .ref va, .null])]) V
      have V := VV.to (w' := [(m0, ob 6 [.null, .null, .ref T, .null, iV ((es.length : Nat) + 1), iV (mc + 1), iV 12, .float 1061158912]), (T, aN G 16 (va_up f (bk t) (some n)))] ++ nds (va_up nx n none) (es ++ [(n, a, t, va)])) (by rw [nds_app hfr, ← List.append_assoc]) V
      exact z_aret hx hb hr hlk V (Or.inl ⟨_, rfl⟩) (Or.inl rfl) dJ30_putVal_299 ⟨rfl, Or.inr ⟨hE, rfl, n, Or.inr ⟨T, (va_up f (bk t) (some n)), va_up nx n none, mc + 1, HMo.add0 hO h hE hfr hcap hch, by simp⟩⟩⟩ ⟨Nat.le_of_ble_eq_true rfl, Nat.le_of_ble_eq_true rfl⟩
    | some e0 =>
      have e1 : f (bk t) = some e0.1 := by rw [h5t]; exact cha_ch hc0
      have hm_e0 := (ch_mem hc0).1
      have hx0 := h6 (bk t) 0 e0.1 (cha_ch hc0)
      refine z_nald (v := .ref e0.1) hx hb hk (V.w 1 rfl) (bk t) (by omega) dJ30_putVal_40 (by rw [e1]; rfl) ?_
      refine lv_dup hx hb dJ30_putVal_41 rfl ?_
      refine lv_astore (lv' := [(7, .ref e0.1), (9, iV (bk t : Nat)), (8, iV 16), (6, .ref T), (0, .ref m0), (1, iV (hz t)), (2, .ref a), (3, .ref va), (4, iV 0), (5, iV 1)]) hx hb dJ30_putVal_42 hl (by decide) rfl (fun ls hl => ?_)
      refine lv_ifnonnull (tgt := 63) hx hb dJ30_putVal_44 (by decide) ?_
      have hn_e0 := nd_at V hm_e0 (show va_rf (nx e0.1) = va_rf (nx e0.1) from rfl)
      have hke_e0 := h1 _ hm_e0
      have hzb_e0 := hz_B e0.2.2.1
      refine lv_aload hx hb dJ30_putVal_63 (lv_at hl 0 rfl) ?_
      refine z_get hx hb hts hk hown K_J33 hn_e0 0 (by decide) q2282 (fun _ h => h) rfl dJ30_putVal_65 ?_
      refine lv_iload_n hx hb dJ30_putVal_68 rfl (lv_at hl 5 rfl) ?_
      refine z_icmp_ne (tgt := 104) hx hb (by omega) dJ30_putVal_69 (by decide) (fun c69 => ?_) (fun c69 => ?_)
      · skip
        have hne_e0 : e0.2.2.1 ≠ t := fun e9 => by rw [e9] at c69; exact c69 rfl
        refine lv_aload hx hb dJ30_putVal_104 (lv_at hl 0 rfl) ?_
        refine va_instNo hx hb hown (hts _ q1962) (hk.nc 0 rfl) (z_rc hk hn_e0 (q := (RJ33, TJ33, 4)) rfl) dJ30_putVal_106 ?_
        refine W.eq (g2 := F0 m 109 ls [iV 0]) rfl ?_
        refine z_if_eq (tgt := 131) hx hb (by omega) dJ30_putVal_109 (by decide) (fun c109 => ?_) (fun c109 => by omega)
        refine lv_iconst (v := iZ 0) hx hb dJ30_putVal_131 rfl ?_
        refine lv_istore (lv' := [(12, iV 0), (7, .ref e0.1), (9, iV (bk t : Nat)), (8, iV 16), (6, .ref T), (0, .ref m0), (1, iV (hz t)), (2, .ref a), (3, .ref va), (4, iV 0), (5, iV 1)]) hx hb dJ30_putVal_132 hl (by decide) rfl (fun ls hl => ?_)
        have loop : ∀ (n : Nat) (i : Nat) (ei : En) (H : Heap) (locs : List Loc) (ls : Array Slot), (ch es (bk t)).length - i < n → ((ch es (bk t))[i]? = some ei) → (∀ (j : Nat) (e : En), j ≤ i → (ch es (bk t))[j]? = some e → e.2.2.1 ≠ t) → VV G (FR F ([(m0, ob 6 [.null, .null, .ref T, .null, iV (es.length : Nat), iV mc, iV 12, .float 1061158912]), (T, aN G 16 f)] ++ (nds nx es)) Ha) F F ([(m0, ob 6 [.null, .null, .ref T, .null, iV (es.length : Nat), iV mc, iV 12, .float 1061158912]), (T, aN G 16 f)] ++ (nds nx es)) Ha H locs → lv_has ls 13 [(0, .ref m0), (1, iV (hz t)), (2, .ref a), (3, .ref va), (4, iV 0), (5, iV 1), (6, .ref T), (7, .ref ei.1), (8, iV 16), (9, iV (bk t : Nat)), (12, iV (i : Nat))] → W p l e ({ frames := 3, cells := 3, slots := 40, locals := 88 } : Room) s m [.ref m0, iV (hz t), .ref a, .ref va, iV 0, iV 1].toArray below meth c H locs 0 0 (MQ below (Qz G F ([(m0, ob 6 [.null, .null, .ref T, .null, iV (es.length : Nat), iV mc, iV 12, .float 1061158912]), (T, aN G 16 f)] ++ (nds nx es)) Ha (fun rv F' w' => F = F' ∧ ((∃ (i : Nat) (e : En), es[i]? = some e ∧ e.2.2.1 = t ∧ rv = some (.ref e.2.2.2) ∧ HM G F m0 (es.set i (e.1, e.2.1, e.2.2.1, va)) w') ∨ (fnd es t = none ∧ rv = some .null ∧ ∃ n : Nat, HM G F m0 (es ++ [(n, a, t, va)]) w')))) [.ref m0, iV (hz t), .ref a, .ref va, iV 0, iV 1].toArray s 3 40 (FR F ([(m0, ob 6 [.null, .null, .ref T, .null, iV (es.length : Nat), iV mc, iV 12, .float 1061158912]), (T, aN G 16 f)] ++ (nds nx es)) Ha)) (F0 m 134 ls []) := by
          intro n
          induction n with
          | zero => intro i ei H locs ls hm9; exact absurd hm9 (Nat.not_lt_zero _)
          | succ n ih_loop =>
            intro i ei H locs ls hm9 hci hno V hl
            have hm_ei := (ch_mem hci).1
            have hxi := h6 (bk t) i ei.1 (cha_ch hci)
            have hli := (List.getElem?_eq_some_iff.mp hci).1
            have hcl : (ch es (bk t)).length ≤ 7 := by rw [show (ch es (bk t)).length = (cha es (bk t)).length by unfold cha; rw [List.length_map]]; exact hbk
            cases hc2 : (ch es (bk t))[i + 1]? with
            | none =>
              have hx2 : nx ei.1 = none := by rw [hxi]; unfold cha; rw [List.getElem?_map, hc2]; rfl
              have hE : fnd es t = none := fnd_none (fun j e hj => hno j e (by have hl0 := List.getElem?_eq_none_iff.mp hc2; have hl1 := (List.getElem?_eq_some_iff.mp hj).1; omega) hj)
              obtain ⟨i9, hi9⟩ := List.getElem?_of_mem hm_ei
              have hn_ei := nd_at V hm_ei (show va_rf (nx ei.1) = .null from (by rw [hx2]; rfl))
              refine lv_aload hx hb dJ30_putVal_134 (lv_at hl 7 rfl) ?_
              refine z_get hx hb hts hk hown K_J33 hn_ei 3 (by decide) q2293 (fun _ h => h) rfl dJ30_putVal_136 ?_
              refine lv_dup hx hb dJ30_putVal_139 rfl ?_
              refine lv_astoreN (lv' := [(10, .null), (0, .ref m0), (1, iV (hz t)), (2, .ref a), (3, .ref va), (4, iV 0), (5, iV 1), (6, .ref T), (7, .ref ei.1), (8, iV 16), (9, iV (bk t : Nat)), (12, iV (i : Nat))]) hx hb dJ30_putVal_140 hl (by decide) rfl (fun ls hl => ?_)
              refine lv_ifnonnullN hx hb dJ30_putVal_142 ?_
              refine lv_aload hx hb dJ30_putVal_145 (lv_at hl 8 rfl) ?_
              refine lv_aload_n hx hb dJ30_putVal_147 rfl (lv_at hl 1 rfl) ?_
              refine lv_iload_n hx hb dJ30_putVal_148 rfl (lv_at hl 2 rfl) ?_
              refine lv_aload_n hx hb dJ30_putVal_149 rfl (lv_at hl 3 rfl) ?_
              refine lv_aload_n hx hb dJ30_putVal_150 rfl (lv_at hl 4 rfl) ?_
              refine lv_null hx hb dJ30_putVal_151 ?_
              refine z_callV ⟨hx, hb, hml, hown, hts⟩ hk hl.1 V (wc := []) (wr := ([(m0, ob 6 [.null, .null, .ref T, .null, iV (es.length : Nat), iV mc, iV 12, .float 1061158912]), (T, aN G 16 f)] ++ (nds nx es))) [] ([0, 1] ++ tIx [(m0, ob 6 [.null, .null, .ref T, .null, iV (es.length : Nat), iV mc, iV 12, .float 1061158912]), (T, aN G 16 f)] (nds nx es)) (idxN (w := [(m0, ob 6 [.null, .null, .ref T, .null, iV (es.length : Nat), iV mc, iV 12, .float 1061158912]), (T, aN G 16 f)]) (t := (nds nx es)) (wC := []) (is := []) rfl) (idxT (w := [(m0, ob 6 [.null, .null, .ref T, .null, iV (es.length : Nat), iV mc, iV 12, .float 1061158912]), (T, aN G 16 f)]) (t := (nds nx es)) (wC := [(m0, ob 6 [.null, .null, .ref T, .null, iV (es.length : Nat), iV mc, iV 12, .float 1061158912]), (T, aN G 16 f)]) (is := [0, 1]) rfl) rfl (ndT (w := [(m0, ob 6 [.null, .null, .ref T, .null, iV (es.length : Nat), iV mc, iV 12, .float 1061158912]), (T, aN G 16 f)]) (t := (nds nx es)) (wC := [(m0, ob 6 [.null, .null, .ref T, .null, iV (es.length : Nat), iV mc, iV 12, .float 1061158912]), (T, aN G 16 f)]) (is := [0, 1]) rfl rfl) (disT2 (w := [(m0, ob 6 [.null, .null, .ref T, .null, iV (es.length : Nat), iV mc, iV 12, .float 1061158912]), (T, aN G 16 f)]) (t := (nds nx es)) (wC := []) (isC := []) rfl (by decide)) (As := [iV (hz t), .ref a, .ref va, .null]) (rest := [.ref ei.1]) (fun hp => ct_HM_newNode l G m0 a va (hz t) hp) (cwV 4 hts (lw_V q2322 q2323 q2324 q121 q2325) rfl rfl rfl (by decide +kernel) ⟨Nat.le_of_ble_eq_true rfl, Nat.le_of_ble_eq_true rfl⟩) (z_rc hk (V.w 0 rfl) (q := (RJ30, TJ30, 8)) rfl) rfl rfl (Nat.le_of_ble_eq_true rfl) dJ30_putVal_152 ⟨Nat.le_of_ble_eq_true rfl, Nat.le_of_ble_eq_true rfl⟩ (fun v F1 w1 H locs hq hle hou V => ?_)
              obtain ⟨n, rfl, rfl, rfl⟩ := hq
              have V := VV.rot1 V
              refine W.eq (g2 := F0 m 155 ls [.ref n, .ref ei.1]) rfl ?_
              have V : VV G _ _ F ([(m0, ob 6 [.null, .null, .ref T, .null, iV (es.length : Nat), iV mc, iV 12, .float 1061158912]), (T, aN G 16 f), (n, ob 7 [iV (hz t), .ref a, .ref va, .null])] ++ (nds nx es)) _ _ _ := V
              have hfr : n ∉ es.map (fun e => e.1) := fresh_of (w := [(m0, ob 6 [.null, .null, .ref T, .null, iV (es.length : Nat), iV mc, iV 12, .float 1061158912]), (T, aN G 16 f), (n, ob 7 [iV (hz t), .ref a, .ref va, .null])]) V 2 rfl
              refine z_putT (w := [(m0, ob 6 [.null, .null, .ref T, .null, iV (es.length : Nat), iV mc, iV 12, .float 1061158912]), (T, aN G 16 f), (n, ob 7 [iV (hz t), .ref a, .ref va, .null])]) (t := nds nx es) hx hb hts hk V hown K_J33 i9 (nds_at hi9 rfl) 3 (by decide) q2293 (fun _ h => h) rfl rfl rfl (Nat.le_of_ble_eq_true rfl) dJ30_putVal_155 (fun H locs V => ?_)
              have V := VV.to (w' := ([(m0, ob 6 [.null, .null, .ref T, .null, iV (es.length : Nat), iV mc, iV 12, .float 1061158912]), (T, aN G 16 f), (n, ob 7 [iV (hz t), .ref a, .ref va, .null])] ++ (nds (va_up nx ei.1 (some n)) es))) (congrArg (fun z => [(m0, ob 6 [.null, .null, .ref T, .null, iV (es.length : Nat), iV mc, iV 12, .float 1061158912]), (T, aN G 16 f), (n, ob 7 [iV (hz t), .ref a, .ref va, .null])] ++ z) (nds_next (nx := nx) h3 hi9 (some n))) V
              refine lv_iload hx hb dJ30_putVal_158 (lv_at hl 11 rfl) ?_
              refine lv_bipush (v := iZ 7) hx hb dJ30_putVal_160 (by decide) ?_
              refine z_icmp_lt (tgt := 222) hx hb (by omega) dJ30_putVal_162 (by decide) (fun c162 => ?_) (fun c162 => by omega)
              refine lv_aloadN hx hb dJ30_putVal_222 (lv_at hl 0 rfl) ?_
              refine lv_ifnullN (tgt := 259) hx hb dJ30_putVal_224 (by decide) ?_
              refine lv_aload_n hx hb dJ30_putVal_259 rfl (lv_at hl 1 rfl) ?_
              refine lv_dup hx hb dJ30_putVal_260 rfl ?_
              refine z_get hx hb hts hk hown K_J30 (V.w 0 rfl) 5 (by decide) q1777 (fun _ h => h) rfl dJ30_putVal_261 ?_
              refine lv_iconst (v := iZ 1) hx hb dJ30_putVal_264 rfl ?_
              refine z_iadd hx hb dJ30_putVal_265 ?_
              refine z_put hx hb hts hk V hown K_J30 0 rfl 5 (by decide) q1777 (fun _ h => h) rfl rfl rfl (Nat.le_of_ble_eq_true rfl) dJ30_putVal_266 (fun H locs V => ?_)
              have V : VV G _ _ F ([(m0, ob 6 [.null, .null, .ref T, .null, iV (es.length : Nat), iV (mc + 1), iV 12, .float 1061158912]), (T, aN G 16 f), (n, ob 7 [iV (hz t), .ref a, .ref va, .null])] ++ (nds (va_up nx ei.1 (some n)) es)) _ _ _ := V
              refine lv_aload_n hx hb dJ30_putVal_269 rfl (lv_at hl 1 rfl) ?_
              refine lv_dup hx hb dJ30_putVal_270 rfl ?_
              refine z_get hx hb hts hk hown K_J30 (V.w 0 rfl) 4 (by decide) q1776 (fun _ h => h) rfl dJ30_putVal_271 ?_
              refine lv_iconst (v := iZ 1) hx hb dJ30_putVal_274 rfl ?_
              refine z_iadd hx hb dJ30_putVal_275 ?_
              refine lv_dup_x1 hx hb dJ30_putVal_276 rfl rfl ?_
              refine z_put hx hb hts hk V hown K_J30 0 rfl 4 (by decide) q1776 (fun _ h => h) rfl rfl rfl (Nat.le_of_ble_eq_true rfl) dJ30_putVal_277 (fun H locs V => ?_)
              have V : VV G _ _ F ([(m0, ob 6 [.null, .null, .ref T, .null, iV ((es.length : Nat) + 1), iV (mc + 1), iV 12, .float 1061158912]), (T, aN G 16 f), (n, ob 7 [iV (hz t), .ref a, .ref va, .null])] ++ (nds (va_up nx ei.1 (some n)) es)) _ _ _ := V
              refine lv_aload_n hx hb dJ30_putVal_280 rfl (lv_at hl 1 rfl) ?_
              refine z_get hx hb hts hk hown K_J30 (V.w 0 rfl) 6 (by decide) q1778 (fun _ h => h) rfl dJ30_putVal_281 ?_
              refine z_icmp_le (tgt := 292) hx hb (by omega) dJ30_putVal_284 (by decide) (fun c284 => ?_) (fun c284 => by omega)
              refine lv_aload_n hx hb dJ30_putVal_292 rfl (lv_at hl 1 rfl) ?_
              refine lv_iload hx hb dJ30_putVal_293 (lv_at hl 6 rfl) ?_
              refine z_callV ⟨hx, hb, hml, hown, hts⟩ hk hl.1 V (wc := []) (wr := ([(m0, ob 6 [.null, .null, .ref T, .null, iV ((es.length : Nat) + 1), iV (mc + 1), iV 12, .float 1061158912]), (T, aN G 16 f), (n, ob 7 [iV (hz t), .ref a, .ref va, .null])] ++ (nds (va_up nx ei.1 (some n)) es))) [] ([0, 1, 2] ++ tIx [(m0, ob 6 [.null, .null, .ref T, .null, iV ((es.length : Nat) + 1), iV (mc + 1), iV 12, .float 1061158912]), (T, aN G 16 f), (n, ob 7 [iV (hz t), .ref a, .ref va, .null])] (nds (va_up nx ei.1 (some n)) es)) (idxN (w := [(m0, ob 6 [.null, .null, .ref T, .null, iV ((es.length : Nat) + 1), iV (mc + 1), iV 12, .float 1061158912]), (T, aN G 16 f), (n, ob 7 [iV (hz t), .ref a, .ref va, .null])]) (t := (nds (va_up nx ei.1 (some n)) es)) (wC := []) (is := []) rfl) (idxT (w := [(m0, ob 6 [.null, .null, .ref T, .null, iV ((es.length : Nat) + 1), iV (mc + 1), iV 12, .float 1061158912]), (T, aN G 16 f), (n, ob 7 [iV (hz t), .ref a, .ref va, .null])]) (t := (nds (va_up nx ei.1 (some n)) es)) (wC := [(m0, ob 6 [.null, .null, .ref T, .null, iV ((es.length : Nat) + 1), iV (mc + 1), iV 12, .float 1061158912]), (T, aN G 16 f), (n, ob 7 [iV (hz t), .ref a, .ref va, .null])]) (is := [0, 1, 2]) rfl) rfl (ndT (w := [(m0, ob 6 [.null, .null, .ref T, .null, iV ((es.length : Nat) + 1), iV (mc + 1), iV 12, .float 1061158912]), (T, aN G 16 f), (n, ob 7 [iV (hz t), .ref a, .ref va, .null])]) (t := (nds (va_up nx ei.1 (some n)) es)) (wC := [(m0, ob 6 [.null, .null, .ref T, .null, iV ((es.length : Nat) + 1), iV (mc + 1), iV 12, .float 1061158912]), (T, aN G 16 f), (n, ob 7 [iV (hz t), .ref a, .ref va, .null])]) (is := [0, 1, 2]) rfl rfl) (disT2 (w := [(m0, ob 6 [.null, .null, .ref T, .null, iV ((es.length : Nat) + 1), iV (mc + 1), iV 12, .float 1061158912]), (T, aN G 16 f), (n, ob 7 [iV (hz t), .ref a, .ref va, .null])]) (t := (nds (va_up nx ei.1 (some n)) es)) (wC := []) (isC := []) rfl (by decide)) (As := [iV 1]) (rest := []) (fun hp => ct_HM_ani l G m0 hp) (cwV 1 hts (lw_V q2380 q2381 q2382 q121 q2383) rfl rfl rfl (by decide +kernel) ⟨Nat.le_of_ble_eq_true rfl, Nat.le_of_ble_eq_true rfl⟩) (z_rc hk (V.w 0 rfl) (q := (RJ30, TJ30, 8)) rfl) rfl rfl (Nat.le_of_ble_eq_true rfl) dJ30_putVal_295 ⟨Nat.le_of_ble_eq_true rfl, Nat.le_of_ble_eq_true rfl⟩ (fun v F1 w1 H locs hq hle hou V => ?_)
              obtain ⟨rfl, rfl, rfl⟩ := hq
              have V := VV.rot1 V
              refine W.eq (g2 := F0 m 298 ls []) rfl ?_
              have V : VV G _ _ F ([(m0, ob 6 [.null, .null, .ref T, .null, iV ((es.length : Nat) + 1), iV (mc + 1), iV 12, .float 1061158912]), (T, aN G 16 f), (n, ob 7 [iV (hz t), .ref a, .ref va, .null])] ++ (nds (va_up nx ei.1 (some n)) es)) _ _ _ := V
              refine lv_null hx hb dJ30_putVal_298 ?_
              have V := V.sub (w1 := ([(m0, ob 6 [.null, .null, .ref T, .null, iV ((es.length : Nat) + 1), iV (mc + 1), iV 12, .float 1061158912]), (T, aN G 16 f), (n, ob 7 [iV (hz t), .ref a, .ref va, .null])] ++ (nds (va_up nx ei.1 (some n)) es))) ([0, 1, 2] ++ tIx [(m0, ob 6 [.null, .null, .ref T, .null, iV ((es.length : Nat) + 1), iV (mc + 1), iV 12, .float 1061158912]), (T, aN G 16 f), (n, ob 7 [iV (hz t), .ref a, .ref va, .null])] (nds (va_up nx ei.1 (some n)) es)) (ndT (w := [(m0, ob 6 [.null, .null, .ref T, .null, iV ((es.length : Nat) + 1), iV (mc + 1), iV 12, .float 1061158912]), (T, aN G 16 f), (n, ob 7 [iV (hz t), .ref a, .ref va, .null])]) (t := (nds (va_up nx ei.1 (some n)) es)) (wC := [(m0, ob 6 [.null, .null, .ref T, .null, iV ((es.length : Nat) + 1), iV (mc + 1), iV 12, .float 1061158912]), (T, aN G 16 f), (n, ob 7 [iV (hz t), .ref a, .ref va, .null])]) (is := [0, 1, 2]) rfl rfl) (idxT (w := [(m0, ob 6 [.null, .null, .ref T, .null, iV ((es.length : Nat) + 1), iV (mc + 1), iV 12, .float 1061158912]), (T, aN G 16 f), (n, ob 7 [iV (hz t), .ref a, .ref va, .null])]) (t := (nds (va_up nx ei.1 (some n)) es)) (wC := [(m0, ob 6 [.null, .null, .ref T, .null, iV ((es.length : Nat) + 1), iV (mc + 1), iV 12, .float 1061158912]), (T, aN G 16 f), (n, ob 7 [iV (hz t), .ref a, .ref va, .null])]) (is := [0, 1, 2]) rfl)
              have V := VV.rot1 (w := [(m0, ob 6 [.null, .null, .ref T, .null, iV ((es.length : Nat) + 1), iV (mc + 1), iV 12, .float 1061158912]), (T, aN G 16 f)]) (t := [(n, ob 7 [iV (hz t), .ref a, .ref va, .null])]) V
              have V := VV.to (w' := [(m0, ob 6 [.null, .null, .ref T, .null, iV ((es.length : Nat) + 1), iV (mc + 1), iV 12, .float 1061158912]), (T, aN G 16 f)] ++ nds (va_up (va_up nx ei.1 (some n)) n none) (es ++ [(n, a, t, va)])) (by rw [nds_app hfr, ← List.append_assoc]) V
              exact z_aret hx hb hr hlk V (Or.inl ⟨_, rfl⟩) (Or.inl rfl) dJ30_putVal_299 ⟨rfl, Or.inr ⟨hE, rfl, n, Or.inr ⟨T, f, va_up (va_up nx ei.1 (some n)) n none, mc + 1, HMo.add1 hO h hE hfr hcap hci hc2, by simp⟩⟩⟩ ⟨Nat.le_of_ble_eq_true rfl, Nat.le_of_ble_eq_true rfl⟩
            | some e2 =>
              have hx2 : nx ei.1 = some e2.1 := by rw [hxi]; exact cha_ch hc2
              have hm_e2 := (ch_mem hc2).1
              have hn_ei := nd_at V hm_ei (show va_rf (nx ei.1) = .ref e2.1 from (by rw [hx2]; rfl))
              have hn_e2 := nd_at V hm_e2 (show va_rf (nx e2.1) = va_rf (nx e2.1) from rfl)
              refine lv_aload hx hb dJ30_putVal_134 (lv_at hl 7 rfl) ?_
              refine z_get hx hb hts hk hown K_J33 hn_ei 3 (by decide) q2293 (fun _ h => h) rfl dJ30_putVal_136 ?_
              refine lv_dup hx hb dJ30_putVal_139 rfl ?_
              refine lv_astore (lv' := [(10, .ref e2.1), (0, .ref m0), (1, iV (hz t)), (2, .ref a), (3, .ref va), (4, iV 0), (5, iV 1), (6, .ref T), (7, .ref ei.1), (8, iV 16), (9, iV (bk t : Nat)), (12, iV (i : Nat))]) hx hb dJ30_putVal_140 hl (by decide) rfl (fun ls hl => ?_)
              refine lv_ifnonnull (tgt := 175) hx hb dJ30_putVal_142 (by decide) ?_
              have hke_e2 := h1 _ hm_e2
              have hzb_e2 := hz_B e2.2.2.1
              refine lv_aload hx hb dJ30_putVal_175 (lv_at hl 0 rfl) ?_
              refine z_get hx hb hts hk hown K_J33 hn_e2 0 (by decide) q2282 (fun _ h => h) rfl dJ30_putVal_177 ?_
              refine lv_iload_n hx hb dJ30_putVal_180 rfl (lv_at hl 2 rfl) ?_
              refine z_icmp_ne (tgt := 212) hx hb (by omega) dJ30_putVal_181 (by decide) (fun c181 => ?_) (fun c181 => ?_)
              · skip
                have hne_e2 : e2.2.2.1 ≠ t := fun e9 => by rw [e9] at c181; exact c181 rfl
                refine lv_aload hx hb dJ30_putVal_212 (lv_at hl 0 rfl) ?_
                refine lv_astore (lv' := [(7, .ref e2.1), (10, .ref e2.1), (0, .ref m0), (1, iV (hz t)), (2, .ref a), (3, .ref va), (4, iV 0), (5, iV 1), (6, .ref T), (8, iV 16), (9, iV (bk t : Nat)), (12, iV (i : Nat))]) hx hb dJ30_putVal_214 hl (by decide) rfl (fun ls hl => ?_)
                refine lv_iinc (v := iZ ((i : Nat) + 1)) (lv' := [(12, iV ((i : Nat) + 1)), (7, .ref e2.1), (10, .ref e2.1), (0, .ref m0), (1, iV (hz t)), (2, .ref a), (3, .ref va), (4, iV 0), (5, iV 1), (6, .ref T), (8, iV 16), (9, iV (bk t : Nat))]) hx hb dJ30_putVal_216 hl (k := 11) rfl (iZ_add _ _) (by decide) rfl (fun ls hl => ?_)
                have hno2 : ∀ (j : Nat) (e : En), j ≤ i + 1 → (ch es (bk t))[j]? = some e → e.2.2.1 ≠ t := fun j e hj hje => by
                  by_cases hji : j = i + 1
                  · subst hji; rw [hc2] at hje; cases hje; exact hne_e2
                  · exact hno j e (by omega) hje
                refine lv_goto (tgt := 134) hx hb dJ30_putVal_219 (by decide) ?_
                exact ih_loop (i + 1) e2 _ _ _ (by omega) hc2 hno2 V (lv_sub hl [3, 4, 5, 6, 7, 8, 9, 1, 10, 11, 0] rfl)
              · skip
                refine lv_aload hx hb dJ30_putVal_184 (lv_at hl 0 rfl) ?_
                refine z_get hx hb hts hk hown K_J33 hn_e2 1 (by decide) q2286 (fun _ h => h) rfl dJ30_putVal_186 ?_
                refine lv_dup hx hb dJ30_putVal_189 rfl ?_
                refine lv_astore (lv' := [(11, .ref e2.2.1), (10, .ref e2.1), (0, .ref m0), (1, iV (hz t)), (2, .ref a), (3, .ref va), (4, iV 0), (5, iV 1), (6, .ref T), (7, .ref ei.1), (8, iV 16), (9, iV (bk t : Nat)), (12, iV (i : Nat))]) hx hb dJ30_putVal_190 hl (by decide) rfl (fun ls hl => ?_)
                refine lv_aload_n hx hb dJ30_putVal_192 rfl (lv_at hl 4 rfl) ?_
                refine z_acmp_eq (tgt := 222) hx hb dJ30_putVal_193 (by decide) (fun he193 => ?_) (fun he193 => ?_)
                · skip
                  have hee_e2 : e2.2.2.1 = t := SF.eq (Or.inl (he193 ▸ hke_e2)) (Or.inl h)
                  obtain ⟨i9, hi9⟩ := List.getElem?_of_mem hm_e2
                  refine lv_aload hx hb dJ30_putVal_222 (lv_at hl 1 rfl) ?_
                  refine lv_ifnull hx hb dJ30_putVal_224 ?_
                  refine lv_aload hx hb dJ30_putVal_227 (lv_at hl 1 rfl) ?_
                  refine z_get hx hb hts hk hown K_J33 hn_e2 2 (by decide) q2288 (fun _ h => h) rfl dJ30_putVal_229 ?_
                  refine lv_astore (lv' := [(12, .ref e2.2.2.2), (11, .ref e2.2.1), (10, .ref e2.1), (0, .ref m0), (1, iV (hz t)), (2, .ref a), (3, .ref va), (4, iV 0), (5, iV 1), (6, .ref T), (7, .ref ei.1), (8, iV 16), (9, iV (bk t : Nat))]) hx hb dJ30_putVal_232 hl (by decide) rfl (fun ls hl => ?_)
                  refine lv_iload hx hb dJ30_putVal_234 (lv_at hl 7 rfl) ?_
                  refine z_if_eq (tgt := 244) hx hb (by omega) dJ30_putVal_236 (by decide) (fun c236 => ?_) (fun c236 => by omega)
                  refine lv_aload hx hb dJ30_putVal_244 (lv_at hl 2 rfl) ?_
                  refine lv_aload_n hx hb dJ30_putVal_246 rfl (lv_at hl 6 rfl) ?_
                  refine z_putT (w := [(m0, ob 6 [.null, .null, .ref T, .null, iV (es.length : Nat), iV mc, iV 12, .float 1061158912]), (T, aN G 16 f)]) (t := nds nx es) hx hb hts hk V hown K_J33 i9 (nds_at hi9 rfl) 2 (by decide) q2288 (fun _ h => h) rfl rfl rfl (Nat.le_of_ble_eq_true rfl) dJ30_putVal_247 (fun H locs V => ?_)
                  have V := VV.to (w' := ([(m0, ob 6 [.null, .null, .ref T, .null, iV (es.length : Nat), iV mc, iV 12, .float 1061158912]), (T, aN G 16 f)] ++ (nds nx (es.set i9 (e2.1, e2.2.1, e2.2.2.1, va))))) (congrArg (fun z => [(m0, ob 6 [.null, .null, .ref T, .null, iV (es.length : Nat), iV mc, iV 12, .float 1061158912]), (T, aN G 16 f)] ++ z) (nds_val (nx := nx) h3 hi9 va)) V
                  refine lv_aload_n hx hb dJ30_putVal_250 rfl (lv_at hl 3 rfl) ?_
                  refine lv_aload hx hb dJ30_putVal_251 (lv_at hl 2 rfl) ?_
                  refine z_callV ⟨hx, hb, hml, hown, hts⟩ hk hl.1 V (wc := []) (wr := ([(m0, ob 6 [.null, .null, .ref T, .null, iV (es.length : Nat), iV mc, iV 12, .float 1061158912]), (T, aN G 16 f)] ++ (nds nx (es.set i9 (e2.1, e2.2.1, e2.2.2.1, va))))) [] ([0, 1] ++ tIx [(m0, ob 6 [.null, .null, .ref T, .null, iV (es.length : Nat), iV mc, iV 12, .float 1061158912]), (T, aN G 16 f)] (nds nx (es.set i9 (e2.1, e2.2.1, e2.2.2.1, va)))) (idxN (w := [(m0, ob 6 [.null, .null, .ref T, .null, iV (es.length : Nat), iV mc, iV 12, .float 1061158912]), (T, aN G 16 f)]) (t := (nds nx (es.set i9 (e2.1, e2.2.1, e2.2.2.1, va)))) (wC := []) (is := []) rfl) (idxT (w := [(m0, ob 6 [.null, .null, .ref T, .null, iV (es.length : Nat), iV mc, iV 12, .float 1061158912]), (T, aN G 16 f)]) (t := (nds nx (es.set i9 (e2.1, e2.2.1, e2.2.2.1, va)))) (wC := [(m0, ob 6 [.null, .null, .ref T, .null, iV (es.length : Nat), iV mc, iV 12, .float 1061158912]), (T, aN G 16 f)]) (is := [0, 1]) rfl) rfl (ndT (w := [(m0, ob 6 [.null, .null, .ref T, .null, iV (es.length : Nat), iV mc, iV 12, .float 1061158912]), (T, aN G 16 f)]) (t := (nds nx (es.set i9 (e2.1, e2.2.1, e2.2.2.1, va)))) (wC := [(m0, ob 6 [.null, .null, .ref T, .null, iV (es.length : Nat), iV mc, iV 12, .float 1061158912]), (T, aN G 16 f)]) (is := [0, 1]) rfl rfl) (disT2 (w := [(m0, ob 6 [.null, .null, .ref T, .null, iV (es.length : Nat), iV mc, iV 12, .float 1061158912]), (T, aN G 16 f)]) (t := (nds nx (es.set i9 (e2.1, e2.2.1, e2.2.2.1, va)))) (wC := []) (isC := []) rfl (by decide)) (As := [.ref e2.1]) (rest := []) (fun hp => ct_HM_ana l G m0 e2.1 hp) (cwV 1 hts (lw_V q2376 q2377 q2378 q121 q2379) rfl rfl rfl (by decide +kernel) ⟨Nat.le_of_ble_eq_true rfl, Nat.le_of_ble_eq_true rfl⟩) (z_rc hk (V.w 0 rfl) (q := (RJ30, TJ30, 8)) rfl) rfl rfl (Nat.le_of_ble_eq_true rfl) dJ30_putVal_253 ⟨Nat.le_of_ble_eq_true rfl, Nat.le_of_ble_eq_true rfl⟩ (fun v F1 w1 H locs hq hle hou V => ?_)
                  obtain ⟨rfl, rfl, rfl⟩ := hq
                  have V := VV.rot1 V
                  refine W.eq (g2 := F0 m 256 ls []) rfl ?_
                  have V : VV G _ _ F ([(m0, ob 6 [.null, .null, .ref T, .null, iV (es.length : Nat), iV mc, iV 12, .float 1061158912]), (T, aN G 16 f)] ++ (nds nx (es.set i9 (e2.1, e2.2.1, e2.2.2.1, va)))) _ _ _ := V
                  refine lv_aload hx hb dJ30_putVal_256 (lv_at hl 0 rfl) ?_
                  have V := V.sub (w1 := ([(m0, ob 6 [.null, .null, .ref T, .null, iV (es.length : Nat), iV mc, iV 12, .float 1061158912]), (T, aN G 16 f)] ++ (nds nx (es.set i9 (e2.1, e2.2.1, e2.2.2.1, va))))) ([0, 1] ++ tIx [(m0, ob 6 [.null, .null, .ref T, .null, iV (es.length : Nat), iV mc, iV 12, .float 1061158912]), (T, aN G 16 f)] (nds nx (es.set i9 (e2.1, e2.2.1, e2.2.2.1, va)))) (ndT (w := [(m0, ob 6 [.null, .null, .ref T, .null, iV (es.length : Nat), iV mc, iV 12, .float 1061158912]), (T, aN G 16 f)]) (t := (nds nx (es.set i9 (e2.1, e2.2.1, e2.2.2.1, va)))) (wC := [(m0, ob 6 [.null, .null, .ref T, .null, iV (es.length : Nat), iV mc, iV 12, .float 1061158912]), (T, aN G 16 f)]) (is := [0, 1]) rfl rfl) (idxT (w := [(m0, ob 6 [.null, .null, .ref T, .null, iV (es.length : Nat), iV mc, iV 12, .float 1061158912]), (T, aN G 16 f)]) (t := (nds nx (es.set i9 (e2.1, e2.2.1, e2.2.2.1, va)))) (wC := [(m0, ob 6 [.null, .null, .ref T, .null, iV (es.length : Nat), iV mc, iV 12, .float 1061158912]), (T, aN G 16 f)]) (is := [0, 1]) rfl)
                  exact z_aret hx hb hr hlk V (Or.inl ⟨_, rfl⟩) (Or.inr ⟨_, rfl⟩) dJ30_putVal_258 ⟨rfl, Or.inl ⟨i9, e2, hi9, hee_e2, rfl, Or.inr ⟨T, f, nx, mc, HMo.upd hO hi9 va, by rw [List.length_set]⟩⟩⟩ ⟨Nat.le_of_ble_eq_true rfl, Nat.le_of_ble_eq_true rfl⟩
                · skip
                  refine lv_aload_n hx hb dJ30_putVal_196 rfl (lv_at hl 4 rfl) ?_
                  refine lv_ifnull hx hb dJ30_putVal_197 ?_
                  refine lv_aload_n hx hb dJ30_putVal_200 rfl (lv_at hl 4 rfl) ?_
                  refine lv_aload hx hb dJ30_putVal_201 (lv_at hl 0 rfl) ?_
                  obtain ⟨v9, h9, z9, hF9, hB9, hrel9, hat9, hbf9⟩ := SH.at h V
                  refine z_callU ⟨hx, hb, hml, hown, hts⟩ hk hl.1 V (wc := []) (wr := ([(m0, ob 6 [.null, .null, .ref T, .null, iV (es.length : Nat), iV mc, iV 12, .float 1061158912]), (T, aN G 16 f)] ++ (nds nx es))) [] ([0, 1] ++ tIx [(m0, ob 6 [.null, .null, .ref T, .null, iV (es.length : Nat), iV mc, iV 12, .float 1061158912]), (T, aN G 16 f)] (nds nx es)) (idxN (w := [(m0, ob 6 [.null, .null, .ref T, .null, iV (es.length : Nat), iV mc, iV 12, .float 1061158912]), (T, aN G 16 f)]) (t := (nds nx es)) (wC := []) (is := []) rfl) (idxT (w := [(m0, ob 6 [.null, .null, .ref T, .null, iV (es.length : Nat), iV mc, iV 12, .float 1061158912]), (T, aN G 16 f)]) (t := (nds nx es)) (wC := [(m0, ob 6 [.null, .null, .ref T, .null, iV (es.length : Nat), iV mc, iV 12, .float 1061158912]), (T, aN G 16 f)]) (is := [0, 1]) rfl) rfl (ndT (w := [(m0, ob 6 [.null, .null, .ref T, .null, iV (es.length : Nat), iV mc, iV 12, .float 1061158912]), (T, aN G 16 f)]) (t := (nds nx es)) (wC := [(m0, ob 6 [.null, .null, .ref T, .null, iV (es.length : Nat), iV mc, iV 12, .float 1061158912]), (T, aN G 16 f)]) (is := [0, 1]) rfl rfl) (disT2 (w := [(m0, ob 6 [.null, .null, .ref T, .null, iV (es.length : Nat), iV mc, iV 12, .float 1061158912]), (T, aN G 16 f)]) (t := (nds nx es)) (wC := []) (isC := []) rfl (by decide)) (As := [.ref e2.2.1]) (rest := []) (fun hp => ct_S_equals l G a e2.2.1 t e2.2.2.1 (Or.inl h) (Or.inl hke_e2) hp) (va_cwO (owner := "java/lang/Object") 1 hts (lw_app (lw_in6 q1918 q1920 q1919 q1955 q1098 q81) (lw_meth q1100)) rfl rfl rfl q1961 (by decide +kernel) ⟨Nat.le_of_ble_eq_true rfl, Nat.le_of_ble_eq_true rfl⟩) (z_rc hk hat9 (q := (RJ6, TJ6, 4)) rfl) rfl rfl (Nat.le_of_ble_eq_true rfl) dJ30_putVal_203 ⟨Nat.le_of_ble_eq_true rfl, Nat.le_of_ble_eq_true rfl⟩ (fun v F1 w1 H locs hq hle hou V => ?_)
                  obtain ⟨rfl, rfl, rfl⟩ := hq
                  have V := VV.rot1 V
                  refine W.eq (g2 := F0 m 206 ls [iV (bZ (decide (t = e2.2.2.1)))]) rfl ?_
                  have V : VV G _ _ F ([(m0, ob 6 [.null, .null, .ref T, .null, iV (es.length : Nat), iV mc, iV 12, .float 1061158912]), (T, aN G 16 f)] ++ (nds nx es)) _ _ _ := V
                  have hn_ei := nd_at V hm_ei (show va_rf (nx ei.1) = .ref e2.1 from (by rw [hx2]; rfl))
                  have hn_e2 := nd_at V hm_e2 (show va_rf (nx e2.1) = va_rf (nx e2.1) from rfl)
                  have hbz : bZ (decide (t = e2.2.2.1)) = 0 ∨ bZ (decide (t = e2.2.2.1)) = 1 := by unfold bZ; split <;> simp
                  refine z_if_eq (tgt := 212) hx hb (by omega) dJ30_putVal_206 (by decide) (fun c206 => ?_) (fun c206 => ?_)
                  · skip
                    have hne_e2 : e2.2.2.1 ≠ t := fun e9 => by rw [decide_eq_true e9.symm] at c206; exact absurd c206 (by decide)
                    refine lv_aload hx hb dJ30_putVal_212 (lv_at hl 1 rfl) ?_
                    refine lv_astore (lv' := [(7, .ref e2.1), (11, .ref e2.2.1), (10, .ref e2.1), (0, .ref m0), (1, iV (hz t)), (2, .ref a), (3, .ref va), (4, iV 0), (5, iV 1), (6, .ref T), (8, iV 16), (9, iV (bk t : Nat)), (12, iV (i : Nat))]) hx hb dJ30_putVal_214 hl (by decide) rfl (fun ls hl => ?_)
                    refine lv_iinc (v := iZ ((i : Nat) + 1)) (lv' := [(12, iV ((i : Nat) + 1)), (7, .ref e2.1), (11, .ref e2.2.1), (10, .ref e2.1), (0, .ref m0), (1, iV (hz t)), (2, .ref a), (3, .ref va), (4, iV 0), (5, iV 1), (6, .ref T), (8, iV 16), (9, iV (bk t : Nat))]) hx hb dJ30_putVal_216 hl (k := 12) rfl (iZ_add _ _) (by decide) rfl (fun ls hl => ?_)
                    have hno2 : ∀ (j : Nat) (e : En), j ≤ i + 1 → (ch es (bk t))[j]? = some e → e.2.2.1 ≠ t := fun j e hj hje => by
                      by_cases hji : j = i + 1
                      · subst hji; rw [hc2] at hje; cases hje; exact hne_e2
                      · exact hno j e (by omega) hje
                    refine lv_goto (tgt := 134) hx hb dJ30_putVal_219 (by decide) ?_
                    exact ih_loop (i + 1) e2 _ _ _ (by omega) hc2 hno2 V (lv_sub hl [4, 5, 6, 7, 8, 9, 10, 1, 11, 12, 0] rfl)
                  · skip
                    have hee_e2 : e2.2.2.1 = t := Classical.byContradiction fun e9 => by rw [decide_eq_false (fun e8 => e9 e8.symm)] at c206; exact c206 rfl
                    obtain ⟨i9, hi9⟩ := List.getElem?_of_mem hm_e2
                    refine lv_goto (tgt := 222) hx hb dJ30_putVal_209 (by decide) ?_
                    refine lv_aload hx hb dJ30_putVal_222 (lv_at hl 1 rfl) ?_
                    refine lv_ifnull hx hb dJ30_putVal_224 ?_
                    refine lv_aload hx hb dJ30_putVal_227 (lv_at hl 1 rfl) ?_
                    refine z_get hx hb hts hk hown K_J33 hn_e2 2 (by decide) q2288 (fun _ h => h) rfl dJ30_putVal_229 ?_
                    refine lv_astore (lv' := [(12, .ref e2.2.2.2), (11, .ref e2.2.1), (10, .ref e2.1), (0, .ref m0), (1, iV (hz t)), (2, .ref a), (3, .ref va), (4, iV 0), (5, iV 1), (6, .ref T), (7, .ref ei.1), (8, iV 16), (9, iV (bk t : Nat))]) hx hb dJ30_putVal_232 hl (by decide) rfl (fun ls hl => ?_)
                    refine lv_iload hx hb dJ30_putVal_234 (lv_at hl 7 rfl) ?_
                    refine z_if_eq (tgt := 244) hx hb (by omega) dJ30_putVal_236 (by decide) (fun c236 => ?_) (fun c236 => by omega)
                    refine lv_aload hx hb dJ30_putVal_244 (lv_at hl 2 rfl) ?_
                    refine lv_aload_n hx hb dJ30_putVal_246 rfl (lv_at hl 6 rfl) ?_
                    refine z_putT (w := [(m0, ob 6 [.null, .null, .ref T, .null, iV (es.length : Nat), iV mc, iV 12, .float 1061158912]), (T, aN G 16 f)]) (t := nds nx es) hx hb hts hk V hown K_J33 i9 (nds_at hi9 rfl) 2 (by decide) q2288 (fun _ h => h) rfl rfl rfl (Nat.le_of_ble_eq_true rfl) dJ30_putVal_247 (fun H locs V => ?_)
                    have V := VV.to (w' := ([(m0, ob 6 [.null, .null, .ref T, .null, iV (es.length : Nat), iV mc, iV 12, .float 1061158912]), (T, aN G 16 f)] ++ (nds nx (es.set i9 (e2.1, e2.2.1, e2.2.2.1, va))))) (congrArg (fun z => [(m0, ob 6 [.null, .null, .ref T, .null, iV (es.length : Nat), iV mc, iV 12, .float 1061158912]), (T, aN G 16 f)] ++ z) (nds_val (nx := nx) h3 hi9 va)) V
                    refine lv_aload_n hx hb dJ30_putVal_250 rfl (lv_at hl 3 rfl) ?_
                    refine lv_aload hx hb dJ30_putVal_251 (lv_at hl 2 rfl) ?_
                    refine z_callV ⟨hx, hb, hml, hown, hts⟩ hk hl.1 V (wc := []) (wr := ([(m0, ob 6 [.null, .null, .ref T, .null, iV (es.length : Nat), iV mc, iV 12, .float 1061158912]), (T, aN G 16 f)] ++ (nds nx (es.set i9 (e2.1, e2.2.1, e2.2.2.1, va))))) [] ([0, 1] ++ tIx [(m0, ob 6 [.null, .null, .ref T, .null, iV (es.length : Nat), iV mc, iV 12, .float 1061158912]), (T, aN G 16 f)] (nds nx (es.set i9 (e2.1, e2.2.1, e2.2.2.1, va)))) (idxN (w := [(m0, ob 6 [.null, .null, .ref T, .null, iV (es.length : Nat), iV mc, iV 12, .float 1061158912]), (T, aN G 16 f)]) (t := (nds nx (es.set i9 (e2.1, e2.2.1, e2.2.2.1, va)))) (wC := []) (is := []) rfl) (idxT (w := [(m0, ob 6 [.null, .null, .ref T, .null, iV (es.length : Nat), iV mc, iV 12, .float 1061158912]), (T, aN G 16 f)]) (t := (nds nx (es.set i9 (e2.1, e2.2.1, e2.2.2.1, va)))) (wC := [(m0, ob 6 [.null, .null, .ref T, .null, iV (es.length : Nat), iV mc, iV 12, .float 1061158912]), (T, aN G 16 f)]) (is := [0, 1]) rfl) rfl (ndT (w := [(m0, ob 6 [.null, .null, .ref T, .null, iV (es.length : Nat), iV mc, iV 12, .float 1061158912]), (T, aN G 16 f)]) (t := (nds nx (es.set i9 (e2.1, e2.2.1, e2.2.2.1, va)))) (wC := [(m0, ob 6 [.null, .null, .ref T, .null, iV (es.length : Nat), iV mc, iV 12, .float 1061158912]), (T, aN G 16 f)]) (is := [0, 1]) rfl rfl) (disT2 (w := [(m0, ob 6 [.null, .null, .ref T, .null, iV (es.length : Nat), iV mc, iV 12, .float 1061158912]), (T, aN G 16 f)]) (t := (nds nx (es.set i9 (e2.1, e2.2.1, e2.2.2.1, va)))) (wC := []) (isC := []) rfl (by decide)) (As := [.ref e2.1]) (rest := []) (fun hp => ct_HM_ana l G m0 e2.1 hp) (cwV 1 hts (lw_V q2376 q2377 q2378 q121 q2379) rfl rfl rfl (by decide +kernel) ⟨Nat.le_of_ble_eq_true rfl, Nat.le_of_ble_eq_true rfl⟩) (z_rc hk (V.w 0 rfl) (q := (RJ30, TJ30, 8)) rfl) rfl rfl (Nat.le_of_ble_eq_true rfl) dJ30_putVal_253 ⟨Nat.le_of_ble_eq_true rfl, Nat.le_of_ble_eq_true rfl⟩ (fun v F1 w1 H locs hq hle hou V => ?_)
                    obtain ⟨rfl, rfl, rfl⟩ := hq
                    have V := VV.rot1 V
                    refine W.eq (g2 := F0 m 256 ls []) rfl ?_
                    have V : VV G _ _ F ([(m0, ob 6 [.null, .null, .ref T, .null, iV (es.length : Nat), iV mc, iV 12, .float 1061158912]), (T, aN G 16 f)] ++ (nds nx (es.set i9 (e2.1, e2.2.1, e2.2.2.1, va)))) _ _ _ := V
                    refine lv_aload hx hb dJ30_putVal_256 (lv_at hl 0 rfl) ?_
                    have V := V.sub (w1 := ([(m0, ob 6 [.null, .null, .ref T, .null, iV (es.length : Nat), iV mc, iV 12, .float 1061158912]), (T, aN G 16 f)] ++ (nds nx (es.set i9 (e2.1, e2.2.1, e2.2.2.1, va))))) ([0, 1] ++ tIx [(m0, ob 6 [.null, .null, .ref T, .null, iV (es.length : Nat), iV mc, iV 12, .float 1061158912]), (T, aN G 16 f)] (nds nx (es.set i9 (e2.1, e2.2.1, e2.2.2.1, va)))) (ndT (w := [(m0, ob 6 [.null, .null, .ref T, .null, iV (es.length : Nat), iV mc, iV 12, .float 1061158912]), (T, aN G 16 f)]) (t := (nds nx (es.set i9 (e2.1, e2.2.1, e2.2.2.1, va)))) (wC := [(m0, ob 6 [.null, .null, .ref T, .null, iV (es.length : Nat), iV mc, iV 12, .float 1061158912]), (T, aN G 16 f)]) (is := [0, 1]) rfl rfl) (idxT (w := [(m0, ob 6 [.null, .null, .ref T, .null, iV (es.length : Nat), iV mc, iV 12, .float 1061158912]), (T, aN G 16 f)]) (t := (nds nx (es.set i9 (e2.1, e2.2.1, e2.2.2.1, va)))) (wC := [(m0, ob 6 [.null, .null, .ref T, .null, iV (es.length : Nat), iV mc, iV 12, .float 1061158912]), (T, aN G 16 f)]) (is := [0, 1]) rfl)
                    exact z_aret hx hb hr hlk V (Or.inl ⟨_, rfl⟩) (Or.inr ⟨_, rfl⟩) dJ30_putVal_258 ⟨rfl, Or.inl ⟨i9, e2, hi9, hee_e2, rfl, Or.inr ⟨T, f, nx, mc, HMo.upd hO hi9 va, by rw [List.length_set]⟩⟩⟩ ⟨Nat.le_of_ble_eq_true rfl, Nat.le_of_ble_eq_true rfl⟩
        exact loop _ 0 e0 _ _ _ (Nat.lt_succ_self _) hc0 (fun j e hj hje => by
          have hj0 : j = 0 := by omega
          subst hj0
          rw [hc0] at hje
          cases hje
          exact hne_e0) V (lv_sub hl [5, 6, 7, 8, 9, 10, 4, 1, 3, 2, 0] rfl)
      · skip
        refine lv_aload hx hb dJ30_putVal_72 (lv_at hl 0 rfl) ?_
        refine z_get hx hb hts hk hown K_J33 hn_e0 1 (by decide) q2286 (fun _ h => h) rfl dJ30_putVal_74 ?_
        refine lv_dup hx hb dJ30_putVal_77 rfl ?_
        refine lv_astore (lv' := [(11, .ref e0.2.1), (7, .ref e0.1), (9, iV (bk t : Nat)), (8, iV 16), (6, .ref T), (0, .ref m0), (1, iV (hz t)), (2, .ref a), (3, .ref va), (4, iV 0), (5, iV 1)]) hx hb dJ30_putVal_78 hl (by decide) rfl (fun ls hl => ?_)
        refine lv_aload_n hx hb dJ30_putVal_80 rfl (lv_at hl 7 rfl) ?_
        refine z_acmp_eq (tgt := 97) hx hb dJ30_putVal_81 (by decide) (fun he81 => ?_) (fun he81 => ?_)
        · skip
          have hee_e0 : e0.2.2.1 = t := SF.eq (Or.inl (he81 ▸ hke_e0)) (Or.inl h)
          obtain ⟨i9, hi9⟩ := List.getElem?_of_mem hm_e0
          refine lv_aload hx hb dJ30_putVal_97 (lv_at hl 1 rfl) ?_
          refine lv_astore (lv' := [(10, .ref e0.1), (11, .ref e0.2.1), (7, .ref e0.1), (9, iV (bk t : Nat)), (8, iV 16), (6, .ref T), (0, .ref m0), (1, iV (hz t)), (2, .ref a), (3, .ref va), (4, iV 0), (5, iV 1)]) hx hb dJ30_putVal_99 hl (by decide) rfl (fun ls hl => ?_)
          refine lv_goto (tgt := 222) hx hb dJ30_putVal_101 (by decide) ?_
          refine lv_aload hx hb dJ30_putVal_222 (lv_at hl 0 rfl) ?_
          refine lv_ifnull hx hb dJ30_putVal_224 ?_
          refine lv_aload hx hb dJ30_putVal_227 (lv_at hl 0 rfl) ?_
          refine z_get hx hb hts hk hown K_J33 hn_e0 2 (by decide) q2288 (fun _ h => h) rfl dJ30_putVal_229 ?_
          refine lv_astore (lv' := [(12, .ref e0.2.2.2), (10, .ref e0.1), (11, .ref e0.2.1), (7, .ref e0.1), (9, iV (bk t : Nat)), (8, iV 16), (6, .ref T), (0, .ref m0), (1, iV (hz t)), (2, .ref a), (3, .ref va), (4, iV 0), (5, iV 1)]) hx hb dJ30_putVal_232 hl (by decide) rfl (fun ls hl => ?_)
          refine lv_iload hx hb dJ30_putVal_234 (lv_at hl 11 rfl) ?_
          refine z_if_eq (tgt := 244) hx hb (by omega) dJ30_putVal_236 (by decide) (fun c236 => ?_) (fun c236 => by omega)
          refine lv_aload hx hb dJ30_putVal_244 (lv_at hl 1 rfl) ?_
          refine lv_aload_n hx hb dJ30_putVal_246 rfl (lv_at hl 10 rfl) ?_
          refine z_putT (w := [(m0, ob 6 [.null, .null, .ref T, .null, iV (es.length : Nat), iV mc, iV 12, .float 1061158912]), (T, aN G 16 f)]) (t := nds nx es) hx hb hts hk V hown K_J33 i9 (nds_at hi9 rfl) 2 (by decide) q2288 (fun _ h => h) rfl rfl rfl (Nat.le_of_ble_eq_true rfl) dJ30_putVal_247 (fun H locs V => ?_)
          have V := VV.to (w' := ([(m0, ob 6 [.null, .null, .ref T, .null, iV (es.length : Nat), iV mc, iV 12, .float 1061158912]), (T, aN G 16 f)] ++ (nds nx (es.set i9 (e0.1, e0.2.1, e0.2.2.1, va))))) (congrArg (fun z => [(m0, ob 6 [.null, .null, .ref T, .null, iV (es.length : Nat), iV mc, iV 12, .float 1061158912]), (T, aN G 16 f)] ++ z) (nds_val (nx := nx) h3 hi9 va)) V
          refine lv_aload_n hx hb dJ30_putVal_250 rfl (lv_at hl 7 rfl) ?_
          refine lv_aload hx hb dJ30_putVal_251 (lv_at hl 1 rfl) ?_
          refine z_callV ⟨hx, hb, hml, hown, hts⟩ hk hl.1 V (wc := []) (wr := ([(m0, ob 6 [.null, .null, .ref T, .null, iV (es.length : Nat), iV mc, iV 12, .float 1061158912]), (T, aN G 16 f)] ++ (nds nx (es.set i9 (e0.1, e0.2.1, e0.2.2.1, va))))) [] ([0, 1] ++ tIx [(m0, ob 6 [.null, .null, .ref T, .null, iV (es.length : Nat), iV mc, iV 12, .float 1061158912]), (T, aN G 16 f)] (nds nx (es.set i9 (e0.1, e0.2.1, e0.2.2.1, va)))) (idxN (w := [(m0, ob 6 [.null, .null, .ref T, .null, iV (es.length : Nat), iV mc, iV 12, .float 1061158912]), (T, aN G 16 f)]) (t := (nds nx (es.set i9 (e0.1, e0.2.1, e0.2.2.1, va)))) (wC := []) (is := []) rfl) (idxT (w := [(m0, ob 6 [.null, .null, .ref T, .null, iV (es.length : Nat), iV mc, iV 12, .float 1061158912]), (T, aN G 16 f)]) (t := (nds nx (es.set i9 (e0.1, e0.2.1, e0.2.2.1, va)))) (wC := [(m0, ob 6 [.null, .null, .ref T, .null, iV (es.length : Nat), iV mc, iV 12, .float 1061158912]), (T, aN G 16 f)]) (is := [0, 1]) rfl) rfl (ndT (w := [(m0, ob 6 [.null, .null, .ref T, .null, iV (es.length : Nat), iV mc, iV 12, .float 1061158912]), (T, aN G 16 f)]) (t := (nds nx (es.set i9 (e0.1, e0.2.1, e0.2.2.1, va)))) (wC := [(m0, ob 6 [.null, .null, .ref T, .null, iV (es.length : Nat), iV mc, iV 12, .float 1061158912]), (T, aN G 16 f)]) (is := [0, 1]) rfl rfl) (disT2 (w := [(m0, ob 6 [.null, .null, .ref T, .null, iV (es.length : Nat), iV mc, iV 12, .float 1061158912]), (T, aN G 16 f)]) (t := (nds nx (es.set i9 (e0.1, e0.2.1, e0.2.2.1, va)))) (wC := []) (isC := []) rfl (by decide)) (As := [.ref e0.1]) (rest := []) (fun hp => ct_HM_ana l G m0 e0.1 hp) (cwV 1 hts (lw_V q2376 q2377 q2378 q121 q2379) rfl rfl rfl (by decide +kernel) ⟨Nat.le_of_ble_eq_true rfl, Nat.le_of_ble_eq_true rfl⟩) (z_rc hk (V.w 0 rfl) (q := (RJ30, TJ30, 8)) rfl) rfl rfl (Nat.le_of_ble_eq_true rfl) dJ30_putVal_253 ⟨Nat.le_of_ble_eq_true rfl, Nat.le_of_ble_eq_true rfl⟩ (fun v F1 w1 H locs hq hle hou V => ?_)
          obtain ⟨rfl, rfl, rfl⟩ := hq
          have V := VV.rot1 V
          refine W.eq (g2 := F0 m 256 ls []) rfl ?_
          have V : VV G _ _ F ([(m0, ob 6 [.null, .null, .ref T, .null, iV (es.length : Nat), iV mc, iV 12, .float 1061158912]), (T, aN G 16 f)] ++ (nds nx (es.set i9 (e0.1, e0.2.1, e0.2.2.1, va)))) _ _ _ := V
          refine lv_aload hx hb dJ30_putVal_256 (lv_at hl 0 rfl) ?_
          have V := V.sub (w1 := ([(m0, ob 6 [.null, .null, .ref T, .null, iV (es.length : Nat), iV mc, iV 12, .float 1061158912]), (T, aN G 16 f)] ++ (nds nx (es.set i9 (e0.1, e0.2.1, e0.2.2.1, va))))) ([0, 1] ++ tIx [(m0, ob 6 [.null, .null, .ref T, .null, iV (es.length : Nat), iV mc, iV 12, .float 1061158912]), (T, aN G 16 f)] (nds nx (es.set i9 (e0.1, e0.2.1, e0.2.2.1, va)))) (ndT (w := [(m0, ob 6 [.null, .null, .ref T, .null, iV (es.length : Nat), iV mc, iV 12, .float 1061158912]), (T, aN G 16 f)]) (t := (nds nx (es.set i9 (e0.1, e0.2.1, e0.2.2.1, va)))) (wC := [(m0, ob 6 [.null, .null, .ref T, .null, iV (es.length : Nat), iV mc, iV 12, .float 1061158912]), (T, aN G 16 f)]) (is := [0, 1]) rfl rfl) (idxT (w := [(m0, ob 6 [.null, .null, .ref T, .null, iV (es.length : Nat), iV mc, iV 12, .float 1061158912]), (T, aN G 16 f)]) (t := (nds nx (es.set i9 (e0.1, e0.2.1, e0.2.2.1, va)))) (wC := [(m0, ob 6 [.null, .null, .ref T, .null, iV (es.length : Nat), iV mc, iV 12, .float 1061158912]), (T, aN G 16 f)]) (is := [0, 1]) rfl)
          exact z_aret hx hb hr hlk V (Or.inl ⟨_, rfl⟩) (Or.inr ⟨_, rfl⟩) dJ30_putVal_258 ⟨rfl, Or.inl ⟨i9, e0, hi9, hee_e0, rfl, Or.inr ⟨T, f, nx, mc, HMo.upd hO hi9 va, by rw [List.length_set]⟩⟩⟩ ⟨Nat.le_of_ble_eq_true rfl, Nat.le_of_ble_eq_true rfl⟩
        · skip
          refine lv_aload_n hx hb dJ30_putVal_84 rfl (lv_at hl 7 rfl) ?_
          refine lv_ifnull hx hb dJ30_putVal_85 ?_
          refine lv_aload_n hx hb dJ30_putVal_88 rfl (lv_at hl 7 rfl) ?_
          refine lv_aload hx hb dJ30_putVal_89 (lv_at hl 0 rfl) ?_
          obtain ⟨v9, h9, z9, hF9, hB9, hrel9, hat9, hbf9⟩ := SH.at h V
          refine z_callU ⟨hx, hb, hml, hown, hts⟩ hk hl.1 V (wc := []) (wr := ([(m0, ob 6 [.null, .null, .ref T, .null, iV (es.length : Nat), iV mc, iV 12, .float 1061158912]), (T, aN G 16 f)] ++ (nds nx es))) [] ([0, 1] ++ tIx [(m0, ob 6 [.null, .null, .ref T, .null, iV (es.length : Nat), iV mc, iV 12, .float 1061158912]), (T, aN G 16 f)] (nds nx es)) (idxN (w := [(m0, ob 6 [.null, .null, .ref T, .null, iV (es.length : Nat), iV mc, iV 12, .float 1061158912]), (T, aN G 16 f)]) (t := (nds nx es)) (wC := []) (is := []) rfl) (idxT (w := [(m0, ob 6 [.null, .null, .ref T, .null, iV (es.length : Nat), iV mc, iV 12, .float 1061158912]), (T, aN G 16 f)]) (t := (nds nx es)) (wC := [(m0, ob 6 [.null, .null, .ref T, .null, iV (es.length : Nat), iV mc, iV 12, .float 1061158912]), (T, aN G 16 f)]) (is := [0, 1]) rfl) rfl (ndT (w := [(m0, ob 6 [.null, .null, .ref T, .null, iV (es.length : Nat), iV mc, iV 12, .float 1061158912]), (T, aN G 16 f)]) (t := (nds nx es)) (wC := [(m0, ob 6 [.null, .null, .ref T, .null, iV (es.length : Nat), iV mc, iV 12, .float 1061158912]), (T, aN G 16 f)]) (is := [0, 1]) rfl rfl) (disT2 (w := [(m0, ob 6 [.null, .null, .ref T, .null, iV (es.length : Nat), iV mc, iV 12, .float 1061158912]), (T, aN G 16 f)]) (t := (nds nx es)) (wC := []) (isC := []) rfl (by decide)) (As := [.ref e0.2.1]) (rest := []) (fun hp => ct_S_equals l G a e0.2.1 t e0.2.2.1 (Or.inl h) (Or.inl hke_e0) hp) (va_cwO (owner := "java/lang/Object") 1 hts (lw_app (lw_in6 q1918 q1920 q1919 q1955 q1098 q81) (lw_meth q1100)) rfl rfl rfl q1961 (by decide +kernel) ⟨Nat.le_of_ble_eq_true rfl, Nat.le_of_ble_eq_true rfl⟩) (z_rc hk hat9 (q := (RJ6, TJ6, 4)) rfl) rfl rfl (Nat.le_of_ble_eq_true rfl) dJ30_putVal_91 ⟨Nat.le_of_ble_eq_true rfl, Nat.le_of_ble_eq_true rfl⟩ (fun v F1 w1 H locs hq hle hou V => ?_)
          obtain ⟨rfl, rfl, rfl⟩ := hq
          have V := VV.rot1 V
          refine W.eq (g2 := F0 m 94 ls [iV (bZ (decide (t = e0.2.2.1)))]) rfl ?_
          have V : VV G _ _ F ([(m0, ob 6 [.null, .null, .ref T, .null, iV (es.length : Nat), iV mc, iV 12, .float 1061158912]), (T, aN G 16 f)] ++ (nds nx es)) _ _ _ := V
          have hn_e0 := nd_at V hm_e0 (show va_rf (nx e0.1) = va_rf (nx e0.1) from rfl)
          have hbz : bZ (decide (t = e0.2.2.1)) = 0 ∨ bZ (decide (t = e0.2.2.1)) = 1 := by unfold bZ; split <;> simp
          refine z_if_eq (tgt := 104) hx hb (by omega) dJ30_putVal_94 (by decide) (fun c94 => ?_) (fun c94 => ?_)
          · skip
            have hne_e0 : e0.2.2.1 ≠ t := fun e9 => by rw [decide_eq_true e9.symm] at c94; exact absurd c94 (by decide)
            refine lv_aload hx hb dJ30_putVal_104 (lv_at hl 1 rfl) ?_
            refine va_instNo hx hb hown (hts _ q1962) (hk.nc 0 rfl) (z_rc hk hn_e0 (q := (RJ33, TJ33, 4)) rfl) dJ30_putVal_106 ?_
            refine W.eq (g2 := F0 m 109 ls [iV 0]) rfl ?_
            refine z_if_eq (tgt := 131) hx hb (by omega) dJ30_putVal_109 (by decide) (fun c109 => ?_) (fun c109 => by omega)
            refine lv_iconst (v := iZ 0) hx hb dJ30_putVal_131 rfl ?_
            refine lv_istore (lv' := [(12, iV 0), (11, .ref e0.2.1), (7, .ref e0.1), (9, iV (bk t : Nat)), (8, iV 16), (6, .ref T), (0, .ref m0), (1, iV (hz t)), (2, .ref a), (3, .ref va), (4, iV 0), (5, iV 1)]) hx hb dJ30_putVal_132 hl (by decide) rfl (fun ls hl => ?_)
            have loop : ∀ (n : Nat) (i : Nat) (ei : En) (H : Heap) (locs : List Loc) (ls : Array Slot), (ch es (bk t)).length - i < n → ((ch es (bk t))[i]? = some ei) → (∀ (j : Nat) (e : En), j ≤ i → (ch es (bk t))[j]? = some e → e.2.2.1 ≠ t) → VV G (FR F ([(m0, ob 6 [.null, .null, .ref T, .null, iV (es.length : Nat), iV mc, iV 12, .float 1061158912]), (T, aN G 16 f)] ++ (nds nx es)) Ha) F F ([(m0, ob 6 [.null, .null, .ref T, .null, iV (es.length : Nat), iV mc, iV 12, .float 1061158912]), (T, aN G 16 f)] ++ (nds nx es)) Ha H locs → lv_has ls 13 [(0, .ref m0), (1, iV (hz t)), (2, .ref a), (3, .ref va), (4, iV 0), (5, iV 1), (6, .ref T), (7, .ref ei.1), (8, iV 16), (9, iV (bk t : Nat)), (12, iV (i : Nat))] → W p l e ({ frames := 3, cells := 3, slots := 40, locals := 88 } : Room) s m [.ref m0, iV (hz t), .ref a, .ref va, iV 0, iV 1].toArray below meth c H locs 0 0 (MQ below (Qz G F ([(m0, ob 6 [.null, .null, .ref T, .null, iV (es.length : Nat), iV mc, iV 12, .float 1061158912]), (T, aN G 16 f)] ++ (nds nx es)) Ha (fun rv F' w' => F = F' ∧ ((∃ (i : Nat) (e : En), es[i]? = some e ∧ e.2.2.1 = t ∧ rv = some (.ref e.2.2.2) ∧ HM G F m0 (es.set i (e.1, e.2.1, e.2.2.1, va)) w') ∨ (fnd es t = none ∧ rv = some .null ∧ ∃ n : Nat, HM G F m0 (es ++ [(n, a, t, va)]) w')))) [.ref m0, iV (hz t), .ref a, .ref va, iV 0, iV 1].toArray s 3 40 (FR F ([(m0, ob 6 [.null, .null, .ref T, .null, iV (es.length : Nat), iV mc, iV 12, .float 1061158912]), (T, aN G 16 f)] ++ (nds nx es)) Ha)) (F0 m 134 ls []) := by
              intro n
              induction n with
              | zero => intro i ei H locs ls hm9; exact absurd hm9 (Nat.not_lt_zero _)
              | succ n ih_loop =>
                intro i ei H locs ls hm9 hci hno V hl
                have hm_ei := (ch_mem hci).1
                have hxi := h6 (bk t) i ei.1 (cha_ch hci)
                have hli := (List.getElem?_eq_some_iff.mp hci).1
                have hcl : (ch es (bk t)).length ≤ 7 := by rw [show (ch es (bk t)).length = (cha es (bk t)).length by unfold cha; rw [List.length_map]]; exact hbk
                cases hc2 : (ch es (bk t))[i + 1]? with
                | none =>
                  have hx2 : nx ei.1 = none := by rw [hxi]; unfold cha; rw [List.getElem?_map, hc2]; rfl
                  have hE : fnd es t = none := fnd_none (fun j e hj => hno j e (by have hl0 := List.getElem?_eq_none_iff.mp hc2; have hl1 := (List.getElem?_eq_some_iff.mp hj).1; omega) hj)
                  obtain ⟨i9, hi9⟩ := List.getElem?_of_mem hm_ei
                  have hn_ei := nd_at V hm_ei (show va_rf (nx ei.1) = .null from (by rw [hx2]; rfl))
                  refine lv_aload hx hb dJ30_putVal_134 (lv_at hl 7 rfl) ?_
                  refine z_get hx hb hts hk hown K_J33 hn_ei 3 (by decide) q2293 (fun _ h => h) rfl dJ30_putVal_136 ?_
                  refine lv_dup hx hb dJ30_putVal_139 rfl ?_
                  refine lv_astoreN (lv' := [(10, .null), (0, .ref m0), (1, iV (hz t)), (2, .ref a), (3, .ref va), (4, iV 0), (5, iV 1), (6, .ref T), (7, .ref ei.1), (8, iV 16), (9, iV (bk t : Nat)), (12, iV (i : Nat))]) hx hb dJ30_putVal_140 hl (by decide) rfl (fun ls hl => ?_)
                  refine lv_ifnonnullN hx hb dJ30_putVal_142 ?_
                  refine lv_aload hx hb dJ30_putVal_145 (lv_at hl 8 rfl) ?_
                  refine lv_aload_n hx hb dJ30_putVal_147 rfl (lv_at hl 1 rfl) ?_
                  refine lv_iload_n hx hb dJ30_putVal_148 rfl (lv_at hl 2 rfl) ?_
                  refine lv_aload_n hx hb dJ30_putVal_149 rfl (lv_at hl 3 rfl) ?_
                  refine lv_aload_n hx hb dJ30_putVal_150 rfl (lv_at hl 4 rfl) ?_
                  refine lv_null hx hb dJ30_putVal_151 ?_
                  refine z_callV ⟨hx, hb, hml, hown, hts⟩ hk hl.1 V (wc := []) (wr := ([(m0, ob 6 [.null, .null, .ref T, .null, iV (es.length : Nat), iV mc, iV 12, .float 1061158912]), (T, aN G 16 f)] ++ (nds nx es))) [] ([0, 1] ++ tIx [(m0, ob 6 [.null, .null, .ref T, .null, iV (es.length : Nat), iV mc, iV 12, .float 1061158912]), (T, aN G 16 f)] (nds nx es)) (idxN (w := [(m0, ob 6 [.null, .null, .ref T, .null, iV (es.length : Nat), iV mc, iV 12, .float 1061158912]), (T, aN G 16 f)]) (t := (nds nx es)) (wC := []) (is := []) rfl) (idxT (w := [(m0, ob 6 [.null, .null, .ref T, .null, iV (es.length : Nat), iV mc, iV 12, .float 1061158912]), (T, aN G 16 f)]) (t := (nds nx es)) (wC := [(m0, ob 6 [.null, .null, .ref T, .null, iV (es.length : Nat), iV mc, iV 12, .float 1061158912]), (T, aN G 16 f)]) (is := [0, 1]) rfl) rfl (ndT (w := [(m0, ob 6 [.null, .null, .ref T, .null, iV (es.length : Nat), iV mc, iV 12, .float 1061158912]), (T, aN G 16 f)]) (t := (nds nx es)) (wC := [(m0, ob 6 [.null, .null, .ref T, .null, iV (es.length : Nat), iV mc, iV 12, .float 1061158912]), (T, aN G 16 f)]) (is := [0, 1]) rfl rfl) (disT2 (w := [(m0, ob 6 [.null, .null, .ref T, .null, iV (es.length : Nat), iV mc, iV 12, .float 1061158912]), (T, aN G 16 f)]) (t := (nds nx es)) (wC := []) (isC := []) rfl (by decide)) (As := [iV (hz t), .ref a, .ref va, .null]) (rest := [.ref ei.1]) (fun hp => ct_HM_newNode l G m0 a va (hz t) hp) (cwV 4 hts (lw_V q2322 q2323 q2324 q121 q2325) rfl rfl rfl (by decide +kernel) ⟨Nat.le_of_ble_eq_true rfl, Nat.le_of_ble_eq_true rfl⟩) (z_rc hk (V.w 0 rfl) (q := (RJ30, TJ30, 8)) rfl) rfl rfl (Nat.le_of_ble_eq_true rfl) dJ30_putVal_152 ⟨Nat.le_of_ble_eq_true rfl, Nat.le_of_ble_eq_true rfl⟩ (fun v F1 w1 H locs hq hle hou V => ?_)
                  obtain ⟨n, rfl, rfl, rfl⟩ := hq
                  have V := VV.rot1 V
                  refine W.eq (g2 := F0 m 155 ls [.ref n, .ref ei.1]) rfl ?_
                  have V : VV G _ _ F ([(m0, ob 6 [.null, .null, .ref T, .null, iV (es.length : Nat), iV mc, iV 12, .float 1061158912]), (T, aN G 16 f), (n, ob 7 [iV (hz t), .ref a, .ref va, .null])] ++ (nds nx es)) _ _ _ := V
                  have hfr : n ∉ es.map (fun e => e.1) := fresh_of (w := [(m0, ob 6 [.null, .null, .ref T, .null, iV (es.length : Nat), iV mc, iV 12, .float 1061158912]), (T, aN G 16 f), (n, ob 7 [iV (hz t), .ref a, .ref va, .null])]) V 2 rfl
                  refine z_putT (w := [(m0, ob 6 [.null, .null, .ref T, .null, iV (es.length : Nat), iV mc, iV 12, .float 1061158912]), (T, aN G 16 f), (n, ob 7 [iV (hz t), .ref a, .ref va, .null])]) (t := nds nx es) hx hb hts hk V hown K_J33 i9 (nds_at hi9 rfl) 3 (by decide) q2293 (fun _ h => h) rfl rfl rfl (Nat.le_of_ble_eq_true rfl) dJ30_putVal_155 (fun H locs V => ?_)
                  have V := VV.to (w' := ([(m0, ob 6 [.null, .null, .ref T, .null, iV (es.length : Nat), iV mc, iV 12, .float 1061158912]), (T, aN G 16 f), (n, ob 7 [iV (hz t), .ref a, .ref va, .null])] ++ (nds (va_up nx ei.1 (some n)) es))) (congrArg (fun z => [(m0, ob 6 [.null, .null, .ref T, .null, iV (es.length : Nat), iV mc, iV 12, .float 1061158912]), (T, aN G 16 f), (n, ob 7 [iV (hz t), .ref a, .ref va, .null])] ++ z) (nds_next (nx := nx) h3 hi9 (some n))) V
                  refine lv_iload hx hb dJ30_putVal_158 (lv_at hl 11 rfl) ?_
                  refine lv_bipush (v := iZ 7) hx hb dJ30_putVal_160 (by decide) ?_
                  refine z_icmp_lt (tgt := 222) hx hb (by omega) dJ30_putVal_162 (by decide) (fun c162 => ?_) (fun c162 => by omega)
                  refine lv_aloadN hx hb dJ30_putVal_222 (lv_at hl 0 rfl) ?_
                  refine lv_ifnullN (tgt := 259) hx hb dJ30_putVal_224 (by decide) ?_
                  refine lv_aload_n hx hb dJ30_putVal_259 rfl (lv_at hl 1 rfl) ?_
                  refine lv_dup hx hb dJ30_putVal_260 rfl ?_
                  refine z_get hx hb hts hk hown K_J30 (V.w 0 rfl) 5 (by decide) q1777 (fun _ h => h) rfl dJ30_putVal_261 ?_
                  refine lv_iconst (v := iZ 1) hx hb dJ30_putVal_264 rfl ?_
                  refine z_iadd hx hb dJ30_putVal_265 ?_
                  refine z_put hx hb hts hk V hown K_J30 0 rfl 5 (by decide) q1777 (fun _ h => h) rfl rfl rfl (Nat.le_of_ble_eq_true rfl) dJ30_putVal_266 (fun H locs V => ?_)
                  have V : VV G _ _ F ([(m0, ob 6 [.null, .null, .ref T, .null, iV (es.length : Nat), iV (mc + 1), iV 12, .float 1061158912]), (T, aN G 16 f), (n, ob 7 [iV (hz t), .ref a, .ref va, .null])] ++ (nds (va_up nx ei.1 (some n)) es)) _ _ _ := V
                  refine lv_aload_n hx hb dJ30_putVal_269 rfl (lv_at hl 1 rfl) ?_
                  refine lv_dup hx hb dJ30_putVal_270 rfl ?_
                  refine z_get hx hb hts hk hown K_J30 (V.w 0 rfl) 4 (by decide) q1776 (fun _ h => h) rfl dJ30_putVal_271 ?_
                  refine lv_iconst (v := iZ 1) hx hb dJ30_putVal_274 rfl ?_
                  refine z_iadd hx hb dJ30_putVal_275 ?_
                  refine lv_dup_x1 hx hb dJ30_putVal_276 rfl rfl ?_
                  refine z_put hx hb hts hk V hown K_J30 0 rfl 4 (by decide) q1776 (fun _ h => h) rfl rfl rfl (Nat.le_of_ble_eq_true rfl) dJ30_putVal_277 (fun H locs V => ?_)
                  have V : VV G _ _ F ([(m0, ob 6 [.null, .null, .ref T, .null, iV ((es.length : Nat) + 1), iV (mc + 1), iV 12, .float 1061158912]), (T, aN G 16 f), (n, ob 7 [iV (hz t), .ref a, .ref va, .null])] ++ (nds (va_up nx ei.1 (some n)) es)) _ _ _ := V
                  refine lv_aload_n hx hb dJ30_putVal_280 rfl (lv_at hl 1 rfl) ?_
                  refine z_get hx hb hts hk hown K_J30 (V.w 0 rfl) 6 (by decide) q1778 (fun _ h => h) rfl dJ30_putVal_281 ?_
                  refine z_icmp_le (tgt := 292) hx hb (by omega) dJ30_putVal_284 (by decide) (fun c284 => ?_) (fun c284 => by omega)
                  refine lv_aload_n hx hb dJ30_putVal_292 rfl (lv_at hl 1 rfl) ?_
                  refine lv_iload hx hb dJ30_putVal_293 (lv_at hl 6 rfl) ?_
                  refine z_callV ⟨hx, hb, hml, hown, hts⟩ hk hl.1 V (wc := []) (wr := ([(m0, ob 6 [.null, .null, .ref T, .null, iV ((es.length : Nat) + 1), iV (mc + 1), iV 12, .float 1061158912]), (T, aN G 16 f), (n, ob 7 [iV (hz t), .ref a, .ref va, .null])] ++ (nds (va_up nx ei.1 (some n)) es))) [] ([0, 1, 2] ++ tIx [(m0, ob 6 [.null, .null, .ref T, .null, iV ((es.length : Nat) + 1), iV (mc + 1), iV 12, .float 1061158912]), (T, aN G 16 f), (n, ob 7 [iV (hz t), .ref a, .ref va, .null])] (nds (va_up nx ei.1 (some n)) es)) (idxN (w := [(m0, ob 6 [.null, .null, .ref T, .null, iV ((es.length : Nat) + 1), iV (mc + 1), iV 12, .float 1061158912]), (T, aN G 16 f), (n, ob 7 [iV (hz t), .ref a, .ref va, .null])]) (t := (nds (va_up nx ei.1 (some n)) es)) (wC := []) (is := []) rfl) (idxT (w := [(m0, ob 6 [.null, .null, .ref T, .null, iV ((es.length : Nat) + 1), iV (mc + 1), iV 12, .float 1061158912]), (T, aN G 16 f), (n, ob 7 [iV (hz t), .ref a, .ref va, .null])]) (t := (nds (va_up nx ei.1 (some n)) es)) (wC := [(m0, ob 6 [.null, .null, .ref T, .null, iV ((es.length : Nat) + 1), iV (mc + 1), iV 12, .float 1061158912]), (T, aN G 16 f), (n, ob 7 [iV (hz t), .ref a, .ref va, .null])]) (is := [0, 1, 2]) rfl) rfl (ndT (w := [(m0, ob 6 [.null, .null, .ref T, .null, iV ((es.length : Nat) + 1), iV (mc + 1), iV 12, .float 1061158912]), (T, aN G 16 f), (n, ob 7 [iV (hz t), .ref a, .ref va, .null])]) (t := (nds (va_up nx ei.1 (some n)) es)) (wC := [(m0, ob 6 [.null, .null, .ref T, .null, iV ((es.length : Nat) + 1), iV (mc + 1), iV 12, .float 1061158912]), (T, aN G 16 f), (n, ob 7 [iV (hz t), .ref a, .ref va, .null])]) (is := [0, 1, 2]) rfl rfl) (disT2 (w := [(m0, ob 6 [.null, .null, .ref T, .null, iV ((es.length : Nat) + 1), iV (mc + 1), iV 12, .float 1061158912]), (T, aN G 16 f), (n, ob 7 [iV (hz t), .ref a, .ref va, .null])]) (t := (nds (va_up nx ei.1 (some n)) es)) (wC := []) (isC := []) rfl (by decide)) (As := [iV 1]) (rest := []) (fun hp => ct_HM_ani l G m0 hp) (cwV 1 hts (lw_V q2380 q2381 q2382 q121 q2383) rfl rfl rfl (by decide +kernel) ⟨Nat.le_of_ble_eq_true rfl, Nat.le_of_ble_eq_true rfl⟩) (z_rc hk (V.w 0 rfl) (q := (RJ30, TJ30, 8)) rfl) rfl rfl (Nat.le_of_ble_eq_true rfl) dJ30_putVal_295 ⟨Nat.le_of_ble_eq_true rfl, Nat.le_of_ble_eq_true rfl⟩ (fun v F1 w1 H locs hq hle hou V => ?_)
                  obtain ⟨rfl, rfl, rfl⟩ := hq
                  have V := VV.rot1 V
                  refine W.eq (g2 := F0 m 298 ls []) rfl ?_
                  have V : VV G _ _ F ([(m0, ob 6 [.null, .null, .ref T, .null, iV ((es.length : Nat) + 1), iV (mc + 1), iV 12, .float 1061158912]), (T, aN G 16 f), (n, ob 7 [iV (hz t), .ref a, .ref va, .null])] ++ (nds (va_up nx ei.1 (some n)) es)) _ _ _ := V
                  refine lv_null hx hb dJ30_putVal_298 ?_
                  have V := V.sub (w1 := ([(m0, ob 6 [.null, .null, .ref T, .null, iV ((es.length : Nat) + 1), iV (mc + 1), iV 12, .float 1061158912]), (T, aN G 16 f), (n, ob 7 [iV (hz t), .ref a, .ref va, .null])] ++ (nds (va_up nx ei.1 (some n)) es))) ([0, 1, 2] ++ tIx [(m0, ob 6 [.null, .null, .ref T, .null, iV ((es.length : Nat) + 1), iV (mc + 1), iV 12, .float 1061158912]), (T, aN G 16 f), (n, ob 7 [iV (hz t), .ref a, .ref va, .null])] (nds (va_up nx ei.1 (some n)) es)) (ndT (w := [(m0, ob 6 [.null, .null, .ref T, .null, iV ((es.length : Nat) + 1), iV (mc + 1), iV 12, .float 1061158912]), (T, aN G 16 f), (n, ob 7 [iV (hz t), .ref a, .ref va, .null])]) (t := (nds (va_up nx ei.1 (some n)) es)) (wC := [(m0, ob 6 [.null, .null, .ref T, .null, iV ((es.length : Nat) + 1), iV (mc + 1), iV 12, .float 1061158912]), (T, aN G 16 f), (n, ob 7 [iV (hz t), .ref a, .ref va, .null])]) (is := [0, 1, 2]) rfl rfl) (idxT (w := [(m0, ob 6 [.null, .null, .ref T, .null, iV ((es.length : Nat) + 1), iV (mc + 1), iV 12, .float 1061158912]), (T, aN G 16 f), (n, ob 7 [iV (hz t), .ref a, .ref va, .null])]) (t := (nds (va_up nx ei.1 (some n)) es)) (wC := [(m0, ob 6 [.null, .null, .ref T, .null, iV ((es.length : Nat) + 1), iV (mc + 1), iV 12, .float 1061158912]), (T, aN G 16 f), (n, ob 7 [iV (hz t), .ref a, .ref va, .null])]) (is := [0, 1, 2]) rfl)
                  have V := VV.rot1 (w := [(m0, ob 6 [.null, .null, .ref T, .null, iV ((es.length : Nat) + 1), iV (mc + 1), iV 12, .float 1061158912]), (T, aN G 16 f)]) (t := [(n, ob 7 [iV (hz t), .ref a, .ref va, .null])]) V
                  have V := VV.to (w' := [(m0, ob 6 [.null, .null, .ref T, .null, iV ((es.length : Nat) + 1), iV (mc + 1), iV 12, .float 1061158912]), (T, aN G 16 f)] ++ nds (va_up (va_up nx ei.1 (some n)) n none) (es ++ [(n, a, t, va)])) (by rw [nds_app hfr, ← List.append_assoc]) V
                  exact z_aret hx hb hr hlk V (Or.inl ⟨_, rfl⟩) (Or.inl rfl) dJ30_putVal_299 ⟨rfl, Or.inr ⟨hE, rfl, n, Or.inr ⟨T, f, va_up (va_up nx ei.1 (some n)) n none, mc + 1, HMo.add1 hO h hE hfr hcap hci hc2, by simp⟩⟩⟩ ⟨Nat.le_of_ble_eq_true rfl, Nat.le_of_ble_eq_true rfl⟩
                | some e2 =>
                  have hx2 : nx ei.1 = some e2.1 := by rw [hxi]; exact cha_ch hc2
                  have hm_e2 := (ch_mem hc2).1
                  have hn_ei := nd_at V hm_ei (show va_rf (nx ei.1) = .ref e2.1 from (by rw [hx2]; rfl))
                  have hn_e2 := nd_at V hm_e2 (show va_rf (nx e2.1) = va_rf (nx e2.1) from rfl)
                  refine lv_aload hx hb dJ30_putVal_134 (lv_at hl 7 rfl) ?_
                  refine z_get hx hb hts hk hown K_J33 hn_ei 3 (by decide) q2293 (fun _ h => h) rfl dJ30_putVal_136 ?_
                  refine lv_dup hx hb dJ30_putVal_139 rfl ?_
                  refine lv_astore (lv' := [(10, .ref e2.1), (0, .ref m0), (1, iV (hz t)), (2, .ref a), (3, .ref va), (4, iV 0), (5, iV 1), (6, .ref T), (7, .ref ei.1), (8, iV 16), (9, iV (bk t : Nat)), (12, iV (i : Nat))]) hx hb dJ30_putVal_140 hl (by decide) rfl (fun ls hl => ?_)
                  refine lv_ifnonnull (tgt := 175) hx hb dJ30_putVal_142 (by decide) ?_
                  have hke_e2 := h1 _ hm_e2
                  have hzb_e2 := hz_B e2.2.2.1
                  refine lv_aload hx hb dJ30_putVal_175 (lv_at hl 0 rfl) ?_
                  refine z_get hx hb hts hk hown K_J33 hn_e2 0 (by decide) q2282 (fun _ h => h) rfl dJ30_putVal_177 ?_
                  refine lv_iload_n hx hb dJ30_putVal_180 rfl (lv_at hl 2 rfl) ?_
                  refine z_icmp_ne (tgt := 212) hx hb (by omega) dJ30_putVal_181 (by decide) (fun c181 => ?_) (fun c181 => ?_)
                  · skip
                    have hne_e2 : e2.2.2.1 ≠ t := fun e9 => by rw [e9] at c181; exact c181 rfl
                    refine lv_aload hx hb dJ30_putVal_212 (lv_at hl 0 rfl) ?_
                    refine lv_astore (lv' := [(7, .ref e2.1), (10, .ref e2.1), (0, .ref m0), (1, iV (hz t)), (2, .ref a), (3, .ref va), (4, iV 0), (5, iV 1), (6, .ref T), (8, iV 16), (9, iV (bk t : Nat)), (12, iV (i : Nat))]) hx hb dJ30_putVal_214 hl (by decide) rfl (fun ls hl => ?_)
                    refine lv_iinc (v := iZ ((i : Nat) + 1)) (lv' := [(12, iV ((i : Nat) + 1)), (7, .ref e2.1), (10, .ref e2.1), (0, .ref m0), (1, iV (hz t)), (2, .ref a), (3, .ref va), (4, iV 0), (5, iV 1), (6, .ref T), (8, iV 16), (9, iV (bk t : Nat))]) hx hb dJ30_putVal_216 hl (k := 11) rfl (iZ_add _ _) (by decide) rfl (fun ls hl => ?_)
                    have hno2 : ∀ (j : Nat) (e : En), j ≤ i + 1 → (ch es (bk t))[j]? = some e → e.2.2.1 ≠ t := fun j e hj hje => by
                      by_cases hji : j = i + 1
                      · subst hji; rw [hc2] at hje; cases hje; exact hne_e2
                      · exact hno j e (by omega) hje
                    refine lv_goto (tgt := 134) hx hb dJ30_putVal_219 (by decide) ?_
                    exact ih_loop (i + 1) e2 _ _ _ (by omega) hc2 hno2 V (lv_sub hl [3, 4, 5, 6, 7, 8, 9, 1, 10, 11, 0] rfl)
                  · skip
                    refine lv_aload hx hb dJ30_putVal_184 (lv_at hl 0 rfl) ?_
                    refine z_get hx hb hts hk hown K_J33 hn_e2 1 (by decide) q2286 (fun _ h => h) rfl dJ30_putVal_186 ?_
                    refine lv_dup hx hb dJ30_putVal_189 rfl ?_
                    refine lv_astore (lv' := [(11, .ref e2.2.1), (10, .ref e2.1), (0, .ref m0), (1, iV (hz t)), (2, .ref a), (3, .ref va), (4, iV 0), (5, iV 1), (6, .ref T), (7, .ref ei.1), (8, iV 16), (9, iV (bk t : Nat)), (12, iV (i : Nat))]) hx hb dJ30_putVal_190 hl (by decide) rfl (fun ls hl => ?_)
                    refine lv_aload_n hx hb dJ30_putVal_192 rfl (lv_at hl 4 rfl) ?_
                    refine z_acmp_eq (tgt := 222) hx hb dJ30_putVal_193 (by decide) (fun he193 => ?_) (fun he193 => ?_)
                    · skip
                      have hee_e2 : e2.2.2.1 = t := SF.eq (Or.inl (he193 ▸ hke_e2)) (Or.inl h)
                      obtain ⟨i9, hi9⟩ := List.getElem?_of_mem hm_e2
                      refine lv_aload hx hb dJ30_putVal_222 (lv_at hl 1 rfl) ?_
                      refine lv_ifnull hx hb dJ30_putVal_224 ?_
                      refine lv_aload hx hb dJ30_putVal_227 (lv_at hl 1 rfl) ?_
                      refine z_get hx hb hts hk hown K_J33 hn_e2 2 (by decide) q2288 (fun _ h => h) rfl dJ30_putVal_229 ?_
                      refine lv_astore (lv' := [(12, .ref e2.2.2.2), (11, .ref e2.2.1), (10, .ref e2.1), (0, .ref m0), (1, iV (hz t)), (2, .ref a), (3, .ref va), (4, iV 0), (5, iV 1), (6, .ref T), (7, .ref ei.1), (8, iV 16), (9, iV (bk t : Nat))]) hx hb dJ30_putVal_232 hl (by decide) rfl (fun ls hl => ?_)
                      refine lv_iload hx hb dJ30_putVal_234 (lv_at hl 7 rfl) ?_
                      refine z_if_eq (tgt := 244) hx hb (by omega) dJ30_putVal_236 (by decide) (fun c236 => ?_) (fun c236 => by omega)
                      refine lv_aload hx hb dJ30_putVal_244 (lv_at hl 2 rfl) ?_
                      refine lv_aload_n hx hb dJ30_putVal_246 rfl (lv_at hl 6 rfl) ?_
                      refine z_putT (w := [(m0, ob 6 [.null, .null, .ref T, .null, iV (es.length : Nat), iV mc, iV 12, .float 1061158912]), (T, aN G 16 f)]) (t := nds nx es) hx hb hts hk V hown K_J33 i9 (nds_at hi9 rfl) 2 (by decide) q2288 (fun _ h => h) rfl rfl rfl (Nat.le_of_ble_eq_true rfl) dJ30_putVal_247 (fun H locs V => ?_)
                      have V := VV.to (w' := ([(m0, ob 6 [.null, .null, .ref T, .null, iV (es.length : Nat), iV mc, iV 12, .float 1061158912]), (T, aN G 16 f)] ++ (nds nx (es.set i9 (e2.1, e2.2.1, e2.2.2.1, va))))) (congrArg (fun z => [(m0, ob 6 [.null, .null, .ref T, .null, iV (es.length : Nat), iV mc, iV 12, .float 1061158912]), (T, aN G 16 f)] ++ z) (nds_val (nx := nx) h3 hi9 va)) V
                      refine lv_aload_n hx hb dJ30_putVal_250 rfl (lv_at hl 3 rfl) ?_
                      refine lv_aload hx hb dJ30_putVal_251 (lv_at hl 2 rfl) ?_
                      refine z_callV ⟨hx, hb, hml, hown, hts⟩ hk hl.1 V (wc := []) (wr := ([(m0, ob 6 [.null, .null, .ref T, .null, iV (es.length : Nat), iV mc, iV 12, .float 1061158912]), (T, aN G 16 f)] ++ (nds nx (es.set i9 (e2.1, e2.2.1, e2.2.2.1, va))))) [] ([0, 1] ++ tIx [(m0, ob 6 [.null, .null, .ref T, .null, iV (es.length : Nat), iV mc, iV 12, .float 1061158912]), (T, aN G 16 f)] (nds nx (es.set i9 (e2.1, e2.2.1, e2.2.2.1, va)))) (idxN (w := [(m0, ob 6 [.null, .null, .ref T, .null, iV (es.length : Nat), iV mc, iV 12, .float 1061158912]), (T, aN G 16 f)]) (t := (nds nx (es.set i9 (e2.1, e2.2.1, e2.2.2.1, va)))) (wC := []) (is := []) rfl) (idxT (w := [(m0, ob 6 [.null, .null, .ref T, .null, iV (es.length : Nat), iV mc, iV 12, .float 1061158912]), (T, aN G 16 f)]) (t := (nds nx (es.set i9 (e2.1, e2.2.1, e2.2.2.1, va)))) (wC := [(m0, ob 6 [.null, .null, .ref T, .null, iV (es.length : Nat), iV mc, iV 12, .float 1061158912]), (T, aN G 16 f)]) (is := [0, 1]) rfl) rfl (ndT (w := [(m0, ob 6 [.null, .null, .ref T, .null, iV (es.length : Nat), iV mc, iV 12, .float 1061158912]), (T, aN G 16 f)]) (t := (nds nx (es.set i9 (e2.1, e2.2.1, e2.2.2.1, va)))) (wC := [(m0, ob 6 [.null, .null, .ref T, .null, iV (es.length : Nat), iV mc, iV 12, .float 1061158912]), (T, aN G 16 f)]) (is := [0, 1]) rfl rfl) (disT2 (w := [(m0, ob 6 [.null, .null, .ref T, .null, iV (es.length : Nat), iV mc, iV 12, .float 1061158912]), (T, aN G 16 f)]) (t := (nds nx (es.set i9 (e2.1, e2.2.1, e2.2.2.1, va)))) (wC := []) (isC := []) rfl (by decide)) (As := [.ref e2.1]) (rest := []) (fun hp => ct_HM_ana l G m0 e2.1 hp) (cwV 1 hts (lw_V q2376 q2377 q2378 q121 q2379) rfl rfl rfl (by decide +kernel) ⟨Nat.le_of_ble_eq_true rfl, Nat.le_of_ble_eq_true rfl⟩) (z_rc hk (V.w 0 rfl) (q := (RJ30, TJ30, 8)) rfl) rfl rfl (Nat.le_of_ble_eq_true rfl) dJ30_putVal_253 ⟨Nat.le_of_ble_eq_true rfl, Nat.le_of_ble_eq_true rfl⟩ (fun v F1 w1 H locs hq hle hou V => ?_)
                      obtain ⟨rfl, rfl, rfl⟩ := hq
                      have V := VV.rot1 V
                      refine W.eq (g2 := F0 m 256 ls []) rfl ?_
                      have V : VV G _ _ F ([(m0, ob 6 [.null, .null, .ref T, .null, iV (es.length : Nat), iV mc, iV 12, .float 1061158912]), (T, aN G 16 f)] ++ (nds nx (es.set i9 (e2.1, e2.2.1, e2.2.2.1, va)))) _ _ _ := V
                      refine lv_aload hx hb dJ30_putVal_256 (lv_at hl 0 rfl) ?_
                      have V := V.sub (w1 := ([(m0, ob 6 [.null, .null, .ref T, .null, iV (es.length : Nat), iV mc, iV 12, .float 1061158912]), (T, aN G 16 f)] ++ (nds nx (es.set i9 (e2.1, e2.2.1, e2.2.2.1, va))))) ([0, 1] ++ tIx [(m0, ob 6 [.null, .null, .ref T, .null, iV (es.length : Nat), iV mc, iV 12, .float 1061158912]), (T, aN G 16 f)] (nds nx (es.set i9 (e2.1, e2.2.1, e2.2.2.1, va)))) (ndT (w := [(m0, ob 6 [.null, .null, .ref T, .null, iV (es.length : Nat), iV mc, iV 12, .float 1061158912]), (T, aN G 16 f)]) (t := (nds nx (es.set i9 (e2.1, e2.2.1, e2.2.2.1, va)))) (wC := [(m0, ob 6 [.null, .null, .ref T, .null, iV (es.length : Nat), iV mc, iV 12, .float 1061158912]), (T, aN G 16 f)]) (is := [0, 1]) rfl rfl) (idxT (w := [(m0, ob 6 [.null, .null, .ref T, .null, iV (es.length : Nat), iV mc, iV 12, .float 1061158912]), (T, aN G 16 f)]) (t := (nds nx (es.set i9 (e2.1, e2.2.1, e2.2.2.1, va)))) (wC := [(m0, ob 6 [.null, .null, .ref T, .null, iV (es.length : Nat), iV mc, iV 12, .float 1061158912]), (T, aN G 16 f)]) (is := [0, 1]) rfl)
                      exact z_aret hx hb hr hlk V (Or.inl ⟨_, rfl⟩) (Or.inr ⟨_, rfl⟩) dJ30_putVal_258 ⟨rfl, Or.inl ⟨i9, e2, hi9, hee_e2, rfl, Or.inr ⟨T, f, nx, mc, HMo.upd hO hi9 va, by rw [List.length_set]⟩⟩⟩ ⟨Nat.le_of_ble_eq_true rfl, Nat.le_of_ble_eq_true rfl⟩
                    · skip
                      refine lv_aload_n hx hb dJ30_putVal_196 rfl (lv_at hl 4 rfl) ?_
                      refine lv_ifnull hx hb dJ30_putVal_197 ?_
                      refine lv_aload_n hx hb dJ30_putVal_200 rfl (lv_at hl 4 rfl) ?_
                      refine lv_aload hx hb dJ30_putVal_201 (lv_at hl 0 rfl) ?_
                      obtain ⟨v9, h9, z9, hF9, hB9, hrel9, hat9, hbf9⟩ := SH.at h V
                      refine z_callU ⟨hx, hb, hml, hown, hts⟩ hk hl.1 V (wc := []) (wr := ([(m0, ob 6 [.null, .null, .ref T, .null, iV (es.length : Nat), iV mc, iV 12, .float 1061158912]), (T, aN G 16 f)] ++ (nds nx es))) [] ([0, 1] ++ tIx [(m0, ob 6 [.null, .null, .ref T, .null, iV (es.length : Nat), iV mc, iV 12, .float 1061158912]), (T, aN G 16 f)] (nds nx es)) (idxN (w := [(m0, ob 6 [.null, .null, .ref T, .null, iV (es.length : Nat), iV mc, iV 12, .float 1061158912]), (T, aN G 16 f)]) (t := (nds nx es)) (wC := []) (is := []) rfl) (idxT (w := [(m0, ob 6 [.null, .null, .ref T, .null, iV (es.length : Nat), iV mc, iV 12, .float 1061158912]), (T, aN G 16 f)]) (t := (nds nx es)) (wC := [(m0, ob 6 [.null, .null, .ref T, .null, iV (es.length : Nat), iV mc, iV 12, .float 1061158912]), (T, aN G 16 f)]) (is := [0, 1]) rfl) rfl (ndT (w := [(m0, ob 6 [.null, .null, .ref T, .null, iV (es.length : Nat), iV mc, iV 12, .float 1061158912]), (T, aN G 16 f)]) (t := (nds nx es)) (wC := [(m0, ob 6 [.null, .null, .ref T, .null, iV (es.length : Nat), iV mc, iV 12, .float 1061158912]), (T, aN G 16 f)]) (is := [0, 1]) rfl rfl) (disT2 (w := [(m0, ob 6 [.null, .null, .ref T, .null, iV (es.length : Nat), iV mc, iV 12, .float 1061158912]), (T, aN G 16 f)]) (t := (nds nx es)) (wC := []) (isC := []) rfl (by decide)) (As := [.ref e2.2.1]) (rest := []) (fun hp => ct_S_equals l G a e2.2.1 t e2.2.2.1 (Or.inl h) (Or.inl hke_e2) hp) (va_cwO (owner := "java/lang/Object") 1 hts (lw_app (lw_in6 q1918 q1920 q1919 q1955 q1098 q81) (lw_meth q1100)) rfl rfl rfl q1961 (by decide +kernel) ⟨Nat.le_of_ble_eq_true rfl, Nat.le_of_ble_eq_true rfl⟩) (z_rc hk hat9 (q := (RJ6, TJ6, 4)) rfl) rfl rfl (Nat.le_of_ble_eq_true rfl) dJ30_putVal_203 ⟨Nat.le_of_ble_eq_true rfl, Nat.le_of_ble_eq_true rfl⟩ (fun v F1 w1 H locs hq hle hou V => ?_)
                      obtain ⟨rfl, rfl, rfl⟩ := hq
                      have V := VV.rot1 V
                      refine W.eq (g2 := F0 m 206 ls [iV (bZ (decide (t = e2.2.2.1)))]) rfl ?_
                      have V : VV G _ _ F ([(m0, ob 6 [.null, .null, .ref T, .null, iV (es.length : Nat), iV mc, iV 12, .float 1061158912]), (T, aN G 16 f)] ++ (nds nx es)) _ _ _ := V
                      have hn_ei := nd_at V hm_ei (show va_rf (nx ei.1) = .ref e2.1 from (by rw [hx2]; rfl))
                      have hn_e2 := nd_at V hm_e2 (show va_rf (nx e2.1) = va_rf (nx e2.1) from rfl)
                      have hbz : bZ (decide (t = e2.2.2.1)) = 0 ∨ bZ (decide (t = e2.2.2.1)) = 1 := by unfold bZ; split <;> simp
                      refine z_if_eq (tgt := 212) hx hb (by omega) dJ30_putVal_206 (by decide) (fun c206 => ?_) (fun c206 => ?_)
                      · skip
                        have hne_e2 : e2.2.2.1 ≠ t := fun e9 => by rw [decide_eq_true e9.symm] at c206; exact absurd c206 (by decide)
                        refine lv_aload hx hb dJ30_putVal_212 (lv_at hl 1 rfl) ?_
                        refine lv_astore (lv' := [(7, .ref e2.1), (11, .ref e2.2.1), (10, .ref e2.1), (0, .ref m0), (1, iV (hz t)), (2, .ref a), (3, .ref va), (4, iV 0), (5, iV 1), (6, .ref T), (8, iV 16), (9, iV (bk t : Nat)), (12, iV (i : Nat))]) hx hb dJ30_putVal_214 hl (by decide) rfl (fun ls hl => ?_)
                        refine lv_iinc (v := iZ ((i : Nat) + 1)) (lv' := [(12, iV ((i : Nat) + 1)), (7, .ref e2.1), (11, .ref e2.2.1), (10, .ref e2.1), (0, .ref m0), (1, iV (hz t)), (2, .ref a), (3, .ref va), (4, iV 0), (5, iV 1), (6, .ref T), (8, iV 16), (9, iV (bk t : Nat))]) hx hb dJ30_putVal_216 hl (k := 12) rfl (iZ_add _ _) (by decide) rfl (fun ls hl => ?_)
                        have hno2 : ∀ (j : Nat) (e : En), j ≤ i + 1 → (ch es (bk t))[j]? = some e → e.2.2.1 ≠ t := fun j e hj hje => by
                          by_cases hji : j = i + 1
                          · subst hji; rw [hc2] at hje; cases hje; exact hne_e2
                          · exact hno j e (by omega) hje
                        refine lv_goto (tgt := 134) hx hb dJ30_putVal_219 (by decide) ?_
                        exact ih_loop (i + 1) e2 _ _ _ (by omega) hc2 hno2 V (lv_sub hl [4, 5, 6, 7, 8, 9, 10, 1, 11, 12, 0] rfl)
                      · skip
                        have hee_e2 : e2.2.2.1 = t := Classical.byContradiction fun e9 => by rw [decide_eq_false (fun e8 => e9 e8.symm)] at c206; exact c206 rfl
                        obtain ⟨i9, hi9⟩ := List.getElem?_of_mem hm_e2
                        refine lv_goto (tgt := 222) hx hb dJ30_putVal_209 (by decide) ?_
                        refine lv_aload hx hb dJ30_putVal_222 (lv_at hl 1 rfl) ?_
                        refine lv_ifnull hx hb dJ30_putVal_224 ?_
                        refine lv_aload hx hb dJ30_putVal_227 (lv_at hl 1 rfl) ?_
                        refine z_get hx hb hts hk hown K_J33 hn_e2 2 (by decide) q2288 (fun _ h => h) rfl dJ30_putVal_229 ?_
                        refine lv_astore (lv' := [(12, .ref e2.2.2.2), (11, .ref e2.2.1), (10, .ref e2.1), (0, .ref m0), (1, iV (hz t)), (2, .ref a), (3, .ref va), (4, iV 0), (5, iV 1), (6, .ref T), (7, .ref ei.1), (8, iV 16), (9, iV (bk t : Nat))]) hx hb dJ30_putVal_232 hl (by decide) rfl (fun ls hl => ?_)
                        refine lv_iload hx hb dJ30_putVal_234 (lv_at hl 7 rfl) ?_
                        refine z_if_eq (tgt := 244) hx hb (by omega) dJ30_putVal_236 (by decide) (fun c236 => ?_) (fun c236 => by omega)
                        refine lv_aload hx hb dJ30_putVal_244 (lv_at hl 2 rfl) ?_
                        refine lv_aload_n hx hb dJ30_putVal_246 rfl (lv_at hl 6 rfl) ?_
                        refine z_putT (w := [(m0, ob 6 [.null, .null, .ref T, .null, iV (es.length : Nat), iV mc, iV 12, .float 1061158912]), (T, aN G 16 f)]) (t := nds nx es) hx hb hts hk V hown K_J33 i9 (nds_at hi9 rfl) 2 (by decide) q2288 (fun _ h => h) rfl rfl rfl (Nat.le_of_ble_eq_true rfl) dJ30_putVal_247 (fun H locs V => ?_)
                        have V := VV.to (w' := ([(m0, ob 6 [.null, .null, .ref T, .null, iV (es.length : Nat), iV mc, iV 12, .float 1061158912]), (T, aN G 16 f)] ++ (nds nx (es.set i9 (e2.1, e2.2.1, e2.2.2.1, va))))) (congrArg (fun z => [(m0, ob 6 [.null, .null, .ref T, .null, iV (es.length : Nat), iV mc, iV 12, .float 1061158912]), (T, aN G 16 f)] ++ z) (nds_val (nx := nx) h3 hi9 va)) V
                        refine lv_aload_n hx hb dJ30_putVal_250 rfl (lv_at hl 3 rfl) ?_
                        refine lv_aload hx hb dJ30_putVal_251 (lv_at hl 2 rfl) ?_
                        refine z_callV ⟨hx, hb, hml, hown, hts⟩ hk hl.1 V (wc := []) (wr := ([(m0, ob 6 [.null, .null, .ref T, .null, iV (es.length : Nat), iV mc, iV 12, .float 1061158912]), (T, aN G 16 f)] ++ (nds nx (es.set i9 (e2.1, e2.2.1, e2.2.2.1, va))))) [] ([0, 1] ++ tIx [(m0, ob 6 [.null, .null, .ref T, .null, iV (es.length : Nat), iV mc, iV 12, .float 1061158912]), (T, aN G 16 f)] (nds nx (es.set i9 (e2.1, e2.2.1, e2.2.2.1, va)))) (idxN (w := [(m0, ob 6 [.null, .null, .ref T, .null, iV (es.length : Nat), iV mc, iV 12, .float 1061158912]), (T, aN G 16 f)]) (t := (nds nx (es.set i9 (e2.1, e2.2.1, e2.2.2.1, va)))) (wC := []) (is := []) rfl) (idxT (w := [(m0, ob 6 [.null, .null, .ref T, .null, iV (es.length : Nat), iV mc, iV 12, .float 1061158912]), (T, aN G 16 f)]) (t := (nds nx (es.set i9 (e2.1, e2.2.1, e2.2.2.1, va)))) (wC := [(m0, ob 6 [.null, .null, .ref T, .null, iV (es.length : Nat), iV mc, iV 12, .float 1061158912]), (T, aN G 16 f)]) (is := [0, 1]) rfl) rfl (ndT (w := [(m0, ob 6 [.null, .null, .ref T, .null, iV (es.length : Nat), iV mc, iV 12, .float 1061158912]), (T, aN G 16 f)]) (t := (nds nx (es.set i9 (e2.1, e2.2.1, e2.2.2.1, va)))) (wC := [(m0, ob 6 [.null, .null, .ref T, .null, iV (es.length : Nat), iV mc, iV 12, .float 1061158912]), (T, aN G 16 f)]) (is := [0, 1]) rfl rfl) (disT2 (w := [(m0, ob 6 [.null, .null, .ref T, .null, iV (es.length : Nat), iV mc, iV 12, .float 1061158912]), (T, aN G 16 f)]) (t := (nds nx (es.set i9 (e2.1, e2.2.1, e2.2.2.1, va)))) (wC := []) (isC := []) rfl (by decide)) (As := [.ref e2.1]) (rest := []) (fun hp => ct_HM_ana l G m0 e2.1 hp) (cwV 1 hts (lw_V q2376 q2377 q2378 q121 q2379) rfl rfl rfl (by decide +kernel) ⟨Nat.le_of_ble_eq_true rfl, Nat.le_of_ble_eq_true rfl⟩) (z_rc hk (V.w 0 rfl) (q := (RJ30, TJ30, 8)) rfl) rfl rfl (Nat.le_of_ble_eq_true rfl) dJ30_putVal_253 ⟨Nat.le_of_ble_eq_true rfl, Nat.le_of_ble_eq_true rfl⟩ (fun v F1 w1 H locs hq hle hou V => ?_)
                        obtain ⟨rfl, rfl, rfl⟩ := hq
                        have V := VV.rot1 V
                        refine W.eq (g2 := F0 m 256 ls []) rfl ?_
                        have V : VV G _ _ F ([(m0, ob 6 [.null, .null, .ref T, .null, iV (es.length : Nat), iV mc, iV 12, .float 1061158912]), (T, aN G 16 f)] ++ (nds nx (es.set i9 (e2.1, e2.2.1, e2.2.2.1, va)))) _ _ _ := V
                        refine lv_aload hx hb dJ30_putVal_256 (lv_at hl 0 rfl) ?_
                        have V := V.sub (w1 := ([(m0, ob 6 [.null, .null, .ref T, .null, iV (es.length : Nat), iV mc, iV 12, .float 1061158912]), (T, aN G 16 f)] ++ (nds nx (es.set i9 (e2.1, e2.2.1, e2.2.2.1, va))))) ([0, 1] ++ tIx [(m0, ob 6 [.null, .null, .ref T, .null, iV (es.length : Nat), iV mc, iV 12, .float 1061158912]), (T, aN G 16 f)] (nds nx (es.set i9 (e2.1, e2.2.1, e2.2.2.1, va)))) (ndT (w := [(m0, ob 6 [.null, .null, .ref T, .null, iV (es.length : Nat), iV mc, iV 12, .float 1061158912]), (T, aN G 16 f)]) (t := (nds nx (es.set i9 (e2.1, e2.2.1, e2.2.2.1, va)))) (wC := [(m0, ob 6 [.null, .null, .ref T, .null, iV (es.length : Nat), iV mc, iV 12, .float 1061158912]), (T, aN G 16 f)]) (is := [0, 1]) rfl rfl) (idxT (w := [(m0, ob 6 [.null, .null, .ref T, .null, iV (es.length : Nat), iV mc, iV 12, .float 1061158912]), (T, aN G 16 f)]) (t := (nds nx (es.set i9 (e2.1, e2.2.1, e2.2.2.1, va)))) (wC := [(m0, ob 6 [.null, .null, .ref T, .null, iV (es.length : Nat), iV mc, iV 12, .float 1061158912]), (T, aN G 16 f)]) (is := [0, 1]) rfl)
                        exact z_aret hx hb hr hlk V (Or.inl ⟨_, rfl⟩) (Or.inr ⟨_, rfl⟩) dJ30_putVal_258 ⟨rfl, Or.inl ⟨i9, e2, hi9, hee_e2, rfl, Or.inr ⟨T, f, nx, mc, HMo.upd hO hi9 va, by rw [List.length_set]⟩⟩⟩ ⟨Nat.le_of_ble_eq_true rfl, Nat.le_of_ble_eq_true rfl⟩
            exact loop _ 0 e0 _ _ _ (Nat.lt_succ_self _) hc0 (fun j e hj hje => by
              have hj0 : j = 0 := by omega
              subst hj0
              rw [hc0] at hje
              cases hje
              exact hne_e0) V (lv_sub hl [6, 7, 8, 9, 10, 11, 5, 2, 4, 3, 0] rfl)
          · skip
            have hee_e0 : e0.2.2.1 = t := Classical.byContradiction fun e9 => by rw [decide_eq_false (fun e8 => e9 e8.symm)] at c94; exact c94 rfl
            obtain ⟨i9, hi9⟩ := List.getElem?_of_mem hm_e0
            refine lv_aload hx hb dJ30_putVal_97 (lv_at hl 1 rfl) ?_
            refine lv_astore (lv' := [(10, .ref e0.1), (11, .ref e0.2.1), (7, .ref e0.1), (9, iV (bk t : Nat)), (8, iV 16), (6, .ref T), (0, .ref m0), (1, iV (hz t)), (2, .ref a), (3, .ref va), (4, iV 0), (5, iV 1)]) hx hb dJ30_putVal_99 hl (by decide) rfl (fun ls hl => ?_)
            refine lv_goto (tgt := 222) hx hb dJ30_putVal_101 (by decide) ?_
            refine lv_aload hx hb dJ30_putVal_222 (lv_at hl 0 rfl) ?_
            refine lv_ifnull hx hb dJ30_putVal_224 ?_
            refine lv_aload hx hb dJ30_putVal_227 (lv_at hl 0 rfl) ?_
            refine z_get hx hb hts hk hown K_J33 hn_e0 2 (by decide) q2288 (fun _ h => h) rfl dJ30_putVal_229 ?_
            refine lv_astore (lv' := [(12, .ref e0.2.2.2), (10, .ref e0.1), (11, .ref e0.2.1), (7, .ref e0.1), (9, iV (bk t : Nat)), (8, iV 16), (6, .ref T), (0, .ref m0), (1, iV (hz t)), (2, .ref a), (3, .ref va), (4, iV 0), (5, iV 1)]) hx hb dJ30_putVal_232 hl (by decide) rfl (fun ls hl => ?_)
            refine lv_iload hx hb dJ30_putVal_234 (lv_at hl 11 rfl) ?_
            refine z_if_eq (tgt := 244) hx hb (by omega) dJ30_putVal_236 (by decide) (fun c236 => ?_) (fun c236 => by omega)
            refine lv_aload hx hb dJ30_putVal_244 (lv_at hl 1 rfl) ?_
            refine lv_aload_n hx hb dJ30_putVal_246 rfl (lv_at hl 10 rfl) ?_
            refine z_putT (w := [(m0, ob 6 [.null, .null, .ref T, .null, iV (es.length : Nat), iV mc, iV 12, .float 1061158912]), (T, aN G 16 f)]) (t := nds nx es) hx hb hts hk V hown K_J33 i9 (nds_at hi9 rfl) 2 (by decide) q2288 (fun _ h => h) rfl rfl rfl (Nat.le_of_ble_eq_true rfl) dJ30_putVal_247 (fun H locs V => ?_)
            have V := VV.to (w' := ([(m0, ob 6 [.null, .null, .ref T, .null, iV (es.length : Nat), iV mc, iV 12, .float 1061158912]), (T, aN G 16 f)] ++ (nds nx (es.set i9 (e0.1, e0.2.1, e0.2.2.1, va))))) (congrArg (fun z => [(m0, ob 6 [.null, .null, .ref T, .null, iV (es.length : Nat), iV mc, iV 12, .float 1061158912]), (T, aN G 16 f)] ++ z) (nds_val (nx := nx) h3 hi9 va)) V
            refine lv_aload_n hx hb dJ30_putVal_250 rfl (lv_at hl 7 rfl) ?_
            refine lv_aload hx hb dJ30_putVal_251 (lv_at hl 1 rfl) ?_
            refine z_callV ⟨hx, hb, hml, hown, hts⟩ hk hl.1 V (wc := []) (wr := ([(m0, ob 6 [.null, .null, .ref T, .null, iV (es.length : Nat), iV mc, iV 12, .float 1061158912]), (T, aN G 16 f)] ++ (nds nx (es.set i9 (e0.1, e0.2.1, e0.2.2.1, va))))) [] ([0, 1] ++ tIx [(m0, ob 6 [.null, .null, .ref T, .null, iV (es.length : Nat), iV mc, iV 12, .float 1061158912]), (T, aN G 16 f)] (nds nx (es.set i9 (e0.1, e0.2.1, e0.2.2.1, va)))) (idxN (w := [(m0, ob 6 [.null, .null, .ref T, .null, iV (es.length : Nat), iV mc, iV 12, .float 1061158912]), (T, aN G 16 f)]) (t := (nds nx (es.set i9 (e0.1, e0.2.1, e0.2.2.1, va)))) (wC := []) (is := []) rfl) (idxT (w := [(m0, ob 6 [.null, .null, .ref T, .null, iV (es.length : Nat), iV mc, iV 12, .float 1061158912]), (T, aN G 16 f)]) (t := (nds nx (es.set i9 (e0.1, e0.2.1, e0.2.2.1, va)))) (wC := [(m0, ob 6 [.null, .null, .ref T, .null, iV (es.length : Nat), iV mc, iV 12, .float 1061158912]), (T, aN G 16 f)]) (is := [0, 1]) rfl) rfl (ndT (w := [(m0, ob 6 [.null, .null, .ref T, .null, iV (es.length : Nat), iV mc, iV 12, .float 1061158912]), (T, aN G 16 f)]) (t := (nds nx (es.set i9 (e0.1, e0.2.1, e0.2.2.1, va)))) (wC := [(m0, ob 6 [.null, .null, .ref T, .null, iV (es.length : Nat), iV mc, iV 12, .float 1061158912]), (T, aN G 16 f)]) (is := [0, 1]) rfl rfl) (disT2 (w := [(m0, ob 6 [.null, .null, .ref T, .null, iV (es.length : Nat), iV mc, iV 12, .float 1061158912]), (T, aN G 16 f)]) (t := (nds nx (es.set i9 (e0.1, e0.2.1, e0.2.2.1, va)))) (wC := []) (isC := []) rfl (by decide)) (As := [.ref e0.1]) (rest := []) (fun hp => ct_HM_ana l G m0 e0.1 hp) (cwV 1 hts (lw_V q2376 q2377 q2378 q121 q2379) rfl rfl rfl (by decide +kernel) ⟨Nat.le_of_ble_eq_true rfl, Nat.le_of_ble_eq_true rfl⟩) (z_rc hk (V.w 0 rfl) (q := (RJ30, TJ30, 8)) rfl) rfl rfl (Nat.le_of_ble_eq_true rfl) dJ30_putVal_253 ⟨Nat.le_of_ble_eq_true rfl, Nat.le_of_ble_eq_true rfl⟩ (fun v F1 w1 H locs hq hle hou V => ?_)
            obtain ⟨rfl, rfl, rfl⟩ := hq
            have V := VV.rot1 V
            refine W.eq (g2 := F0 m 256 ls []) rfl ?_
            have V : VV G _ _ F ([(m0, ob 6 [.null, .null, .ref T, .null, iV (es.length : Nat), iV mc, iV 12, .float 1061158912]), (T, aN G 16 f)] ++ (nds nx (es.set i9 (e0.1, e0.2.1, e0.2.2.1, va)))) _ _ _ := V
            refine lv_aload hx hb dJ30_putVal_256 (lv_at hl 0 rfl) ?_
            have V := V.sub (w1 := ([(m0, ob 6 [.null, .null, .ref T, .null, iV (es.length : Nat), iV mc, iV 12, .float 1061158912]), (T, aN G 16 f)] ++ (nds nx (es.set i9 (e0.1, e0.2.1, e0.2.2.1, va))))) ([0, 1] ++ tIx [(m0, ob 6 [.null, .null, .ref T, .null, iV (es.length : Nat), iV mc, iV 12, .float 1061158912]), (T, aN G 16 f)] (nds nx (es.set i9 (e0.1, e0.2.1, e0.2.2.1, va)))) (ndT (w := [(m0, ob 6 [.null, .null, .ref T, .null, iV (es.length : Nat), iV mc, iV 12, .float 1061158912]), (T, aN G 16 f)]) (t := (nds nx (es.set i9 (e0.1, e0.2.1, e0.2.2.1, va)))) (wC := [(m0, ob 6 [.null, .null, .ref T, .null, iV (es.length : Nat), iV mc, iV 12, .float 1061158912]), (T, aN G 16 f)]) (is := [0, 1]) rfl rfl) (idxT (w := [(m0, ob 6 [.null, .null, .ref T, .null, iV (es.length : Nat), iV mc, iV 12, .float 1061158912]), (T, aN G 16 f)]) (t := (nds nx (es.set i9 (e0.1, e0.2.1, e0.2.2.1, va)))) (wC := [(m0, ob 6 [.null, .null, .ref T, .null, iV (es.length : Nat), iV mc, iV 12, .float 1061158912]), (T, aN G 16 f)]) (is := [0, 1]) rfl)
            exact z_aret hx hb hr hlk V (Or.inl ⟨_, rfl⟩) (Or.inr ⟨_, rfl⟩) dJ30_putVal_258 ⟨rfl, Or.inl ⟨i9, e0, hi9, hee_e0, rfl, Or.inr ⟨T, f, nx, mc, HMo.upd hO hi9 va, by rw [List.length_set]⟩⟩⟩ ⟨Nat.le_of_ble_eq_true rfl, Nat.le_of_ble_eq_true rfl⟩
set_option maxHeartbeats 4000000 in
theorem ct_HM_put (l : Launch) (G : gG) {F : fS} {Ha : Heap} (m0 a : Nat) (t : List Nat) (h : SH G F a t) (es : List En) (wl : va_W) (hw : HM G F m0 es wl) (va : Nat) (hcap : es.length < 12) (hbk : (cha es (bk t)).length ≤ 7) (hp : Hp G F wl Ha) : CT l G yJ30_put cJ30_put 3 (some (.object "java/lang/Object")) 6 123 3 40 [.ref m0, .ref a, .ref va] F wl Ha (fun rv F' w' => F = F' ∧ ((∃ (i : Nat) (e : En), es[i]? = some e ∧ e.2.2.1 = t ∧ rv = some (.ref e.2.2.2) ∧ HM G F m0 (es.set i (e.1, e.2.1, e.2.2.1, va)) w') ∨ (fnd es t = none ∧ rv = some .null ∧ ∃ n : Nat, HM G F m0 (es ++ [(n, a, t, va)]) w'))) := by
  refine z_of hp (Or.inl (by decide)) (Nat.le_of_ble_eq_true rfl) ?_
  intro p e s m below meth c ls hx hb hr hml hts hown hlk hnm hk hsH V hl
  have hl : lv_has ls 3 [(0, .ref m0), (1, .ref a), (2, .ref va)] := hl
  obtain ⟨fs, hcell⟩ := hw.cell
  refine lv_aload_n hx hb dJ30_put_0 rfl (lv_at hl 0 rfl) ?_
  refine lv_aload_n hx hb dJ30_put_1 rfl (lv_at hl 1 rfl) ?_
  refine z_callS ⟨hx, hb, hml, hown, hts⟩ hk hl.1 V (wc := []) (wr := ([] ++ wl)) [] ([] ++ tIx [] wl) (idxN (w := []) (t := wl) (wC := []) (is := []) rfl) (idxT (w := []) (t := wl) (wC := []) (is := []) rfl) rfl (ndT (w := []) (t := wl) (wC := []) (is := []) rfl rfl) (disT2 (w := []) (t := wl) (wC := []) (isC := []) rfl (by decide)) (As := [.ref a]) (rest := [.ref m0]) (fun hp => ct_HM_hash l G a t h hp) (va_cwS 1 hts (lw_S q1813 q1814 q121 q1815) rfl rfl rfl (by decide +kernel) ⟨Nat.le_of_ble_eq_true rfl, Nat.le_of_ble_eq_true rfl⟩) rfl rfl (Nat.le_of_ble_eq_true rfl) dJ30_put_2 ⟨Nat.le_of_ble_eq_true rfl, Nat.le_of_ble_eq_true rfl⟩ (fun v F1 w1 H locs hq hle hou V => ?_)
  obtain ⟨rfl, rfl, rfl⟩ := hq
  have V := VV.rot1 V
  refine W.eq (g2 := F0 m 5 ls [iV (hz t), .ref m0]) rfl ?_
  have V : VV G _ _ F ([] ++ wl) _ _ _ := V
  refine lv_aload_n hx hb dJ30_put_5 rfl (lv_at hl 1 rfl) ?_
  refine lv_aload_n hx hb dJ30_put_6 rfl (lv_at hl 2 rfl) ?_
  refine lv_iconst (v := iZ 0) hx hb dJ30_put_7 rfl ?_
  refine lv_iconst (v := iZ 1) hx hb dJ30_put_8 rfl ?_
  refine z_callV ⟨hx, hb, hml, hown, hts⟩ hk hl.1 V (wc := wl) (wr := []) ([] ++ tIx [] wl) [] (idxT (w := []) (t := wl) (wC := []) (is := []) rfl) (idxN (w := []) (t := wl) (wC := []) (is := []) rfl) (ndT (w := []) (t := wl) (wC := []) (is := []) rfl rfl) rfl (disT (w := []) (t := wl) (wR := []) (isR := []) rfl (by decide)) (As := [iV (hz t), .ref a, .ref va, iV 0, iV 1]) (rest := []) (fun hp => ct_HM_putVal l G m0 a t h es wl hw va hcap hbk hp) (cwV 5 hts (lw_V q2248 q2249 q2250 q121 q2251) rfl rfl rfl (by decide +kernel) ⟨Nat.le_of_ble_eq_true rfl, Nat.le_of_ble_eq_true rfl⟩) (z_rc hk (V.mem (q := (m0, ob 6 fs)) (by first | exact hcell | simp [hcell])) (q := (RJ30, TJ30, 8)) rfl) rfl rfl (Nat.le_of_ble_eq_true rfl) dJ30_put_9 ⟨Nat.le_of_ble_eq_true rfl, Nat.le_of_ble_eq_true rfl⟩ (fun v F1 w1 H locs hq hle hou V => ?_)
  obtain ⟨rfl, ⟨i9, e9, hi9, ht9, rfl, hw9⟩ | ⟨hE9, rfl, n9, hw9⟩⟩ := hq
  · skip
    have V := VV.asc (z := []) (t := w1) V
    refine W.eq (g2 := F0 m 12 ls [.ref e9.2.2.2]) rfl ?_
    have V : VV G _ _ F ([] ++ w1) _ _ _ := V
    exact z_aret hx hb hr hlk V (Or.inl ⟨_, rfl⟩) (Or.inr ⟨_, rfl⟩) dJ30_put_12 ⟨rfl, Or.inl ⟨i9, e9, hi9, ht9, rfl, hw9⟩⟩ ⟨Nat.le_of_ble_eq_true rfl, Nat.le_of_ble_eq_true rfl⟩
  · skip
    have V := VV.asc (z := []) (t := w1) V
    refine W.eq (g2 := F0 m 12 ls [.null]) rfl ?_
    have V : VV G _ _ F ([] ++ w1) _ _ _ := V
    exact z_aret hx hb hr hlk V (Or.inl ⟨_, rfl⟩) (Or.inl rfl) dJ30_put_12 ⟨rfl, Or.inr ⟨hE9, rfl, n9, hw9⟩⟩ ⟨Nat.le_of_ble_eq_true rfl, Nat.le_of_ble_eq_true rfl⟩
set_option maxHeartbeats 4000000 in
theorem ct_HM_size (l : Launch) (G : gG) {F : fS} {Ha : Heap} (m0 : Nat) (es : List En) (wl : va_W) (hw : HM G F m0 es wl) (hp : Hp G F wl Ha) : CT l G yJ30_size cJ30_size 1 (some .int) 1 12 0 0 [.ref m0] F wl Ha (fun rv F' w' => rv = some (iV (es.length : Nat)) ∧ F = F' ∧ wl = w') := by
  refine z_of hp (Or.inl (by decide)) (Nat.le_of_ble_eq_true rfl) ?_
  intro p e s m below meth c ls hx hb hr hml hts hown hlk hnm hk hsH V hl
  have hl : lv_has ls 1 [(0, .ref m0)] := hl
  obtain ⟨hes, rfl⟩ | ⟨T, f, nx, mc, ho, rfl⟩ := hw
  · skip
    refine lv_aload_n hx hb dJ30_size_0 rfl (lv_at hl 0 rfl) ?_
    refine z_get hx hb hts hk hown K_J30 (V.w 0 rfl) 4 (by decide) q1776 (fun _ h => h) rfl dJ30_size_1 ?_
    exact z_iret hx hb hr hlk V rfl dJ30_size_4 ⟨by rw [hes]; rfl, rfl, rfl⟩ ⟨Nat.le_of_ble_eq_true rfl, Nat.le_of_ble_eq_true rfl⟩
  · skip
    refine lv_aload_n hx hb dJ30_size_0 rfl (lv_at hl 0 rfl) ?_
    refine z_get hx hb hts hk hown K_J30 (V.w 0 rfl) 4 (by decide) q1776 (fun _ h => h) rfl dJ30_size_1 ?_
    exact z_iret hx hb hr hlk V rfl dJ30_size_4 ⟨rfl, rfl, rfl⟩ ⟨Nat.le_of_ble_eq_true rfl, Nat.le_of_ble_eq_true rfl⟩
/-- an owned HashSet of Strings -/
def HS (G : gG) (F : fS) (a : Nat) (es : List En) (w : va_W) : Prop := ∃ (m0 : Nat) (wm : va_W), HM G F m0 es wm ∧ w = [(a, ob 8 [.ref m0])] ++ wm
set_option maxHeartbeats 4000000 in
theorem ct_AS_init (l : Launch) (G : gG) {F : fS} {Ha : Heap} (a : Nat) (hp : Hp G F [] Ha) : CT l G yJ36_init cJ36_init 1 none 2 60 0 0 [.ref a] F [] Ha (fun rv F' w' => rv = none ∧ F = F' ∧ w' = []) := by
  refine z_of hp (Or.inl (by decide)) (Nat.le_of_ble_eq_true rfl) ?_
  intro p e s m below meth c ls hx hb hr hml hts hown hlk hnm hk hsH V hl
  have hl : lv_has ls 1 [(0, .ref a)] := hl
  refine lv_aload_n hx hb dJ36_init_0 rfl (lv_at hl 0 rfl) ?_
  refine z_callI ⟨hx, hb, hml, hown, hts⟩ hk hl.1 V (wc := []) (wr := []) [] [] rfl rfl rfl rfl (by decide) (As := []) (rest := []) (fun hp => ct_AC_init l G a hp) (cwI 0 hts (lw_meth q156) rfl rfl rfl (hts _ q75) (hts _ q2392) (hts _ q155) rfl (by decide +kernel) ⟨Nat.le_of_ble_eq_true rfl, Nat.le_of_ble_eq_true rfl⟩) rfl rfl (Nat.le_of_ble_eq_true rfl) dJ36_init_1 ⟨Nat.le_of_ble_eq_true rfl, Nat.le_of_ble_eq_true rfl⟩ (fun v F1 w1 H locs hq hle hou V => ?_)
  obtain ⟨rfl, rfl, rfl⟩ := hq
  refine W.eq (g2 := F0 m 4 ls []) rfl ?_
  have V : VV G _ _ F [] _ _ _ := V
  exact z_vret hx hb hr hlk V dJ36_init_4 ⟨rfl, rfl, rfl⟩ ⟨Nat.le_of_ble_eq_true rfl, Nat.le_of_ble_eq_true rfl⟩
set_option maxHeartbeats 4000000 in
theorem ct_HS_init (l : Launch) (G : gG) {F : fS} {Ha : Heap} (a : Nat) (hp : Hp G F [(a, ob 8 [.null])] Ha) : CT l G yJ37_init cJ37_init 1 none 3 80 1 8 [.ref a] F [(a, ob 8 [.null])] Ha (fun rv F' w' => rv = none ∧ F = F' ∧ HS G F a [] w') := by
  refine z_of hp (Or.inl (by decide)) (Nat.le_of_ble_eq_true rfl) ?_
  intro p e s m below meth c ls hx hb hr hml hts hown hlk hnm hk hsH V hl
  have hl : lv_has ls 1 [(0, .ref a)] := hl
  refine lv_aload_n hx hb dJ37_init_0 rfl (lv_at hl 0 rfl) ?_
  refine z_callI ⟨hx, hb, hml, hown, hts⟩ hk hl.1 V (wc := []) (wr := [(a, ob 8 [.null])]) [] [0] rfl rfl rfl rfl (by decide) (As := []) (rest := []) (fun hp => ct_AS_init l G a hp) (cwI 0 hts (lw_meth q2391) rfl rfl rfl (hts _ q129) (hts _ q2389) (hts _ q2390) rfl (by decide +kernel) ⟨Nat.le_of_ble_eq_true rfl, Nat.le_of_ble_eq_true rfl⟩) rfl rfl (Nat.le_of_ble_eq_true rfl) dJ37_init_1 ⟨Nat.le_of_ble_eq_true rfl, Nat.le_of_ble_eq_true rfl⟩ (fun v F1 w1 H locs hq hle hou V => ?_)
  obtain ⟨rfl, rfl, rfl⟩ := hq
  refine W.eq (g2 := F0 m 4 ls []) rfl ?_
  have V : VV G _ _ F [(a, ob 8 [.null])] _ _ _ := V
  refine lv_aload_n hx hb dJ37_init_4 rfl (lv_at hl 0 rfl) ?_
  refine z_new (fs := [.null, .null, .null, .null, iV 0, iV 0, iV 0, .float 0]) hx hb hts hk V hown K_J30 q2393 q1766 q121 df_J30 (Nat.le_of_ble_eq_true rfl) (Nat.le_of_ble_eq_true rfl) dJ37_init_5 (fun o_1 H V => ?_)
  have V : VV G _ _ F [(a, ob 8 [.null]), (o_1, ob 6 [.null, .null, .null, .null, iV 0, iV 0, iV 0, .float 0])] _ _ _ := V
  refine lv_dup hx hb dJ37_init_8 rfl ?_
  refine z_callI ⟨hx, hb, hml, hown, hts⟩ hk hl.1 V (wc := [(o_1, ob 6 [.null, .null, .null, .null, iV 0, iV 0, iV 0, .float 0])]) (wr := [(a, ob 8 [.null])]) [1] [0] rfl rfl rfl rfl (by decide) (As := []) (rest := [.ref o_1, .ref a]) (fun hp => ct_HM_init l G o_1 hp) (cwI 0 hts (lw_meth q1769) rfl rfl rfl (hts _ q121) (hts _ q2394) (hts _ q1768) rfl (by decide +kernel) ⟨Nat.le_of_ble_eq_true rfl, Nat.le_of_ble_eq_true rfl⟩) rfl rfl (Nat.le_of_ble_eq_true rfl) dJ37_init_9 ⟨Nat.le_of_ble_eq_true rfl, Nat.le_of_ble_eq_true rfl⟩ (fun v F1 w1 H locs hq hle hou V => ?_)
  obtain ⟨rfl, rfl, hm⟩ := hq
  have V := VV.asc (z := []) (t := w1) V
  refine W.eq (g2 := F0 m 12 ls [.ref o_1, .ref a]) rfl ?_
  have V : VV G _ _ F ([(a, ob 8 [.null])] ++ w1) _ _ _ := V
  refine z_put hx hb hts hk V hown K_J37 0 rfl 0 (by decide) q2395 (fun _ h => h) rfl rfl rfl (Nat.le_of_ble_eq_true rfl) dJ37_init_12 (fun H locs V => ?_)
  have V : VV G _ _ F ([(a, ob 8 [.ref o_1])] ++ w1) _ _ _ := V
  exact z_vret hx hb hr hlk V dJ37_init_15 ⟨rfl, rfl, o_1, w1, hm, rfl⟩ ⟨Nat.le_of_ble_eq_true rfl, Nat.le_of_ble_eq_true rfl⟩
theorem fnd_ne {es : List En} {t : List Nat} {i : Nat} {e : En} (hi : es[i]? = some e) (ht : e.2.2.1 = t) : (fnd es t).isNone = false := by
  cases h : fnd es t with
  | none => exact absurd (List.mem_map.mpr ⟨e, List.mem_of_getElem? hi, ht⟩) (fnd_key h)
  | some x => rfl
theorem map_set_t {es : List En} {i : Nat} {e : En} (hi : es[i]? = some e) {va : Nat} : (es.set i (e.1, e.2.1, e.2.2.1, va)).map (fun e => e.2.2.1) = es.map (fun e => e.2.2.1) := by
  apply List.ext_getElem?
  intro j
  rw [List.getElem?_map, List.getElem?_map, List.getElem?_set]
  by_cases h : i = j
  · subst h
    rw [if_pos rfl, if_pos (List.getElem?_eq_some_iff.mp hi).1, hi]
    rfl
  · rw [if_neg h]
theorem fnd_upd {es : List En} {t : List Nat} {i : Nat} {e : En} (hi : es[i]? = some e) (ht : e.2.2.1 = t) : es.map (fun e => e.2.2.1) = if (fnd es t).isNone then es.map (fun e => e.2.2.1) ++ [t] else es.map (fun e => e.2.2.1) := by
  rw [fnd_ne hi ht]
  rfl
set_option maxHeartbeats 4000000 in
theorem ct_HS_add (l : Launch) (G : gG) {F : fS} {Ha : Heap} (b a : Nat) (t : List Nat) (h : SH G F a t) (es : List En) (wl : va_W) (hw : HS G F b es wl) (hcap : es.length < 12) (hbk : (cha es (bk t)).length ≤ 7) (hp : Hp G F wl Ha) : CT l G yJ37_add cJ37_add 2 (some .boolean) 7 145 3 40 [.ref b, .ref a] F wl Ha (fun rv F' w' => rv = some (iV (bZ (fnd es t).isNone)) ∧ F = F' ∧ ∃ es', HS G F b es' w' ∧ es'.map (fun e => e.2.2.1) = if (fnd es t).isNone then es.map (fun e => e.2.2.1) ++ [t] else es.map (fun e => e.2.2.1)) := by
  refine z_of hp (Or.inl (by decide)) (Nat.le_of_ble_eq_true rfl) ?_
  intro p e s m below meth c ls hx hb hr hml hts hown hlk hnm hk hsH V hl
  have hl : lv_has ls 2 [(0, .ref b), (1, .ref a)] := hl
  obtain ⟨m0, wm, hm, rfl⟩ := hw
  obtain ⟨fs, hcell⟩ := hm.cell
  refine lv_aload_n hx hb dJ37_add_0 rfl (lv_at hl 0 rfl) ?_
  refine z_get hx hb hts hk hown K_J37 (V.w 0 rfl) 0 (by decide) q2395 (fun _ h => h) rfl dJ37_add_1 ?_
  refine lv_aload_n hx hb dJ37_add_4 rfl (lv_at hl 1 rfl) ?_
  refine z_gets hx hb hts V (hk.Zs 5 rfl) hown q2403 (fun _ h => h) dJ37_add_5 ?_
  refine z_callV ⟨hx, hb, hml, hown, hts⟩ hk hl.1 V (wc := wm) (wr := [(b, ob 8 [.ref m0])]) ([] ++ tIx [(b, ob 8 [.ref m0])] wm) [0] (idxT (w := [(b, ob 8 [.ref m0])]) (t := wm) (wC := []) (is := []) rfl) (idxN (w := [(b, ob 8 [.ref m0])]) (t := wm) (wC := [(b, ob 8 [.ref m0])]) (is := [0]) rfl) (ndT (w := [(b, ob 8 [.ref m0])]) (t := wm) (wC := []) (is := []) rfl rfl) rfl (disT (w := [(b, ob 8 [.ref m0])]) (t := wm) (wR := [(b, ob 8 [.ref m0])]) (isR := [0]) rfl (by decide)) (As := [.ref a, .ref (G.2.2 2)]) (rest := []) (fun hp => ct_HM_put l G m0 a t h es wm hm (G.2.2 2) hcap hbk hp) (cwV 2 hts (lw_V q2405 q2245 q3138 q121 q2247) rfl rfl rfl (by decide +kernel) ⟨Nat.le_of_ble_eq_true rfl, Nat.le_of_ble_eq_true rfl⟩) (z_rc hk (V.mem (q := (m0, ob 6 fs)) (by first | exact List.mem_append_right _ hcell | simp [List.mem_append_right _ hcell])) (q := (RJ30, TJ30, 8)) rfl) rfl rfl (Nat.le_of_ble_eq_true rfl) dJ37_add_8 ⟨Nat.le_of_ble_eq_true rfl, Nat.le_of_ble_eq_true rfl⟩ (fun v F1 w1 H locs hq hle hou V => ?_)
  obtain ⟨rfl, ⟨i9, e9, hi9, ht9, rfl, hw9⟩ | ⟨hE9, rfl, n9, hw9⟩⟩ := hq
  · skip
    have V := VV.asc (z := []) (t := w1) V
    refine W.eq (g2 := F0 m 11 ls [.ref e9.2.2.2]) rfl ?_
    have V : VV G _ _ F ([(b, ob 8 [.ref m0])] ++ w1) _ _ _ := V
    refine lv_ifnonnull (tgt := 18) hx hb dJ37_add_11 (by decide) ?_
    refine lv_iconst (v := iZ 0) hx hb dJ37_add_18 rfl ?_
    exact z_iret hx hb hr hlk V rfl dJ37_add_19 ⟨by rw [fnd_ne hi9 ht9]; rfl, rfl, _, ⟨m0, w1, hw9, rfl⟩, by rw [map_set_t hi9]; exact fnd_upd hi9 ht9⟩ ⟨Nat.le_of_ble_eq_true rfl, Nat.le_of_ble_eq_true rfl⟩
  · skip
    have V := VV.asc (z := []) (t := w1) V
    refine W.eq (g2 := F0 m 11 ls [.null]) rfl ?_
    have V : VV G _ _ F ([(b, ob 8 [.ref m0])] ++ w1) _ _ _ := V
    refine lv_ifnonnullN hx hb dJ37_add_11 ?_
    refine lv_iconst (v := iZ 1) hx hb dJ37_add_14 rfl ?_
    refine lv_goto (tgt := 19) hx hb dJ37_add_15 (by decide) ?_
    exact z_iret hx hb hr hlk V rfl dJ37_add_19 ⟨by rw [hE9]; rfl, rfl, _, ⟨m0, w1, hw9, rfl⟩, by rw [hE9, List.map_append]; rfl⟩ ⟨Nat.le_of_ble_eq_true rfl, Nat.le_of_ble_eq_true rfl⟩
