/-! classes, small rows (printed by gen/mk17.py) -/
set_option maxRecDepth 100000
theorem K_J2 : Kls 0 RJ2 TJ2 3 tyJ2 := ⟨rfl, in_J2, tyJ2_ok, nmJ2⟩
theorem df_J2 : ∀ j, j < 3 → defaultValue (tyJ2 j) = vp_V [iV 0, .null, iV 0] j := fun j hj => match j, hj with
  | 0, _ => rfl
  | 1, _ => rfl
  | 2, _ => rfl
  | j + 3, h => absurd h (by omega)
theorem K_J19 : Kls 1 RJ19 TJ19 4 tyJ19 := ⟨rfl, in_J19, tyJ19_ok, nmJ19⟩
theorem df_J19 : ∀ j, j < 4 → defaultValue (tyJ19 j) = vp_V [iV 0, iV 0, iV 0, .null] j := fun j hj => match j, hj with
  | 0, _ => rfl
  | 1, _ => rfl
  | 2, _ => rfl
  | 3, _ => rfl
  | j + 4, h => absurd h (by omega)
theorem K_J3 : Kls 2 RJ3 TJ3 3 tyJ3 := ⟨rfl, in_J3, tyJ3_ok, nmJ3⟩
theorem df_J3 : ∀ j, j < 3 → defaultValue (tyJ3 j) = vp_V [.null, iV 0, iV 0] j := fun j hj => match j, hj with
  | 0, _ => rfl
  | 1, _ => rfl
  | 2, _ => rfl
  | j + 3, h => absurd h (by omega)
theorem K_J5 : Kls 3 RJ5 TJ5 4 tyJ5 := ⟨rfl, in_J5, tyJ5_ok, nmJ5⟩
theorem df_J5 : ∀ j, j < 4 → defaultValue (tyJ5 j) = vp_V [.null, iV 0, iV 0, iV 0] j := fun j hj => match j, hj with
  | 0, _ => rfl
  | 1, _ => rfl
  | 2, _ => rfl
  | 3, _ => rfl
  | j + 4, h => absurd h (by omega)
theorem K_J6 : Kls 4 RJ6 TJ6 4 tyJ6 := ⟨rfl, in_J6, tyJ6_ok, nmJ6⟩
theorem df_J6 : ∀ j, j < 4 → defaultValue (tyJ6 j) = vp_V [.null, iV 0, iV 0, iV 0] j := fun j hj => match j, hj with
  | 0, _ => rfl
  | 1, _ => rfl
  | 2, _ => rfl
  | 3, _ => rfl
  | j + 4, h => absurd h (by omega)
theorem K_J21 : Kls 5 RJ21 TJ21 1 tyJ21 := ⟨rfl, in_J21, tyJ21_ok, nmJ21⟩
theorem df_J21 : ∀ j, j < 1 → defaultValue (tyJ21 j) = vp_V [iV 0] j := fun j hj => match j, hj with
  | 0, _ => rfl
  | j + 1, h => absurd h (by omega)
theorem K_J30 : Kls 6 RJ30 TJ30 8 tyJ30 := ⟨rfl, in_J30, tyJ30_ok, nmJ30⟩
theorem df_J30 : ∀ j, j < 8 → defaultValue (tyJ30 j) = vp_V [.null, .null, .null, .null, iV 0, iV 0, iV 0, .float 0] j := fun j hj => match j, hj with
  | 0, _ => rfl
  | 1, _ => rfl
  | 2, _ => rfl
  | 3, _ => rfl
  | 4, _ => rfl
  | 5, _ => rfl
  | 6, _ => rfl
  | 7, _ => rfl
  | j + 8, h => absurd h (by omega)
theorem K_J33 : Kls 7 RJ33 TJ33 4 tyJ33 := ⟨rfl, in_J33, tyJ33_ok, nmJ33⟩
theorem df_J33 : ∀ j, j < 4 → defaultValue (tyJ33 j) = vp_V [iV 0, .null, .null, .null] j := fun j hj => match j, hj with
  | 0, _ => rfl
  | 1, _ => rfl
  | 2, _ => rfl
  | 3, _ => rfl
  | j + 4, h => absurd h (by omega)
theorem K_J37 : Kls 8 RJ37 TJ37 1 tyJ37 := ⟨rfl, in_J37, tyJ37_ok, nmJ37⟩
theorem df_J37 : ∀ j, j < 1 → defaultValue (tyJ37 j) = vp_V [.null] j := fun j hj => match j, hj with
  | 0, _ => rfl
  | j + 1, h => absurd h (by omega)
theorem K_X1 : Kls 9 RX1 TX1 7 tyX1 := ⟨rfl, in_X1, tyX1_ok, nmX1⟩
theorem df_X1 : ∀ j, j < 7 → defaultValue (tyX1 j) = vp_V [.null, .null, .null, .null, .null, iV 0, iV 0] j := fun j hj => match j, hj with
  | 0, _ => rfl
  | 1, _ => rfl
  | 2, _ => rfl
  | 3, _ => rfl
  | 4, _ => rfl
  | 5, _ => rfl
  | 6, _ => rfl
  | j + 7, h => absurd h (by omega)
theorem K_X2 : Kls 10 RX2 TX2 6 tyX2 := ⟨rfl, in_X2, tyX2_ok, nmX2⟩
theorem df_X2 : ∀ j, j < 6 → defaultValue (tyX2 j) = vp_V [.null, .null, .null, .null, .null, iV 0] j := fun j hj => match j, hj with
  | 0, _ => rfl
  | 1, _ => rfl
  | 2, _ => rfl
  | 3, _ => rfl
  | 4, _ => rfl
  | 5, _ => rfl
  | j + 6, h => absurd h (by omega)
theorem K_X4 : Kls 11 RX4 TX4 4 tyX4 := ⟨rfl, in_X4, tyX4_ok, nmX4⟩
theorem df_X4 : ∀ j, j < 4 → defaultValue (tyX4 j) = vp_V [.null, .null, iV 0, iV 0] j := fun j hj => match j, hj with
  | 0, _ => rfl
  | 1, _ => rfl
  | 2, _ => rfl
  | 3, _ => rfl
  | j + 4, h => absurd h (by omega)
theorem K_X10 : Kls 12 RX10 TX10 2 tyX10 := ⟨rfl, in_X10, tyX10_ok, nmX10⟩
theorem df_X10 : ∀ j, j < 2 → defaultValue (tyX10 j) = vp_V [.null, .null] j := fun j hj => match j, hj with
  | 0, _ => rfl
  | 1, _ => rfl
  | j + 2, h => absurd h (by omega)
theorem K_X6 : Kls 13 RX6 TX6 2 tyX6 := ⟨rfl, in_X6, tyX6_ok, nmX6⟩
theorem df_X6 : ∀ j, j < 2 → defaultValue (tyX6 j) = vp_V [.null, .null] j := fun j hj => match j, hj with
  | 0, _ => rfl
  | 1, _ => rfl
  | j + 2, h => absurd h (by omega)
theorem K_X5 : Kls 14 RX5 TX5 2 tyX5 := ⟨rfl, in_X5, tyX5_ok, nmX5⟩
theorem df_X5 : ∀ j, j < 2 → defaultValue (tyX5 j) = vp_V [.null, iV 0] j := fun j hj => match j, hj with
  | 0, _ => rfl
  | 1, _ => rfl
  | j + 2, h => absurd h (by omega)
theorem K_X11 : Kls 15 RX11 TX11 4 tyX11 := ⟨rfl, in_X11, tyX11_ok, nmX11⟩
theorem df_X11 : ∀ j, j < 4 → defaultValue (tyX11 j) = vp_V [.null, .null, .null, .null] j := fun j hj => match j, hj with
  | 0, _ => rfl
  | 1, _ => rfl
  | 2, _ => rfl
  | 3, _ => rfl
  | j + 4, h => absurd h (by omega)
theorem K_X14 : Kls 16 RX14 TX14 3 tyX14 := ⟨rfl, in_X14, tyX14_ok, nmX14⟩
theorem df_X14 : ∀ j, j < 3 → defaultValue (tyX14 j) = vp_V [iV 0, iV 0, .null] j := fun j hj => match j, hj with
  | 0, _ => rfl
  | 1, _ => rfl
  | 2, _ => rfl
  | j + 3, h => absurd h (by omega)
theorem K_X16 : Kls 17 RX16 TX16 2 tyX16 := ⟨rfl, in_X16, tyX16_ok, nmX16⟩
theorem df_X16 : ∀ j, j < 2 → defaultValue (tyX16 j) = vp_V [iV 0, iV 0] j := fun j hj => match j, hj with
  | 0, _ => rfl
  | 1, _ => rfl
  | j + 2, h => absurd h (by omega)
theorem K_X17 : Kls 18 RX17 TX17 2 tyX17 := ⟨rfl, in_X17, tyX17_ok, nmX17⟩
theorem df_X17 : ∀ j, j < 2 → defaultValue (tyX17 j) = vp_V [iV 0, iV 0] j := fun j hj => match j, hj with
  | 0, _ => rfl
  | 1, _ => rfl
  | j + 2, h => absurd h (by omega)
theorem K_X18 : Kls 19 RX18 TX18 3 tyX18 := ⟨rfl, in_X18, tyX18_ok, nmX18⟩
theorem df_X18 : ∀ j, j < 3 → defaultValue (tyX18 j) = vp_V [iV 0, iV 0, iV 0] j := fun j hj => match j, hj with
  | 0, _ => rfl
  | 1, _ => rfl
  | 2, _ => rfl
  | j + 3, h => absurd h (by omega)
theorem K_X8 : Kls 20 RX8 TX8 7 tyX8 := ⟨rfl, in_X8, tyX8_ok, nmX8⟩
theorem df_X8 : ∀ j, j < 7 → defaultValue (tyX8 j) = vp_V [.null, .null, .null, .null, .null, iV 0, iV 0] j := fun j hj => match j, hj with
  | 0, _ => rfl
  | 1, _ => rfl
  | 2, _ => rfl
  | 3, _ => rfl
  | 4, _ => rfl
  | 5, _ => rfl
  | 6, _ => rfl
  | j + 7, h => absurd h (by omega)
theorem K_X9 : Kls 21 RX9 TX9 7 tyX9 := ⟨rfl, in_X9, tyX9_ok, nmX9⟩
theorem df_X9 : ∀ j, j < 7 → defaultValue (tyX9 j) = vp_V [.null, .null, .null, .null, .null, iV 0, iV 0] j := fun j hj => match j, hj with
  | 0, _ => rfl
  | 1, _ => rfl
  | 2, _ => rfl
  | 3, _ => rfl
  | 4, _ => rfl
  | 5, _ => rfl
  | 6, _ => rfl
  | j + 7, h => absurd h (by omega)
theorem K_X3 : Kls 22 RX3 TX3 28 tyX3 := ⟨rfl, in_X3, tyX3_ok, nmX3⟩
theorem df_X3 : ∀ j, j < 28 → defaultValue (tyX3 j) = vp_V [iV 0, .null, .null, .null, .null, iV 0, iV 0, iV 0, iV 0, .null, .null, .null, iV 0, iV 0, iV 0, iV 0, iV 0, iV 0, .null, iV 0, .null, .null, iV 0, .null, .null, .null, iV 0, iV 0] j := fun j hj => match j, hj with
  | 0, _ => rfl
  | 1, _ => rfl
  | 2, _ => rfl
  | 3, _ => rfl
  | 4, _ => rfl
  | 5, _ => rfl
  | 6, _ => rfl
  | 7, _ => rfl
  | 8, _ => rfl
  | 9, _ => rfl
  | 10, _ => rfl
  | 11, _ => rfl
  | 12, _ => rfl
  | 13, _ => rfl
  | 14, _ => rfl
  | 15, _ => rfl
  | 16, _ => rfl
  | 17, _ => rfl
  | 18, _ => rfl
  | 19, _ => rfl
  | 20, _ => rfl
  | 21, _ => rfl
  | 22, _ => rfl
  | 23, _ => rfl
  | 24, _ => rfl
  | 25, _ => rfl
  | 26, _ => rfl
  | 27, _ => rfl
  | j + 28, h => absurd h (by omega)
theorem lw_in4 {a b c d : Cond} (ha : a ∈ lw_all) (hb : b ∈ lw_all) (hc : c ∈ lw_all) (hd : d ∈ lw_all) : ∀ w ∈ ([a, b, c, d] : List Cond), w ∈ lw_all := by
  intro w h
  simp only [List.mem_cons, List.not_mem_nil, or_false] at h
  rcases h with rfl | rfl | rfl | rfl <;> assumption
theorem iZ_subc (a : Int) (b : Int) : iZ a + Int32.ofInt (-b) = iZ (a - b) := by
  show iZ a + iZ (-b) = _
  rw [iZ_add]; rfl
theorem nr_b0 : narrow .boolean (iV 0) = iV 0 := rfl
theorem nr_b1 : narrow .boolean (iV 1) = iV 1 := rfl
abbrev bZ (b : Bool) : Int := if b then 1 else 0
theorem nr_bZ (b : Bool) : narrow .boolean (iV (bZ b)) = iV (bZ b) := by cases b <;> rfl
abbrev zL64 (x : Int) : Prop := -9223372036854775808 ≤ x ∧ x < 9223372036854775808
section ZL
variable {p : Program} {l : Launch} {e : Env} {R : Room} {s : State} {m : MethodId} {args : Array Value} {below : List Frame} {meth : Method} {c : Code} {H : Heap} {locs : List Loc} {cells slots : Nat} {Q : State → Prop}
variable {cc : ByteArray} {pc : Nat} {ls : Array Slot} {rest : List Value}
theorem lg_lt {x y : Int} (hr : zL64 x ∧ zL64 y) : (lg_cmp (jZ x) (jZ y) = 1 ∧ y < x) ∨ (lg_cmp (jZ x) (jZ y) = 0 ∧ x = y) ∨ (lg_cmp (jZ x) (jZ y) = -1 ∧ x < y) := by
  unfold lg_cmp
  by_cases h1 : y < x
  · rw [if_pos ((jZ_lt ⟨hr.2, hr.1⟩).mpr h1)]; exact Or.inl ⟨rfl, h1⟩
  · rw [if_neg (mt (jZ_lt ⟨hr.2, hr.1⟩).mp h1)]
    by_cases h2 : x = y
    · rw [if_pos (by rw [h2])]; exact Or.inr (Or.inl ⟨rfl, h2⟩)
    · rw [if_neg (mt (jZ_eq hr).mp h2)]; exact Or.inr (Or.inr ⟨rfl, by omega⟩)
theorem z_lcmp_eq (hx : p.tables.exec = Jvm.exec) (hb : c.code = cc) {x y : Int} {off : Int} {tgt : Nat} (hr : zL64 x ∧ zL64 y) (hdg : decode cc pc = .ok (.lcmp, 1)) (hdg2 : decode cc (pc + 1) = .ok (.ifCond .eq off, 3)) (ht : ((pc + 1 : Nat) : Int) + off = (tgt : Int)) (k1 : x = y → W p l e R s m args below meth c H locs cells slots Q (F0 m tgt ls rest)) (k2 : x ≠ y → W p l e R s m args below meth c H locs cells slots Q (F0 m (pc + 4) ls rest)) : W p l e R s m args below meth c H locs cells slots Q (F0 m pc ls (jV y :: jV x :: rest)) := by
  refine W.lcmp hx hb hdg (lv_if_eq hx hb hdg2 ht (fun h => k1 ?_) (fun h => k2 ?_)) <;> (rcases lg_lt hr with ⟨e, q⟩ | ⟨e, q⟩ | ⟨e, q⟩ <;> rw [e] at h <;> first | omega | (exfalso; revert h; decide) | (exfalso; exact h rfl) | (exfalso; exact h (by decide)))
theorem z_lcmp_ne (hx : p.tables.exec = Jvm.exec) (hb : c.code = cc) {x y : Int} {off : Int} {tgt : Nat} (hr : zL64 x ∧ zL64 y) (hdg : decode cc pc = .ok (.lcmp, 1)) (hdg2 : decode cc (pc + 1) = .ok (.ifCond .ne off, 3)) (ht : ((pc + 1 : Nat) : Int) + off = (tgt : Int)) (k1 : x ≠ y → W p l e R s m args below meth c H locs cells slots Q (F0 m tgt ls rest)) (k2 : x = y → W p l e R s m args below meth c H locs cells slots Q (F0 m (pc + 4) ls rest)) : W p l e R s m args below meth c H locs cells slots Q (F0 m pc ls (jV y :: jV x :: rest)) := by
  refine W.lcmp hx hb hdg (lv_if_ne hx hb hdg2 ht (fun h => k1 ?_) (fun h => k2 ?_)) <;> (rcases lg_lt hr with ⟨e, q⟩ | ⟨e, q⟩ | ⟨e, q⟩ <;> rw [e] at h <;> first | omega | (exfalso; revert h; decide) | (exfalso; exact h rfl) | (exfalso; exact h (by decide)))
theorem z_lcmp_lt (hx : p.tables.exec = Jvm.exec) (hb : c.code = cc) {x y : Int} {off : Int} {tgt : Nat} (hr : zL64 x ∧ zL64 y) (hdg : decode cc pc = .ok (.lcmp, 1)) (hdg2 : decode cc (pc + 1) = .ok (.ifCond .lt off, 3)) (ht : ((pc + 1 : Nat) : Int) + off = (tgt : Int)) (k1 : x < y → W p l e R s m args below meth c H locs cells slots Q (F0 m tgt ls rest)) (k2 : y ≤ x → W p l e R s m args below meth c H locs cells slots Q (F0 m (pc + 4) ls rest)) : W p l e R s m args below meth c H locs cells slots Q (F0 m pc ls (jV y :: jV x :: rest)) := by
  refine W.lcmp hx hb hdg (lv_if_lt hx hb hdg2 ht (fun h => k1 ?_) (fun h => k2 ?_)) <;> (rcases lg_lt hr with ⟨e, q⟩ | ⟨e, q⟩ | ⟨e, q⟩ <;> rw [e] at h <;> first | omega | (exfalso; revert h; decide) | (exfalso; exact h rfl) | (exfalso; exact h (by decide)))
theorem z_lcmp_ge (hx : p.tables.exec = Jvm.exec) (hb : c.code = cc) {x y : Int} {off : Int} {tgt : Nat} (hr : zL64 x ∧ zL64 y) (hdg : decode cc pc = .ok (.lcmp, 1)) (hdg2 : decode cc (pc + 1) = .ok (.ifCond .ge off, 3)) (ht : ((pc + 1 : Nat) : Int) + off = (tgt : Int)) (k1 : y ≤ x → W p l e R s m args below meth c H locs cells slots Q (F0 m tgt ls rest)) (k2 : x < y → W p l e R s m args below meth c H locs cells slots Q (F0 m (pc + 4) ls rest)) : W p l e R s m args below meth c H locs cells slots Q (F0 m pc ls (jV y :: jV x :: rest)) := by
  refine W.lcmp hx hb hdg (lv_if_ge hx hb hdg2 ht (fun h => k1 ?_) (fun h => k2 ?_)) <;> (rcases lg_lt hr with ⟨e, q⟩ | ⟨e, q⟩ | ⟨e, q⟩ <;> rw [e] at h <;> first | omega | (exfalso; revert h; decide) | (exfalso; exact h rfl) | (exfalso; exact h (by decide)))
theorem z_lcmp_gt (hx : p.tables.exec = Jvm.exec) (hb : c.code = cc) {x y : Int} {off : Int} {tgt : Nat} (hr : zL64 x ∧ zL64 y) (hdg : decode cc pc = .ok (.lcmp, 1)) (hdg2 : decode cc (pc + 1) = .ok (.ifCond .gt off, 3)) (ht : ((pc + 1 : Nat) : Int) + off = (tgt : Int)) (k1 : y < x → W p l e R s m args below meth c H locs cells slots Q (F0 m tgt ls rest)) (k2 : x ≤ y → W p l e R s m args below meth c H locs cells slots Q (F0 m (pc + 4) ls rest)) : W p l e R s m args below meth c H locs cells slots Q (F0 m pc ls (jV y :: jV x :: rest)) := by
  refine W.lcmp hx hb hdg (lv_if_gt hx hb hdg2 ht (fun h => k1 ?_) (fun h => k2 ?_)) <;> (rcases lg_lt hr with ⟨e, q⟩ | ⟨e, q⟩ | ⟨e, q⟩ <;> rw [e] at h <;> first | omega | (exfalso; revert h; decide) | (exfalso; exact h rfl) | (exfalso; exact h (by decide)))
theorem z_lcmp_le (hx : p.tables.exec = Jvm.exec) (hb : c.code = cc) {x y : Int} {off : Int} {tgt : Nat} (hr : zL64 x ∧ zL64 y) (hdg : decode cc pc = .ok (.lcmp, 1)) (hdg2 : decode cc (pc + 1) = .ok (.ifCond .le off, 3)) (ht : ((pc + 1 : Nat) : Int) + off = (tgt : Int)) (k1 : x ≤ y → W p l e R s m args below meth c H locs cells slots Q (F0 m tgt ls rest)) (k2 : y < x → W p l e R s m args below meth c H locs cells slots Q (F0 m (pc + 4) ls rest)) : W p l e R s m args below meth c H locs cells slots Q (F0 m pc ls (jV y :: jV x :: rest)) := by
  refine W.lcmp hx hb hdg (lv_if_le hx hb hdg2 ht (fun h => k1 ?_) (fun h => k2 ?_)) <;> (rcases lg_lt hr with ⟨e, q⟩ | ⟨e, q⟩ | ⟨e, q⟩ <;> rw [e] at h <;> first | omega | (exfalso; revert h; decide) | (exfalso; exact h rfl) | (exfalso; exact h (by decide)))
end ZL
