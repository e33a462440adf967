/-! JDK: Math (printed by gen/jdk0.py) -/
set_option maxRecDepth 100000
section ZQ
variable {p : Program} {l : Launch} {e : Env} {R : Room} {s : State} {m : MethodId} {args : Array Value} {below : List Frame} {meth : Method} {c : Code} {H : Heap} {locs : List Loc} {cells slots : Nat} {Q : State → Prop}
variable {cc : ByteArray} {pc : Nat} {ls : Array Slot} {rest : List Value}
theorem z_acmp_eqT (hx : p.tables.exec = Jvm.exec) (hb : c.code = cc) {a : Nat} {off : Int} {tgt : Nat} (hdg : decode cc pc = .ok (.if_acmp .eq off, 3)) (ht : (pc : Int) + off = (tgt : Int)) (k1 : W p l e R s m args below meth c H locs cells slots Q (F0 m tgt ls rest)) : W p l e R s m args below meth c H locs cells slots Q (F0 m pc ls (.ref a :: .ref a :: rest)) :=
  lv_acmp_eq (rx := some a) (ry := some a) hx hb hdg ht (fun _ => k1) (fun h => absurd rfl h)
end ZQ
set_option maxHeartbeats 4000000 in
theorem ct_max (l : Launch) (G : gG) {F : fS} {Ha : Heap} (x y : Int) (hrg : zB x ∧ zB y) (hp : Hp G F [] Ha) : CT l G yJ14_max cJ14_max 2 (some .int) 1 12 0 0 [iV x, iV y] F [] Ha (fun rv F' w' => rv = some (iV (max x y)) ∧ F = F' ∧ w' = []) := by
  refine z_of hp (Or.inr (by decide +kernel)) (Nat.le_of_ble_eq_true rfl) ?_
  intro p e s m below meth c ls hx hb hr hml hts hown hlk hnm hk hsH V hl
  have hl : lv_has ls 2 [(0, iV x), (1, iV y)] := hl
  refine lv_iload_n hx hb dJ14_max_0 rfl (lv_at hl 0 rfl) ?_
  refine lv_iload_n hx hb dJ14_max_1 rfl (lv_at hl 1 rfl) ?_
  refine z_icmp_lt (tgt := 9) hx hb (by omega) dJ14_max_2 (by decide) (fun c2 => ?_) (fun c2 => ?_)
  · skip
    refine lv_iload_n hx hb dJ14_max_9 rfl (lv_at hl 1 rfl) ?_
    exact z_iret hx hb hr hlk V rfl dJ14_max_10 ⟨by rw [show max x y = y by omega], rfl, rfl⟩ ⟨Nat.le_of_ble_eq_true rfl, Nat.le_of_ble_eq_true rfl⟩
  · skip
    refine lv_iload_n hx hb dJ14_max_5 rfl (lv_at hl 0 rfl) ?_
    refine lv_goto (tgt := 10) hx hb dJ14_max_6 (by decide) ?_
    exact z_iret hx hb hr hlk V rfl dJ14_max_10 ⟨by rw [show max x y = x by omega], rfl, rfl⟩ ⟨Nat.le_of_ble_eq_true rfl, Nat.le_of_ble_eq_true rfl⟩
set_option maxHeartbeats 4000000 in
theorem ct_min (l : Launch) (G : gG) {F : fS} {Ha : Heap} (x y : Int) (hrg : zB x ∧ zB y) (hp : Hp G F [] Ha) : CT l G yJ14_min cJ14_min 2 (some .int) 1 12 0 0 [iV x, iV y] F [] Ha (fun rv F' w' => rv = some (iV (min x y)) ∧ F = F' ∧ w' = []) := by
  refine z_of hp (Or.inr (by decide +kernel)) (Nat.le_of_ble_eq_true rfl) ?_
  intro p e s m below meth c ls hx hb hr hml hts hown hlk hnm hk hsH V hl
  have hl : lv_has ls 2 [(0, iV x), (1, iV y)] := hl
  refine lv_iload_n hx hb dJ14_min_0 rfl (lv_at hl 0 rfl) ?_
  refine lv_iload_n hx hb dJ14_min_1 rfl (lv_at hl 1 rfl) ?_
  refine z_icmp_gt (tgt := 9) hx hb (by omega) dJ14_min_2 (by decide) (fun c2 => ?_) (fun c2 => ?_)
  · skip
    refine lv_iload_n hx hb dJ14_min_9 rfl (lv_at hl 1 rfl) ?_
    exact z_iret hx hb hr hlk V rfl dJ14_min_10 ⟨by rw [show min x y = y by omega], rfl, rfl⟩ ⟨Nat.le_of_ble_eq_true rfl, Nat.le_of_ble_eq_true rfl⟩
  · skip
    refine lv_iload_n hx hb dJ14_min_5 rfl (lv_at hl 0 rfl) ?_
    refine lv_goto (tgt := 10) hx hb dJ14_min_6 (by decide) ?_
    exact z_iret hx hb hr hlk V rfl dJ14_min_10 ⟨by rw [show min x y = x by omega], rfl, rfl⟩ ⟨Nat.le_of_ble_eq_true rfl, Nat.le_of_ble_eq_true rfl⟩
