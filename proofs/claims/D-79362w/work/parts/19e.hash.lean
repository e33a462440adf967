/-! HASHES of Strings as integers; the write of a frozen String's hash; switches -/
set_option maxRecDepth 100000
def jzz (t : List Nat) : Int := t.foldl (fun (h : Int) (c : Nat) => 31 * h + (c : Int)) 0
theorem jhash_from (t : List Nat) : ∀ z : Int, t.foldl (fun (h : Int32) (c : Nat) => 31 * h + iZ (c : Int)) (iZ z) = iZ (t.foldl (fun (h : Int) (c : Nat) => 31 * h + (c : Int)) z) := by
  induction t with
  | nil => intro z; rfl
  | cons c t ih =>
    intro z
    rw [List.foldl_cons, List.foldl_cons]
    have e : (31 : Int32) * iZ z + iZ (c : Int) = iZ (31 * z + (c : Int)) := by rw [show (31 : Int32) = iZ 31 from rfl, iZ_mul, iZ_add]
    rw [e, ih]
theorem jhash_z (t : List Nat) : jhash t = iZ (jzz t) := jhash_from t 0
theorem jzz_snoc (t : List Nat) (i : Nat) (hi : i < t.length) : jzz (t.take (i + 1)) = 31 * jzz (t.take i) + (t.getD i 0 : Nat) := by
  unfold jzz
  rw [List.take_succ, List.getElem?_eq_getElem hi, List.foldl_append, List.getD_eq_getElem?_getD, List.getElem?_eq_getElem hi]
  rfl
/-- a String's hash, as an integer -/
def jz (t : List Nat) : Int := (jhash t).toInt
theorem jz_B (t : List Nat) : zB (jz t) := ⟨by have := Int32.le_toInt (jhash t); unfold jz; omega, by have := Int32.toInt_lt (jhash t); unfold jz; omega⟩
theorem jz_Z (t : List Nat) : iZ (jz t) = jhash t := iZ_self _
theorem jz_V (t : List Nat) : iV (jz t) = iV (jzz t) := by show Value.int (iZ _) = Value.int (iZ _); rw [jz_Z, jhash_z]
/-- the hash that a HashMap takes, its place among 16 -/
def hsp (t : List Nat) : Int32 := jhash t ^^^ ((jhash t).toUInt32 >>> ((iZ 16).toUInt32 &&& Int32.toUInt32 31)).toInt32
def hz (t : List Nat) : Int := (hsp t).toInt
theorem hz_B (t : List Nat) : zB (hz t) := ⟨by have := Int32.le_toInt (hsp t); unfold hz; omega, by have := Int32.toInt_lt (hsp t); unfold hz; omega⟩
theorem hz_Z (t : List Nat) : iZ (hz t) = hsp t := iZ_self _
def bk (t : List Nat) : Nat := (hsp t).toBitVec.toNat % 16
theorem bk_lt (t : List Nat) : bk t < 16 := Nat.mod_lt _ (by decide)
theorem i32_split (h : Int32) : ∃ z : Int, zB z ∧ h = iZ z := ⟨h.toInt, ⟨by have := Int32.le_toInt h; omega, by have := Int32.toInt_lt h; omega⟩, (iZ_self h).symm⟩
section ZH
variable {p : Program} {l : Launch} {e : Env} {R : Room} {s : State} {m : MethodId} {args : Array Value} {below : List Frame} {meth : Method} {c : Code} {H : Heap} {locs : List Loc} {cells slots : Nat} {Q : State → Prop}
variable {cc : ByteArray} {pc : Nat} {ls : Array Slot} {rest : List Value} {G : gG} {A : Nat → Prop} {Fa Fk F : fS} {ws : va_W} {Ha : Heap} {a : Nat}
theorem z_puth (hx : p.tables.exec = Jvm.exec) (hb : c.code = cc) (hts : ∀ w ∈ lw_all, w.before args s = true) (hk : KK G Fk s) (V : VV G A Fa F ws Ha H locs) {own ref : String} {index v : Nat} {h hh zz hh' zz' : Int32} (hown : s.vm.findClass own = some m.cls) (hF : F a = some (.inr (.inl (v, h)))) (hc : va_at G.1 CL (a, ob 4 [.ref v, iV 0, .int hh, .int zz]) H) (k : Nat) (hkN : k < 4) (hlink : (Cond.fieldLink own index ref (TJ6 k).2.1 (TJ6 k).2.2.1) ∈ lw_all) (hsame : ∀ x, s.fieldFound? (TJ6 k).1 (TJ6 k).2.1 (TJ6 k).2.2.1 = some x → s.fieldFound? ref (TJ6 k).2.1 (TJ6 k).2.2.1 = some x) (hfin : (TJ6 k).2.2.2 = false) {ty : Nat → FieldType} (K : Kls 4 RJ6 TJ6 4 ty) {w : Value} (hn : narrow (ty k) w = w) (hfit : fits (ty k) w = true)
    (hset : ([.ref v, iV 0, .int hh, .int zz] : List Value).set k w = [.ref v, iV 0, .int hh', .int zz']) (hq : (hh' = 0 ∧ zz' = 0) ∨ (hh' = h ∧ zz' = 0) ∨ (h = 0 ∧ hh' = 0 ∧ zz' = 1)) (hdg : decode cc pc = .ok (.putfield index, 3))
    (kk : ∀ (H1 : Heap) (locs1 : List Loc), VV G A Fa F ws Ha H1 locs1 → W p l e R s m args below meth c H1 locs1 cells slots Q (F0 m (pc + 3) ls rest)) : W p l e R s m args below meth c H locs cells slots Q (F0 m pc ls (w :: .ref a :: rest)) := by
  have hap := va_apart (own := own) hts K.2.1 ty K.2.2.1 K.2.2.2 hk.K K.1
  obtain ⟨r, h1, cell, q1, q2, q3, q4⟩ := hc
  have hr : r = (RJ6, TJ6, 4) := Option.some.inj (h1.symm.trans K.1)
  subst hr
  obtain ⟨hS, hfc, kC, hkC, hkind⟩ := hk.K.1 4 _ K.1
  obtain ⟨cf, kf, fi, f, hi, hsl⟩ := hS k hkN
  have hlay := hts _ (K.2.1 _ (u_in_lay hkN))
  unfold u_lay at hlay
  rw [if_neg (by rw [hfin]; decide)] at hlay
  have hst := (u_facts hfc hkC (u_lays hts K.2.1 hkN) hi).1
  have h6 := u_store hfc hkC hkind hlay hi (K.2.2.1 k hkN) hn hfit
  refine W.putK hx hb (f := f) ⟨hown, hts _ hlink, ⟨_, _, _, hsame _ hi⟩, hst⟩ (by rw [q2]; exact h6) q1 q3 (by rw [hsl]; exact k2_hasslot (q4 k hkN)) rfl rfl hdg fun H' e1 e2 e3 => ?_
  rw [hsl] at e1 ⊢
  have hat : va_at G.1 CL (a, ob 4 (([.ref v, iV 0, .int hh, .int zz] : List Value).set k w)) H' := ⟨_, K.1, t_OB.to (V := updV (vp_V [.ref v, iV 0, .int hh, .int zz]) k w) ⟨_, e1, q2, q3, t_set q4 hap hkN w⟩ (fun j _ => vp_updV_set hkN w j)⟩
  rw [hset] at hat
  exact kk H' _ (V.wh hF hq hat e2 e3 _)
theorem z_xor (hx : p.tables.exec = Jvm.exec) (hb : c.code = cc) {t : List Nat} (hdg : decode cc pc = .ok (.iushr, 1)) (hd2 : decode cc (pc + 1) = .ok (.ixor, 1)) (k : W p l e R s m args below meth c H locs cells slots Q (F0 m (pc + 1 + 1) ls (iV (hz t) :: rest))) : W p l e R s m args below meth c H locs cells slots Q (F0 m pc ls (iV 16 :: iV (jz t) :: iV (jz t) :: rest)) := by
  refine lv_iushr hx hb hdg rfl ?_
  refine lv_ixor hx hb hd2 ?_
  rw [jz_Z]
  have e : (Value.int (jhash t ^^^ ((jhash t).toUInt32 >>> ((iZ 16).toUInt32 &&& Int32.toUInt32 31)).toInt32)) = iV (hz t) := by
    show Value.int (hsp t) = Value.int (iZ (hz t))
    rw [hz_Z]
  rw [e]
  exact k
theorem z_bk (hx : p.tables.exec = Jvm.exec) (hb : c.code = cc) {t : List Nat} (hdg : decode cc pc = .ok (.iand, 1)) (k : W p l e R s m args below meth c H locs cells slots Q (F0 m (pc + 1) ls (iV (bk t : Nat) :: rest))) : W p l e R s m args below meth c H locs cells slots Q (F0 m pc ls (iV (hz t) :: iV 15 :: rest)) := by
  refine lv_iand hx hb hdg ?_
  rw [hz_Z, Int32.and_comm, show iZ 15 = (15 : Int32) from rfl, pk_and (hsp t) 4 (by decide)]
  have e : Value.int (nI ((hsp t).toBitVec.toNat % 2 ^ 4)) = iV (bk t : Nat) := by
    show Value.int (nI ((hsp t).toBitVec.toNat % 2 ^ 4)) = Value.int (iZ ((bk t : Nat) : Int))
    rw [← iZ_nat]
    rfl
  rw [e]
  exact k
theorem z_bk2 (hx : p.tables.exec = Jvm.exec) (hb : c.code = cc) {t : List Nat} (hdg : decode cc pc = .ok (.iand, 1)) (k : W p l e R s m args below meth c H locs cells slots Q (F0 m (pc + 1) ls (iV (bk t : Nat) :: rest))) : W p l e R s m args below meth c H locs cells slots Q (F0 m pc ls (iV 15 :: iV (hz t) :: rest)) := by
  refine lv_iand hx hb hdg ?_
  rw [hz_Z, show iZ 15 = (15 : Int32) from rfl, pk_and (hsp t) 4 (by decide)]
  have e : Value.int (nI ((hsp t).toBitVec.toNat % 2 ^ 4)) = iV (bk t : Nat) := by
    show Value.int (nI ((hsp t).toBitVec.toNat % 2 ^ 4)) = Value.int (iZ ((bk t : Nat) : Int))
    rw [← iZ_nat]
    rfl
  rw [e]
  exact k
/-- switches over integers -/
theorem z_lookup (hx : p.tables.exec = Jvm.exec) (hb : c.code = cc) {dflt : Int} {ps : Array (Int × Int)} {len : Nat} {x : Int} {off : Int} {tgt : Nat} (hxB : zB x) (hdg : decode cc pc = .ok (.lookupswitch dflt ps, len)) (hp : (ps.toList.zip (ps.toList.drop 1)).all (fun (a, next) => a.1 < next.1) = true) (ho : Op.lookupswitch.offset ps.toList dflt x = off) (ht : (pc : Int) + off = (tgt : Int))
    (k : W p l e R s m args below meth c H locs cells slots Q (F0 m tgt ls rest)) : W p l e R s m args below meth c H locs cells slots Q (F0 m pc ls (iV x :: rest)) :=
  lv_lookup hx hb hdg hp (by rw [iZ_toInt hxB]; exact ho) ht k
theorem z_tableIn (hx : p.tables.exec = Jvm.exec) (hb : c.code = cc) {dflt lo hi : Int} {offs : Array Int} {len : Nat} {x : Int} {off : Int} {tgt : Nat} (hxB : zB x) (hdg : decode cc pc = .ok (.tableswitch dflt lo hi offs, len)) (h1 : lo ≤ x ∧ x ≤ hi) (ho : offs[(x - lo).toNat]? = some off) (ht : (pc : Int) + off = (tgt : Int))
    (k : W p l e R s m args below meth c H locs cells slots Q (F0 m tgt ls rest)) : W p l e R s m args below meth c H locs cells slots Q (F0 m pc ls (iV x :: rest)) :=
  lv_tableIn hx hb hdg (by rw [iZ_toInt hxB]; omega) (by rw [iZ_toInt hxB]; omega) (by rw [iZ_toInt hxB]; exact ho) ht k
theorem z_tableOut (hx : p.tables.exec = Jvm.exec) (hb : c.code = cc) {dflt lo hi : Int} {offs : Array Int} {len : Nat} {x : Int} {tgt : Nat} (hxB : zB x) (hdg : decode cc pc = .ok (.tableswitch dflt lo hi offs, len)) (h1 : x < lo ∨ hi < x) (ht : (pc : Int) + dflt = (tgt : Int))
    (k : W p l e R s m args below meth c H locs cells slots Q (F0 m tgt ls rest)) : W p l e R s m args below meth c H locs cells slots Q (F0 m pc ls (iV x :: rest)) :=
  lv_tableOut hx hb hdg (by rw [iZ_toInt hxB]; exact h1) ht k
end ZH
