/-! THE ABSTRACT STEP, 1: instructions over locals and operands alone. ab_pure: what such an instruction makes of pc, locals (a list of places and values, as lv_has has them) and operands; ab_pure_W: it is sound for W. -/
abbrev ab_L : Type := List (Nat × Value)
abbrev ab_F : Type := Nat × ab_L × List Value
def ab_get (lv : ab_L) (i : Nat) : Option Value := (lv.find? (fun q => q.1 == i)).map (fun q => q.2)
def ab_put1 (lv : ab_L) (i : Nat) (v : Value) : ab_L := (i, v) :: lv.filter (fun q => !(q.1 == i) && !(q.1 + 1 == i && q.2.category == 2))
def ab_put2 (lv : ab_L) (i : Nat) (v : Value) : ab_L := (i, v) :: lv.filter (fun q => !(q.1 == i) && (!(q.1 == i + 1) && !(q.1 + 1 == i && q.2.category == 2)))
def ab_to (pc : Nat) (off : Int) (lv : ab_L) (st : List Value) : Option ab_F := if 0 ≤ (pc : Int) + off then some (((pc : Int) + off).toNat, lv, st) else none
def ab_br (b : Prop) [Decidable b] (pc : Nat) (off : Int) (lv : ab_L) (st : List Value) : Option ab_F := if 0 ≤ (pc : Int) + off then (if b then some (((pc : Int) + off).toNat, lv, st) else some (pc + 3, lv, st)) else none
theorem ab_get_at {ls : Array Slot} {nL : Nat} {lv : ab_L} (h : lv_has ls nL lv) {i : Nat} {v : Value} (hg : ab_get lv i = some v) : ls[i]? = some (.val v) := by
  unfold ab_get at hg
  cases hf : lv.find? (fun q => q.1 == i) with
  | none => rw [hf] at hg; cases hg
  | some q =>
    rw [hf] at hg
    have h1 : q.2 = v := Option.some.inj hg
    have h2 : (q.1 == i) = true := List.find?_some (p := fun q : Nat × Value => q.1 == i) hf
    have h3 : q.1 = i := by simpa using h2
    have h4 := h.2.2 q (List.mem_of_find?_eq_some hf)
    rw [h3, h1] at h4
    exact h4
theorem ab_get_k {lv : ab_L} {i : Nat} {v : Value} (hg : ab_get lv i = some v) : ∃ k : Nat, lv[k]? = some (i, v) := by
  unfold ab_get at hg
  cases hf : lv.find? (fun q => q.1 == i) with
  | none => rw [hf] at hg; cases hg
  | some q =>
    rw [hf] at hg
    have h1 : q.2 = v := Option.some.inj hg
    have h2 : (q.1 == i) = true := List.find?_some (p := fun q : Nat × Value => q.1 == i) hf
    have h3 : q.1 = i := by simpa using h2
    obtain ⟨k, hk⟩ := List.mem_iff_getElem?.mp (List.mem_of_find?_eq_some hf)
    exact ⟨k, by rw [hk, ← h1, ← h3]⟩
theorem ab_to_at {pc : Nat} {off : Int} {lv : ab_L} {st : List Value} {f : ab_F} (h : ab_to pc off lv st = some f) : ∃ tgt : Nat, (pc : Int) + off = (tgt : Int) ∧ f = (tgt, lv, st) := by
  unfold ab_to at h
  by_cases h0 : 0 ≤ (pc : Int) + off
  · rw [if_pos h0] at h
    exact ⟨((pc : Int) + off).toNat, (Int.toNat_of_nonneg h0).symm, (Option.some.inj h).symm⟩
  · rw [if_neg h0] at h; cases h
def ab_s_iconst (n : Int) : List Value → Option (List Value)
  | r => some (.int (Int32.ofInt n) :: r)
def ab_s_bipush (n : Int) : List Value → Option (List Value)
  | r => some (.int ((Int8.ofInt n).toInt32) :: r)
def ab_s_sipush (n : Int) : List Value → Option (List Value)
  | r => some (.int ((Int16.ofInt n).toInt32) :: r)
def ab_s_lconst (n : Fin 2) : List Value → Option (List Value)
  | r => some (.long (Int64.ofNat (n : Nat)) :: r)
def ab_s_aconst_null  : List Value → Option (List Value)
  | r => some (.null :: r)
def ab_s_iadd  : List Value → Option (List Value)
  | .int y :: .int x :: r => some (.int (x + y) :: r)
  | _ => none
def ab_s_isub  : List Value → Option (List Value)
  | .int y :: .int x :: r => some (.int (x - y) :: r)
  | _ => none
def ab_s_imul  : List Value → Option (List Value)
  | .int y :: .int x :: r => some (.int (x * y) :: r)
  | _ => none
def ab_s_iand  : List Value → Option (List Value)
  | .int y :: .int x :: r => some (.int (x &&& y) :: r)
  | _ => none
def ab_s_ior  : List Value → Option (List Value)
  | .int y :: .int x :: r => some (.int (x ||| y) :: r)
  | _ => none
def ab_s_ixor  : List Value → Option (List Value)
  | .int y :: .int x :: r => some (.int (x ^^^ y) :: r)
  | _ => none
def ab_s_idiv  : List Value → Option (List Value)
  | .int y :: .int x :: r => if ¬ y = 0 then some (.int (x / y) :: r) else none
  | _ => none
def ab_s_irem  : List Value → Option (List Value)
  | .int y :: .int x :: r => if ¬ y = 0 then some (.int (x - x / y * y) :: r) else none
  | _ => none
def ab_s_ineg  : List Value → Option (List Value)
  | .int x :: r => some (.int (-x) :: r)
  | _ => none
def ab_s_ladd  : List Value → Option (List Value)
  | .long y :: .long x :: r => some (.long (x + y) :: r)
  | _ => none
def ab_s_lsub  : List Value → Option (List Value)
  | .long y :: .long x :: r => some (.long (x - y) :: r)
  | _ => none
def ab_s_lmul  : List Value → Option (List Value)
  | .long y :: .long x :: r => some (.long (x * y) :: r)
  | _ => none
def ab_s_land  : List Value → Option (List Value)
  | .long y :: .long x :: r => some (.long (x &&& y) :: r)
  | _ => none
def ab_s_lor  : List Value → Option (List Value)
  | .long y :: .long x :: r => some (.long (x ||| y) :: r)
  | _ => none
def ab_s_lxor  : List Value → Option (List Value)
  | .long y :: .long x :: r => some (.long (x ^^^ y) :: r)
  | _ => none
def ab_s_ldiv  : List Value → Option (List Value)
  | .long y :: .long x :: r => if ¬ y = 0 then some (.long (x / y) :: r) else none
  | _ => none
def ab_s_lrem  : List Value → Option (List Value)
  | .long y :: .long x :: r => if ¬ y = 0 then some (.long (x - x / y * y) :: r) else none
  | _ => none
def ab_s_lneg  : List Value → Option (List Value)
  | .long x :: r => some (.long (-x) :: r)
  | _ => none
def ab_s_ishl  : List Value → Option (List Value)
  | .int y :: .int x :: r => some (.int (x <<< (y &&& 31)) :: r)
  | _ => none
def ab_s_ishr  : List Value → Option (List Value)
  | .int y :: .int x :: r => some (.int (x >>> (y &&& 31)) :: r)
  | _ => none
def ab_s_iushr  : List Value → Option (List Value)
  | .int y :: .int x :: r => some (.int ((x.toUInt32 >>> (y.toUInt32 &&& Int32.toUInt32 31)).toInt32) :: r)
  | _ => none
def ab_s_lshl  : List Value → Option (List Value)
  | .int y :: .long x :: r => some (.long (x <<< (y.toInt64 &&& 63)) :: r)
  | _ => none
def ab_s_lshr  : List Value → Option (List Value)
  | .int y :: .long x :: r => some (.long (x >>> (y.toInt64 &&& 63)) :: r)
  | _ => none
def ab_s_lushr  : List Value → Option (List Value)
  | .int y :: .long x :: r => some (.long ((x.toUInt64 >>> (y.toInt64.toUInt64 &&& Int64.toUInt64 63)).toInt64) :: r)
  | _ => none
def ab_s_lcmp  : List Value → Option (List Value)
  | .long y :: .long x :: r => some (.int (lg_cmp x y) :: r)
  | _ => none
def ab_s_i2l  : List Value → Option (List Value)
  | .int x :: r => some (.long x.toInt64 :: r)
  | _ => none
def ab_s_l2i  : List Value → Option (List Value)
  | .long x :: r => some (.int x.toInt32 :: r)
  | _ => none
def ab_s_i2b  : List Value → Option (List Value)
  | .int x :: r => some (.int x.toInt8.toInt32 :: r)
  | _ => none
def ab_s_i2s  : List Value → Option (List Value)
  | .int x :: r => some (.int x.toInt16.toInt32 :: r)
  | _ => none
def ab_s_i2c  : List Value → Option (List Value)
  | .int x :: r => some (.int (x.toUInt32 % 65536).toInt32 :: r)
  | _ => none
def ab_s_dup  : List Value → Option (List Value)
  | va :: r => if va.category = 1 then some (va :: va :: r) else none
  | _ => none
def ab_s_pop  : List Value → Option (List Value)
  | va :: r => if va.category = 1 then some (r) else none
  | _ => none
def ab_s_dup_x1  : List Value → Option (List Value)
  | va :: vb :: r => if va.category = 1 ∧ vb.category = 1 then some (va :: vb :: va :: r) else none
  | _ => none
def ab_s_dup_x2  : List Value → Option (List Value)
  | va :: vb :: vd :: r => if va.category = 1 ∧ vb.category = 1 ∧ vd.category = 1 then some (va :: vb :: vd :: va :: r) else none
  | _ => none
def ab_s_dup2 : List Value → Option (List Value)
  | va :: r => if va.category = 2 then some (va :: va :: r) else (match r with
    | vb :: r => if va.category = 1 ∧ vb.category = 1 then some (va :: vb :: va :: vb :: r) else none
    | _ => none)
  | _ => none
def ab_s_pop2 : List Value → Option (List Value)
  | va :: r => if va.category = 2 then some r else (match r with
    | vb :: r => if va.category = 1 ∧ vb.category = 1 then some r else none
    | _ => none)
  | _ => none
/-- operands alone: the length of the instruction, and what it does to them -/
def ab_stk : Instr → Option (Nat × (List Value → Option (List Value)))
  | .iconst n => some (1, ab_s_iconst n)
  | .bipush n => some (2, ab_s_bipush n)
  | .sipush n => some (3, ab_s_sipush n)
  | .lconst n => some (1, ab_s_lconst n)
  | .aconst_null => some (1, ab_s_aconst_null)
  | .iadd => some (1, ab_s_iadd)
  | .isub => some (1, ab_s_isub)
  | .imul => some (1, ab_s_imul)
  | .iand => some (1, ab_s_iand)
  | .ior => some (1, ab_s_ior)
  | .ixor => some (1, ab_s_ixor)
  | .idiv => some (1, ab_s_idiv)
  | .irem => some (1, ab_s_irem)
  | .ineg => some (1, ab_s_ineg)
  | .ladd => some (1, ab_s_ladd)
  | .lsub => some (1, ab_s_lsub)
  | .lmul => some (1, ab_s_lmul)
  | .land => some (1, ab_s_land)
  | .lor => some (1, ab_s_lor)
  | .lxor => some (1, ab_s_lxor)
  | .ldiv => some (1, ab_s_ldiv)
  | .lrem => some (1, ab_s_lrem)
  | .lneg => some (1, ab_s_lneg)
  | .ishl => some (1, ab_s_ishl)
  | .ishr => some (1, ab_s_ishr)
  | .iushr => some (1, ab_s_iushr)
  | .lshl => some (1, ab_s_lshl)
  | .lshr => some (1, ab_s_lshr)
  | .lushr => some (1, ab_s_lushr)
  | .lcmp => some (1, ab_s_lcmp)
  | .i2l => some (1, ab_s_i2l)
  | .l2i => some (1, ab_s_l2i)
  | .i2b => some (1, ab_s_i2b)
  | .i2s => some (1, ab_s_i2s)
  | .i2c => some (1, ab_s_i2c)
  | .dup => some (1, ab_s_dup)
  | .pop => some (1, ab_s_pop)
  | .dup_x1 => some (1, ab_s_dup_x1)
  | .dup_x2 => some (1, ab_s_dup_x2)
  | .dup2 => some (1, ab_s_dup2)
  | .pop2 => some (1, ab_s_pop2)
  | _ => none
section AB1
variable {p : Program} {l : Launch} {e : Env} {R : Room} {s : State} {m : MethodId} {args : Array Value} {below : List Frame} {meth : Method} {c : Code} {H : Heap} {locs : List Loc} {cells slots : Nat} {Q : State → Prop} {cc : ByteArray} {pc : Nat} {ls : Array Slot} {st st9 : List Value}
theorem ab_w_iconst {n : Int} (hexec : p.tables.exec = Jvm.exec) (hb : c.code = cc) (hd : decode cc pc = .ok (.iconst n, 1)) (hf : ab_s_iconst n st = some st9) (kk : W p l e R s m args below meth c H locs cells slots Q (F0 m (pc + 1) ls st9)) : W p l e R s m args below meth c H locs cells slots Q (F0 m pc ls st) := by
  cases Option.some.inj hf
  exact lv_iconst hexec hb hd rfl kk
theorem ab_w_bipush {n : Int} (hexec : p.tables.exec = Jvm.exec) (hb : c.code = cc) (hd : decode cc pc = .ok (.bipush n, 2)) (hf : ab_s_bipush n st = some st9) (kk : W p l e R s m args below meth c H locs cells slots Q (F0 m (pc + 2) ls st9)) : W p l e R s m args below meth c H locs cells slots Q (F0 m pc ls st) := by
  cases Option.some.inj hf
  exact lv_bipush hexec hb hd rfl kk
theorem ab_w_sipush {n : Int} (hexec : p.tables.exec = Jvm.exec) (hb : c.code = cc) (hd : decode cc pc = .ok (.sipush n, 3)) (hf : ab_s_sipush n st = some st9) (kk : W p l e R s m args below meth c H locs cells slots Q (F0 m (pc + 3) ls st9)) : W p l e R s m args below meth c H locs cells slots Q (F0 m pc ls st) := by
  cases Option.some.inj hf
  exact lv_sipush hexec hb hd rfl kk
theorem ab_w_lconst {n : Fin 2} (hexec : p.tables.exec = Jvm.exec) (hb : c.code = cc) (hd : decode cc pc = .ok (.lconst n, 1)) (hf : ab_s_lconst n st = some st9) (kk : W p l e R s m args below meth c H locs cells slots Q (F0 m (pc + 1) ls st9)) : W p l e R s m args below meth c H locs cells slots Q (F0 m pc ls st) := by
  cases Option.some.inj hf
  exact lv_lconst hexec hb hd rfl kk
theorem ab_w_aconst_null  (hexec : p.tables.exec = Jvm.exec) (hb : c.code = cc) (hd : decode cc pc = .ok (.aconst_null, 1)) (hf : ab_s_aconst_null st = some st9) (kk : W p l e R s m args below meth c H locs cells slots Q (F0 m (pc + 1) ls st9)) : W p l e R s m args below meth c H locs cells slots Q (F0 m pc ls st) := by
  cases Option.some.inj hf
  exact lv_null hexec hb hd kk
theorem ab_w_iadd  (hexec : p.tables.exec = Jvm.exec) (hb : c.code = cc) (hd : decode cc pc = .ok (.iadd, 1)) (hf : ab_s_iadd st = some st9) (kk : W p l e R s m args below meth c H locs cells slots Q (F0 m (pc + 1) ls st9)) : W p l e R s m args below meth c H locs cells slots Q (F0 m pc ls st) := by
  unfold ab_s_iadd at hf
  split at hf
  · cases Option.some.inj hf
    exact lv_iadd hexec hb hd kk
  · cases hf
theorem ab_w_isub  (hexec : p.tables.exec = Jvm.exec) (hb : c.code = cc) (hd : decode cc pc = .ok (.isub, 1)) (hf : ab_s_isub st = some st9) (kk : W p l e R s m args below meth c H locs cells slots Q (F0 m (pc + 1) ls st9)) : W p l e R s m args below meth c H locs cells slots Q (F0 m pc ls st) := by
  unfold ab_s_isub at hf
  split at hf
  · cases Option.some.inj hf
    exact lv_isub hexec hb hd kk
  · cases hf
theorem ab_w_imul  (hexec : p.tables.exec = Jvm.exec) (hb : c.code = cc) (hd : decode cc pc = .ok (.imul, 1)) (hf : ab_s_imul st = some st9) (kk : W p l e R s m args below meth c H locs cells slots Q (F0 m (pc + 1) ls st9)) : W p l e R s m args below meth c H locs cells slots Q (F0 m pc ls st) := by
  unfold ab_s_imul at hf
  split at hf
  · cases Option.some.inj hf
    exact lv_imul hexec hb hd kk
  · cases hf
theorem ab_w_iand  (hexec : p.tables.exec = Jvm.exec) (hb : c.code = cc) (hd : decode cc pc = .ok (.iand, 1)) (hf : ab_s_iand st = some st9) (kk : W p l e R s m args below meth c H locs cells slots Q (F0 m (pc + 1) ls st9)) : W p l e R s m args below meth c H locs cells slots Q (F0 m pc ls st) := by
  unfold ab_s_iand at hf
  split at hf
  · cases Option.some.inj hf
    exact lv_iand hexec hb hd kk
  · cases hf
theorem ab_w_ior  (hexec : p.tables.exec = Jvm.exec) (hb : c.code = cc) (hd : decode cc pc = .ok (.ior, 1)) (hf : ab_s_ior st = some st9) (kk : W p l e R s m args below meth c H locs cells slots Q (F0 m (pc + 1) ls st9)) : W p l e R s m args below meth c H locs cells slots Q (F0 m pc ls st) := by
  unfold ab_s_ior at hf
  split at hf
  · cases Option.some.inj hf
    exact lv_ior hexec hb hd kk
  · cases hf
theorem ab_w_ixor  (hexec : p.tables.exec = Jvm.exec) (hb : c.code = cc) (hd : decode cc pc = .ok (.ixor, 1)) (hf : ab_s_ixor st = some st9) (kk : W p l e R s m args below meth c H locs cells slots Q (F0 m (pc + 1) ls st9)) : W p l e R s m args below meth c H locs cells slots Q (F0 m pc ls st) := by
  unfold ab_s_ixor at hf
  split at hf
  · cases Option.some.inj hf
    exact lv_ixor hexec hb hd kk
  · cases hf
theorem ab_w_idiv  (hexec : p.tables.exec = Jvm.exec) (hb : c.code = cc) (hd : decode cc pc = .ok (.idiv, 1)) (hf : ab_s_idiv st = some st9) (kk : W p l e R s m args below meth c H locs cells slots Q (F0 m (pc + 1) ls st9)) : W p l e R s m args below meth c H locs cells slots Q (F0 m pc ls st) := by
  unfold ab_s_idiv at hf
  split at hf
  · split at hf
    · rename_i hg
      cases Option.some.inj hf
      exact lv_idiv hexec hb hd hg kk
    · cases hf
  · cases hf
theorem ab_w_irem  (hexec : p.tables.exec = Jvm.exec) (hb : c.code = cc) (hd : decode cc pc = .ok (.irem, 1)) (hf : ab_s_irem st = some st9) (kk : W p l e R s m args below meth c H locs cells slots Q (F0 m (pc + 1) ls st9)) : W p l e R s m args below meth c H locs cells slots Q (F0 m pc ls st) := by
  unfold ab_s_irem at hf
  split at hf
  · split at hf
    · rename_i hg
      cases Option.some.inj hf
      exact lv_irem hexec hb hd hg kk
    · cases hf
  · cases hf
theorem ab_w_ineg  (hexec : p.tables.exec = Jvm.exec) (hb : c.code = cc) (hd : decode cc pc = .ok (.ineg, 1)) (hf : ab_s_ineg st = some st9) (kk : W p l e R s m args below meth c H locs cells slots Q (F0 m (pc + 1) ls st9)) : W p l e R s m args below meth c H locs cells slots Q (F0 m pc ls st) := by
  unfold ab_s_ineg at hf
  split at hf
  · cases Option.some.inj hf
    exact lv_ineg hexec hb hd kk
  · cases hf
theorem ab_w_ladd  (hexec : p.tables.exec = Jvm.exec) (hb : c.code = cc) (hd : decode cc pc = .ok (.ladd, 1)) (hf : ab_s_ladd st = some st9) (kk : W p l e R s m args below meth c H locs cells slots Q (F0 m (pc + 1) ls st9)) : W p l e R s m args below meth c H locs cells slots Q (F0 m pc ls st) := by
  unfold ab_s_ladd at hf
  split at hf
  · cases Option.some.inj hf
    exact lv_ladd hexec hb hd kk
  · cases hf
theorem ab_w_lsub  (hexec : p.tables.exec = Jvm.exec) (hb : c.code = cc) (hd : decode cc pc = .ok (.lsub, 1)) (hf : ab_s_lsub st = some st9) (kk : W p l e R s m args below meth c H locs cells slots Q (F0 m (pc + 1) ls st9)) : W p l e R s m args below meth c H locs cells slots Q (F0 m pc ls st) := by
  unfold ab_s_lsub at hf
  split at hf
  · cases Option.some.inj hf
    exact lv_lsub hexec hb hd kk
  · cases hf
theorem ab_w_lmul  (hexec : p.tables.exec = Jvm.exec) (hb : c.code = cc) (hd : decode cc pc = .ok (.lmul, 1)) (hf : ab_s_lmul st = some st9) (kk : W p l e R s m args below meth c H locs cells slots Q (F0 m (pc + 1) ls st9)) : W p l e R s m args below meth c H locs cells slots Q (F0 m pc ls st) := by
  unfold ab_s_lmul at hf
  split at hf
  · cases Option.some.inj hf
    exact lv_lmul hexec hb hd kk
  · cases hf
theorem ab_w_land  (hexec : p.tables.exec = Jvm.exec) (hb : c.code = cc) (hd : decode cc pc = .ok (.land, 1)) (hf : ab_s_land st = some st9) (kk : W p l e R s m args below meth c H locs cells slots Q (F0 m (pc + 1) ls st9)) : W p l e R s m args below meth c H locs cells slots Q (F0 m pc ls st) := by
  unfold ab_s_land at hf
  split at hf
  · cases Option.some.inj hf
    exact lv_land hexec hb hd kk
  · cases hf
theorem ab_w_lor  (hexec : p.tables.exec = Jvm.exec) (hb : c.code = cc) (hd : decode cc pc = .ok (.lor, 1)) (hf : ab_s_lor st = some st9) (kk : W p l e R s m args below meth c H locs cells slots Q (F0 m (pc + 1) ls st9)) : W p l e R s m args below meth c H locs cells slots Q (F0 m pc ls st) := by
  unfold ab_s_lor at hf
  split at hf
  · cases Option.some.inj hf
    exact lv_lor hexec hb hd kk
  · cases hf
theorem ab_w_lxor  (hexec : p.tables.exec = Jvm.exec) (hb : c.code = cc) (hd : decode cc pc = .ok (.lxor, 1)) (hf : ab_s_lxor st = some st9) (kk : W p l e R s m args below meth c H locs cells slots Q (F0 m (pc + 1) ls st9)) : W p l e R s m args below meth c H locs cells slots Q (F0 m pc ls st) := by
  unfold ab_s_lxor at hf
  split at hf
  · cases Option.some.inj hf
    exact lv_lxor hexec hb hd kk
  · cases hf
theorem ab_w_ldiv  (hexec : p.tables.exec = Jvm.exec) (hb : c.code = cc) (hd : decode cc pc = .ok (.ldiv, 1)) (hf : ab_s_ldiv st = some st9) (kk : W p l e R s m args below meth c H locs cells slots Q (F0 m (pc + 1) ls st9)) : W p l e R s m args below meth c H locs cells slots Q (F0 m pc ls st) := by
  unfold ab_s_ldiv at hf
  split at hf
  · split at hf
    · rename_i hg
      cases Option.some.inj hf
      exact lv_ldiv hexec hb hd hg kk
    · cases hf
  · cases hf
theorem ab_w_lrem  (hexec : p.tables.exec = Jvm.exec) (hb : c.code = cc) (hd : decode cc pc = .ok (.lrem, 1)) (hf : ab_s_lrem st = some st9) (kk : W p l e R s m args below meth c H locs cells slots Q (F0 m (pc + 1) ls st9)) : W p l e R s m args below meth c H locs cells slots Q (F0 m pc ls st) := by
  unfold ab_s_lrem at hf
  split at hf
  · split at hf
    · rename_i hg
      cases Option.some.inj hf
      exact lv_lrem hexec hb hd hg kk
    · cases hf
  · cases hf
theorem ab_w_lneg  (hexec : p.tables.exec = Jvm.exec) (hb : c.code = cc) (hd : decode cc pc = .ok (.lneg, 1)) (hf : ab_s_lneg st = some st9) (kk : W p l e R s m args below meth c H locs cells slots Q (F0 m (pc + 1) ls st9)) : W p l e R s m args below meth c H locs cells slots Q (F0 m pc ls st) := by
  unfold ab_s_lneg at hf
  split at hf
  · cases Option.some.inj hf
    exact lv_lneg hexec hb hd kk
  · cases hf
theorem ab_w_ishl  (hexec : p.tables.exec = Jvm.exec) (hb : c.code = cc) (hd : decode cc pc = .ok (.ishl, 1)) (hf : ab_s_ishl st = some st9) (kk : W p l e R s m args below meth c H locs cells slots Q (F0 m (pc + 1) ls st9)) : W p l e R s m args below meth c H locs cells slots Q (F0 m pc ls st) := by
  unfold ab_s_ishl at hf
  split at hf
  · cases Option.some.inj hf
    exact lv_ishl hexec hb hd kk
  · cases hf
theorem ab_w_ishr  (hexec : p.tables.exec = Jvm.exec) (hb : c.code = cc) (hd : decode cc pc = .ok (.ishr, 1)) (hf : ab_s_ishr st = some st9) (kk : W p l e R s m args below meth c H locs cells slots Q (F0 m (pc + 1) ls st9)) : W p l e R s m args below meth c H locs cells slots Q (F0 m pc ls st) := by
  unfold ab_s_ishr at hf
  split at hf
  · cases Option.some.inj hf
    exact lv_ishr hexec hb hd kk
  · cases hf
theorem ab_w_iushr  (hexec : p.tables.exec = Jvm.exec) (hb : c.code = cc) (hd : decode cc pc = .ok (.iushr, 1)) (hf : ab_s_iushr st = some st9) (kk : W p l e R s m args below meth c H locs cells slots Q (F0 m (pc + 1) ls st9)) : W p l e R s m args below meth c H locs cells slots Q (F0 m pc ls st) := by
  unfold ab_s_iushr at hf
  split at hf
  · cases Option.some.inj hf
    exact lv_iushr hexec hb hd rfl kk
  · cases hf
theorem ab_w_lshl  (hexec : p.tables.exec = Jvm.exec) (hb : c.code = cc) (hd : decode cc pc = .ok (.lshl, 1)) (hf : ab_s_lshl st = some st9) (kk : W p l e R s m args below meth c H locs cells slots Q (F0 m (pc + 1) ls st9)) : W p l e R s m args below meth c H locs cells slots Q (F0 m pc ls st) := by
  unfold ab_s_lshl at hf
  split at hf
  · cases Option.some.inj hf
    exact lv_lshl hexec hb hd rfl kk
  · cases hf
theorem ab_w_lshr  (hexec : p.tables.exec = Jvm.exec) (hb : c.code = cc) (hd : decode cc pc = .ok (.lshr, 1)) (hf : ab_s_lshr st = some st9) (kk : W p l e R s m args below meth c H locs cells slots Q (F0 m (pc + 1) ls st9)) : W p l e R s m args below meth c H locs cells slots Q (F0 m pc ls st) := by
  unfold ab_s_lshr at hf
  split at hf
  · cases Option.some.inj hf
    exact lv_lshr hexec hb hd rfl kk
  · cases hf
theorem ab_w_lushr  (hexec : p.tables.exec = Jvm.exec) (hb : c.code = cc) (hd : decode cc pc = .ok (.lushr, 1)) (hf : ab_s_lushr st = some st9) (kk : W p l e R s m args below meth c H locs cells slots Q (F0 m (pc + 1) ls st9)) : W p l e R s m args below meth c H locs cells slots Q (F0 m pc ls st) := by
  unfold ab_s_lushr at hf
  split at hf
  · cases Option.some.inj hf
    exact lv_lushr hexec hb hd rfl kk
  · cases hf
theorem ab_w_lcmp  (hexec : p.tables.exec = Jvm.exec) (hb : c.code = cc) (hd : decode cc pc = .ok (.lcmp, 1)) (hf : ab_s_lcmp st = some st9) (kk : W p l e R s m args below meth c H locs cells slots Q (F0 m (pc + 1) ls st9)) : W p l e R s m args below meth c H locs cells slots Q (F0 m pc ls st) := by
  unfold ab_s_lcmp at hf
  split at hf
  · cases Option.some.inj hf
    exact W.lcmp hexec hb hd kk
  · cases hf
theorem ab_w_i2l  (hexec : p.tables.exec = Jvm.exec) (hb : c.code = cc) (hd : decode cc pc = .ok (.i2l, 1)) (hf : ab_s_i2l st = some st9) (kk : W p l e R s m args below meth c H locs cells slots Q (F0 m (pc + 1) ls st9)) : W p l e R s m args below meth c H locs cells slots Q (F0 m pc ls st) := by
  unfold ab_s_i2l at hf
  split at hf
  · cases Option.some.inj hf
    exact lv_i2l hexec hb hd rfl kk
  · cases hf
theorem ab_w_l2i  (hexec : p.tables.exec = Jvm.exec) (hb : c.code = cc) (hd : decode cc pc = .ok (.l2i, 1)) (hf : ab_s_l2i st = some st9) (kk : W p l e R s m args below meth c H locs cells slots Q (F0 m (pc + 1) ls st9)) : W p l e R s m args below meth c H locs cells slots Q (F0 m pc ls st) := by
  unfold ab_s_l2i at hf
  split at hf
  · cases Option.some.inj hf
    exact lv_l2i hexec hb hd rfl kk
  · cases hf
theorem ab_w_i2b  (hexec : p.tables.exec = Jvm.exec) (hb : c.code = cc) (hd : decode cc pc = .ok (.i2b, 1)) (hf : ab_s_i2b st = some st9) (kk : W p l e R s m args below meth c H locs cells slots Q (F0 m (pc + 1) ls st9)) : W p l e R s m args below meth c H locs cells slots Q (F0 m pc ls st) := by
  unfold ab_s_i2b at hf
  split at hf
  · cases Option.some.inj hf
    exact lv_i2b hexec hb hd rfl kk
  · cases hf
theorem ab_w_i2s  (hexec : p.tables.exec = Jvm.exec) (hb : c.code = cc) (hd : decode cc pc = .ok (.i2s, 1)) (hf : ab_s_i2s st = some st9) (kk : W p l e R s m args below meth c H locs cells slots Q (F0 m (pc + 1) ls st9)) : W p l e R s m args below meth c H locs cells slots Q (F0 m pc ls st) := by
  unfold ab_s_i2s at hf
  split at hf
  · cases Option.some.inj hf
    exact lv_i2s hexec hb hd rfl kk
  · cases hf
theorem ab_w_i2c  (hexec : p.tables.exec = Jvm.exec) (hb : c.code = cc) (hd : decode cc pc = .ok (.i2c, 1)) (hf : ab_s_i2c st = some st9) (kk : W p l e R s m args below meth c H locs cells slots Q (F0 m (pc + 1) ls st9)) : W p l e R s m args below meth c H locs cells slots Q (F0 m pc ls st) := by
  unfold ab_s_i2c at hf
  split at hf
  · cases Option.some.inj hf
    exact lv_i2c hexec hb hd rfl kk
  · cases hf
theorem ab_w_dup  (hexec : p.tables.exec = Jvm.exec) (hb : c.code = cc) (hd : decode cc pc = .ok (.dup, 1)) (hf : ab_s_dup st = some st9) (kk : W p l e R s m args below meth c H locs cells slots Q (F0 m (pc + 1) ls st9)) : W p l e R s m args below meth c H locs cells slots Q (F0 m pc ls st) := by
  unfold ab_s_dup at hf
  split at hf
  · split at hf
    · rename_i hg
      cases Option.some.inj hf
      exact lv_dup hexec hb hd hg kk
    · cases hf
  · cases hf
theorem ab_w_pop  (hexec : p.tables.exec = Jvm.exec) (hb : c.code = cc) (hd : decode cc pc = .ok (.pop, 1)) (hf : ab_s_pop st = some st9) (kk : W p l e R s m args below meth c H locs cells slots Q (F0 m (pc + 1) ls st9)) : W p l e R s m args below meth c H locs cells slots Q (F0 m pc ls st) := by
  unfold ab_s_pop at hf
  split at hf
  · split at hf
    · rename_i hg
      cases Option.some.inj hf
      exact lv_pop hexec hb hd hg kk
    · cases hf
  · cases hf
theorem ab_w_dup_x1  (hexec : p.tables.exec = Jvm.exec) (hb : c.code = cc) (hd : decode cc pc = .ok (.dup_x1, 1)) (hf : ab_s_dup_x1 st = some st9) (kk : W p l e R s m args below meth c H locs cells slots Q (F0 m (pc + 1) ls st9)) : W p l e R s m args below meth c H locs cells slots Q (F0 m pc ls st) := by
  unfold ab_s_dup_x1 at hf
  split at hf
  · split at hf
    · rename_i hg
      cases Option.some.inj hf
      exact lv_dup_x1 hexec hb hd hg.1 hg.2 kk
    · cases hf
  · cases hf
theorem ab_w_dup_x2  (hexec : p.tables.exec = Jvm.exec) (hb : c.code = cc) (hd : decode cc pc = .ok (.dup_x2, 1)) (hf : ab_s_dup_x2 st = some st9) (kk : W p l e R s m args below meth c H locs cells slots Q (F0 m (pc + 1) ls st9)) : W p l e R s m args below meth c H locs cells slots Q (F0 m pc ls st) := by
  unfold ab_s_dup_x2 at hf
  split at hf
  · split at hf
    · rename_i hg
      cases Option.some.inj hf
      exact lv_dup_x2 hexec hb hd hg.1 hg.2.1 hg.2.2 kk
    · cases hf
  · cases hf
theorem ab_w_dup2 (hexec : p.tables.exec = Jvm.exec) (hb : c.code = cc) (hd : decode cc pc = .ok (.dup2, 1)) (hf : ab_s_dup2 st = some st9) (kk : W p l e R s m args below meth c H locs cells slots Q (F0 m (pc + 1) ls st9)) : W p l e R s m args below meth c H locs cells slots Q (F0 m pc ls st) := by
  unfold ab_s_dup2 at hf
  split at hf
  · split at hf
    · rename_i hg
      cases Option.some.inj hf
      exact lv_dup2_2 hexec hb hd hg kk
    · split at hf
      · split at hf
        · rename_i hg
          cases Option.some.inj hf
          exact lv_dup2_11 hexec hb hd hg.1 hg.2 kk
        · cases hf
      · cases hf
  · cases hf
theorem ab_w_pop2 (hexec : p.tables.exec = Jvm.exec) (hb : c.code = cc) (hd : decode cc pc = .ok (.pop2, 1)) (hf : ab_s_pop2 st = some st9) (kk : W p l e R s m args below meth c H locs cells slots Q (F0 m (pc + 1) ls st9)) : W p l e R s m args below meth c H locs cells slots Q (F0 m pc ls st) := by
  unfold ab_s_pop2 at hf
  split at hf
  · split at hf
    · rename_i hg
      cases Option.some.inj hf
      exact lv_pop2_2 hexec hb hd hg kk
    · split at hf
      · split at hf
        · rename_i hg
          cases Option.some.inj hf
          exact lv_pop2_11 hexec hb hd hg.1 hg.2 kk
        · cases hf
      · cases hf
  · cases hf
theorem ab_stk_W {i : Instr} {len k : Nat} {f : List Value → Option (List Value)} (hexec : p.tables.exec = Jvm.exec) (hb : c.code = cc) (hi : ab_stk i = some (k, f)) (hd : decode cc pc = .ok (i, k)) (hf : f st = some st9) (kk : W p l e R s m args below meth c H locs cells slots Q (F0 m (pc + k) ls st9)) : W p l e R s m args below meth c H locs cells slots Q (F0 m pc ls st) := by
  unfold ab_stk at hi
  split at hi
  · cases Option.some.inj hi; exact ab_w_iconst hexec hb hd hf kk
  · cases Option.some.inj hi; exact ab_w_bipush hexec hb hd hf kk
  · cases Option.some.inj hi; exact ab_w_sipush hexec hb hd hf kk
  · cases Option.some.inj hi; exact ab_w_lconst hexec hb hd hf kk
  · cases Option.some.inj hi; exact ab_w_aconst_null hexec hb hd hf kk
  · cases Option.some.inj hi; exact ab_w_iadd hexec hb hd hf kk
  · cases Option.some.inj hi; exact ab_w_isub hexec hb hd hf kk
  · cases Option.some.inj hi; exact ab_w_imul hexec hb hd hf kk
  · cases Option.some.inj hi; exact ab_w_iand hexec hb hd hf kk
  · cases Option.some.inj hi; exact ab_w_ior hexec hb hd hf kk
  · cases Option.some.inj hi; exact ab_w_ixor hexec hb hd hf kk
  · cases Option.some.inj hi; exact ab_w_idiv hexec hb hd hf kk
  · cases Option.some.inj hi; exact ab_w_irem hexec hb hd hf kk
  · cases Option.some.inj hi; exact ab_w_ineg hexec hb hd hf kk
  · cases Option.some.inj hi; exact ab_w_ladd hexec hb hd hf kk
  · cases Option.some.inj hi; exact ab_w_lsub hexec hb hd hf kk
  · cases Option.some.inj hi; exact ab_w_lmul hexec hb hd hf kk
  · cases Option.some.inj hi; exact ab_w_land hexec hb hd hf kk
  · cases Option.some.inj hi; exact ab_w_lor hexec hb hd hf kk
  · cases Option.some.inj hi; exact ab_w_lxor hexec hb hd hf kk
  · cases Option.some.inj hi; exact ab_w_ldiv hexec hb hd hf kk
  · cases Option.some.inj hi; exact ab_w_lrem hexec hb hd hf kk
  · cases Option.some.inj hi; exact ab_w_lneg hexec hb hd hf kk
  · cases Option.some.inj hi; exact ab_w_ishl hexec hb hd hf kk
  · cases Option.some.inj hi; exact ab_w_ishr hexec hb hd hf kk
  · cases Option.some.inj hi; exact ab_w_iushr hexec hb hd hf kk
  · cases Option.some.inj hi; exact ab_w_lshl hexec hb hd hf kk
  · cases Option.some.inj hi; exact ab_w_lshr hexec hb hd hf kk
  · cases Option.some.inj hi; exact ab_w_lushr hexec hb hd hf kk
  · cases Option.some.inj hi; exact ab_w_lcmp hexec hb hd hf kk
  · cases Option.some.inj hi; exact ab_w_i2l hexec hb hd hf kk
  · cases Option.some.inj hi; exact ab_w_l2i hexec hb hd hf kk
  · cases Option.some.inj hi; exact ab_w_i2b hexec hb hd hf kk
  · cases Option.some.inj hi; exact ab_w_i2s hexec hb hd hf kk
  · cases Option.some.inj hi; exact ab_w_i2c hexec hb hd hf kk
  · cases Option.some.inj hi; exact ab_w_dup hexec hb hd hf kk
  · cases Option.some.inj hi; exact ab_w_pop hexec hb hd hf kk
  · cases Option.some.inj hi; exact ab_w_dup_x1 hexec hb hd hf kk
  · cases Option.some.inj hi; exact ab_w_dup_x2 hexec hb hd hf kk
  · cases Option.some.inj hi; exact ab_w_dup2 hexec hb hd hf kk
  · cases Option.some.inj hi; exact ab_w_pop2 hexec hb hd hf kk
  · cases hi
end AB1
