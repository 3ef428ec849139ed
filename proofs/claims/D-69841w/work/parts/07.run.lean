/-! THE ABSTRACT MACHINE. ab_T: a program's tables, by the numbers of its methods; ab_run: its run, one method inside another; what it answers: how the method ended, the heap behind it, its size, cells and slots made. -/
/-- names; bytes, words of locals, answer, static?; fields that are read, written; classes that are made; arrays of references; casts; constants; calls; which classes a call may be on; kinds of arrays; which classes may go into which arrays; where the heap began -/
abbrev ab_T : Type := (Nat → MethodName) × (Nat → ByteArray × Nat × Option FieldType × Bool) × (Nat → Nat → Option (Nat × Nat)) × (Nat → Nat → Option (Nat × Nat × FieldType × Bool)) × (Nat → Nat → Option (Nat × List Value)) × (Nat → Nat → Option Nat) × (Nat → Nat → Option Nat) × (Nat → Nat → Option Value) × (Nat → Nat → Option (Nat × Nat)) × (Nat → Nat → Bool) × List FieldType × (Nat → Nat → Bool) × Nat
abbrev ab_nm (P : ab_T) (y : Nat) : MethodName := P.1 y
abbrev ab_code (P : ab_T) (y : Nat) : ByteArray := (P.2.1 y).1
abbrev ab_maxL (P : ab_T) (y : Nat) : Nat := (P.2.1 y).2.1
abbrev ab_ret (P : ab_T) (y : Nat) : Option FieldType := (P.2.1 y).2.2.1
abbrev ab_stt (P : ab_T) (y : Nat) : Bool := (P.2.1 y).2.2.2
abbrev ab_fg (P : ab_T) : Nat → Nat → Option (Nat × Nat) := P.2.2.1
abbrev ab_fp (P : ab_T) : Nat → Nat → Option (Nat × Nat × FieldType × Bool) := P.2.2.2.1
abbrev ab_nw (P : ab_T) : Nat → Nat → Option (Nat × List Value) := P.2.2.2.2.1
abbrev ab_an (P : ab_T) : Nat → Nat → Option Nat := P.2.2.2.2.2.1
abbrev ab_ck (P : ab_T) : Nat → Nat → Option Nat := P.2.2.2.2.2.2.1
abbrev ab_cn (P : ab_T) : Nat → Nat → Option Value := P.2.2.2.2.2.2.2.1
abbrev ab_cal (P : ab_T) : Nat → Nat → Option (Nat × Nat) := P.2.2.2.2.2.2.2.2.1
abbrev ab_sel (P : ab_T) : Nat → Nat → Bool := P.2.2.2.2.2.2.2.2.2.1
abbrev ab_ak (P : ab_T) : List FieldType := P.2.2.2.2.2.2.2.2.2.2.1
abbrev ab_cs (P : ab_T) : Nat → Nat → Bool := P.2.2.2.2.2.2.2.2.2.2.2.1
abbrev ab_n0 (P : ab_T) : Nat := P.2.2.2.2.2.2.2.2.2.2.2.2
/-- behind an instruction at the heap: the frame, the heap, its size, cells and slots made -/
abbrev ab_X : Type := ab_F × ab_H × Nat × Nat × Nat
abbrev ab_S : Type := Outcome × ab_H × Nat × Nat × Nat
def ab_kd (ak : List FieldType) (ty : FieldType) : Option Nat := ak.findIdx? (fun t => t == ty)
def ab_h_getf (P : ab_T) (y idx pc : Nat) (lv : ab_L) (h : ab_H) (n : Nat) : List Value → Option ab_X
  | .ref a :: r => (match ab_fg P y idx, h a with
    | some (ci, k), some (.inr (cj, fs)) => if cj = ci then (match fs[k]? with
      | some v => some ((pc + 3, lv, v :: r), h, n, 0, 0)
      | none => none) else none
    | _, _ => none)
  | _ => none
def ab_h_putf (P : ab_T) (y idx pc : Nat) (lv : ab_L) (h : ab_H) (n : Nat) : List Value → Option ab_X
  | v :: .ref a :: r => (match ab_fp P y idx, h a with
    | some (ci, k, ty, _), some (.inr (cj, fs)) => if cj = ci ∧ ab_n0 P ≤ a ∧ narrow ty v = v ∧ fits ty v = true ∧ k < fs.length then some ((pc + 3, lv, r), ab_up h a (.inr (cj, fs.set k v)), n, 0, 0) else none
    | _, _ => none)
  | _ => none
def ab_h_alen (P : ab_T) (pc : Nat) (lv : ab_L) (h : ab_H) (n : Nat) : List Value → Option ab_X
  | .ref a :: r => (match h a with
    | some (.inl (k, x)) => (match (ab_ak P)[k]? with
      | some _ => some ((pc + 1, lv, .int (Int32.ofNat x.1) :: r), h, n, 0, 0)
      | none => none)
    | _ => none)
  | _ => none
def ab_h_iald (P : ab_T) (pc : Nat) (lv : ab_L) (h : ab_H) (n : Nat) : List Value → Option ab_X
  | .int i :: .ref a :: r => (match h a with
    | some (.inl (k, N, .inl f)) => if (ab_ak P)[k]? = some .int ∧ 0 ≤ i ∧ i.toNatClampNeg < N then some ((pc + 1, lv, .int (f i.toNatClampNeg) :: r), h, n, 0, 0) else none
    | _ => none)
  | _ => none
def ab_h_bald (P : ab_T) (pc : Nat) (lv : ab_L) (h : ab_H) (n : Nat) : List Value → Option ab_X
  | .int i :: .ref a :: r => (match h a with
    | some (.inl (k, N, .inl f)) => if ((ab_ak P)[k]? = some .byte ∨ (ab_ak P)[k]? = some .boolean) ∧ 0 ≤ i ∧ i.toNatClampNeg < N then some ((pc + 1, lv, .int (f i.toNatClampNeg) :: r), h, n, 0, 0) else none
    | _ => none)
  | _ => none
def ab_h_lald (P : ab_T) (pc : Nat) (lv : ab_L) (h : ab_H) (n : Nat) : List Value → Option ab_X
  | .int i :: .ref a :: r => (match h a with
    | some (.inl (k, N, .inr (.inl f))) => if (ab_ak P)[k]? = some .long ∧ 0 ≤ i ∧ i.toNatClampNeg < N then some ((pc + 1, lv, .long (f i.toNatClampNeg) :: r), h, n, 0, 0) else none
    | _ => none)
  | _ => none
def ab_h_aald (P : ab_T) (pc : Nat) (lv : ab_L) (h : ab_H) (n : Nat) : List Value → Option ab_X
  | .int i :: .ref a :: r => (match h a with
    | some (.inl (k, N, .inr (.inr (.inr (.inr f))))) => (match (ab_ak P)[k]? with
      | some (.object _) => if 0 ≤ i ∧ i.toNatClampNeg < N then some ((pc + 1, lv, va_rf (f i.toNatClampNeg) :: r), h, n, 0, 0) else none
      | _ => none)
    | _ => none)
  | _ => none
def ab_h_iast (P : ab_T) (pc : Nat) (lv : ab_L) (h : ab_H) (n : Nat) : List Value → Option ab_X
  | .int x :: .int i :: .ref a :: r => (match h a with
    | some (.inl (k, N, .inl f)) => if (ab_ak P)[k]? = some .int ∧ ab_n0 P ≤ a ∧ 0 ≤ i ∧ i.toNatClampNeg < N then some ((pc + 1, lv, r), ab_up h a (.inl (k, N, .inl (upd f i.toNatClampNeg x))), n, 0, 0) else none
    | _ => none)
  | _ => none
def ab_h_bast (P : ab_T) (pc : Nat) (lv : ab_L) (h : ab_H) (n : Nat) : List Value → Option ab_X
  | .int x :: .int i :: .ref a :: r => (match h a with
    | some (.inl (k, N, .inl f)) => if (ab_ak P)[k]? = some .byte ∧ ab_n0 P ≤ a ∧ 0 ≤ i ∧ i.toNatClampNeg < N then some ((pc + 1, lv, r), ab_up h a (.inl (k, N, .inl (upd f i.toNatClampNeg (vp_nar .byte x)))), n, 0, 0)
      else if (ab_ak P)[k]? = some .boolean ∧ ab_n0 P ≤ a ∧ 0 ≤ i ∧ i.toNatClampNeg < N then some ((pc + 1, lv, r), ab_up h a (.inl (k, N, .inl (upd f i.toNatClampNeg (vp_nar .boolean x)))), n, 0, 0) else none
    | _ => none)
  | _ => none
def ab_h_last (P : ab_T) (pc : Nat) (lv : ab_L) (h : ab_H) (n : Nat) : List Value → Option ab_X
  | .long x :: .int i :: .ref a :: r => (match h a with
    | some (.inl (k, N, .inr (.inl f))) => if (ab_ak P)[k]? = some .long ∧ ab_n0 P ≤ a ∧ 0 ≤ i ∧ i.toNatClampNeg < N then some ((pc + 1, lv, r), ab_up h a (.inl (k, N, .inr (.inl (vp_updL f i.toNatClampNeg x)))), n, 0, 0) else none
    | _ => none)
  | _ => none
def ab_h_aast (P : ab_T) (pc : Nat) (lv : ab_L) (h : ab_H) (n : Nat) : List Value → Option ab_X
  | .null :: .int i :: .ref a :: r => (match h a with
    | some (.inl (k, N, .inr (.inr (.inr (.inr f))))) => (match (ab_ak P)[k]? with
      | some (.object _) => if ab_n0 P ≤ a ∧ 0 ≤ i ∧ i.toNatClampNeg < N then some ((pc + 1, lv, r), ab_up h a (.inl (k, N, .inr (.inr (.inr (.inr (va_up f i.toNatClampNeg none)))))), n, 0, 0) else none
      | _ => none)
    | _ => none)
  | .ref v :: .int i :: .ref a :: r => (match h a, h v with
    | some (.inl (k, N, .inr (.inr (.inr (.inr f))))), some (.inr (ci, _)) => if ab_cs P k ci = true ∧ ab_n0 P ≤ a ∧ 0 ≤ i ∧ i.toNatClampNeg < N then some ((pc + 1, lv, r), ab_up h a (.inl (k, N, .inr (.inr (.inr (.inr (va_up f i.toNatClampNeg (some v))))))), n, 0, 0) else none
    | _, _ => none)
  | _ => none
def ab_h_new (P : ab_T) (y idx pc : Nat) (lv : ab_L) (h : ab_H) (n : Nat) (st : List Value) : Option ab_X := match ab_nw P y idx with
  | some (ci, fs) => some ((pc + 3, lv, .ref n :: st), ab_up h n (.inr (ci, fs)), n + 1, 1, fs.length)
  | none => none
def ab_h_newa (P : ab_T) (atype : ArrayType) (pc : Nat) (lv : ab_L) (h : ab_H) (n : Nat) : List Value → Option ab_X
  | .int i :: r => (match ab_kd (ab_ak P) (newarray.typeOf atype), ab_zero (newarray.typeOf atype) i.toNatClampNeg with
    | some k, some x => if 0 ≤ i ∧ i.toNatClampNeg * componentBytes (newarray.typeOf atype) ≤ 536870912 then some ((pc + 2, lv, .ref n :: r), ab_up h n (.inl (k, x)), n + 1, 1, i.toNatClampNeg) else none
    | _, _ => none)
  | _ => none
def ab_h_anew (P : ab_T) (y idx pc : Nat) (lv : ab_L) (h : ab_H) (n : Nat) : List Value → Option ab_X
  | .int i :: r => (match ab_an P y idx with
    | some k => if 0 ≤ i ∧ i.toNatClampNeg * 4 ≤ 536870912 then some ((pc + 3, lv, .ref n :: r), ab_up h n (.inl (k, i.toNatClampNeg, .inr (.inr (.inr (.inr (fun _ => none)))))), n + 1, 1, i.toNatClampNeg) else none
    | none => none)
  | _ => none
def ab_h_cast (P : ab_T) (y idx pc : Nat) (lv : ab_L) (h : ab_H) (n : Nat) : List Value → Option ab_X
  | .null :: r => some ((pc + 3, lv, .null :: r), h, n, 0, 0)
  | .ref a :: r => (match ab_ck P y idx, h a with
    | some ci, some (.inr (cj, _)) => if cj = ci then some ((pc + 3, lv, .ref a :: r), h, n, 0, 0) else none
    | _, _ => none)
  | _ => none
def ab_h_ldc (P : ab_T) (y idx len pc : Nat) (lv : ab_L) (h : ab_H) (n : Nat) (st : List Value) (wide : Nat) : Option ab_X := match ab_cn P y idx, wide with
  | some (.int v), 2 => if len = 2 then some ((pc + 2, lv, .int v :: st), h, n, 0, 0) else none
  | some (.ref a), 2 => if len = 2 then some ((pc + 2, lv, .ref a :: st), h, n, 0, 0) else none
  | some (.int v), 3 => if len = 3 then some ((pc + 3, lv, .int v :: st), h, n, 0, 0) else none
  | some (.long v), 4 => if len = 3 then some ((pc + 3, lv, .long v :: st), h, n, 0, 0) else none
  | _, _ => none
/-- an instruction at the heap or at the tables -/
def ab_hp (P : ab_T) (y len pc : Nat) (lv : ab_L) (st : List Value) (h : ab_H) (n : Nat) : Instr → Option ab_X
  | .getfield idx => if len = 3 then ab_h_getf P y idx pc lv h n st else none
  | .putfield idx => if len = 3 then ab_h_putf P y idx pc lv h n st else none
  | .arraylength => if len = 1 then ab_h_alen P pc lv h n st else none
  | .iaload => if len = 1 then ab_h_iald P pc lv h n st else none
  | .baload => if len = 1 then ab_h_bald P pc lv h n st else none
  | .laload => if len = 1 then ab_h_lald P pc lv h n st else none
  | .aaload => if len = 1 then ab_h_aald P pc lv h n st else none
  | .iastore => if len = 1 then ab_h_iast P pc lv h n st else none
  | .bastore => if len = 1 then ab_h_bast P pc lv h n st else none
  | .lastore => if len = 1 then ab_h_last P pc lv h n st else none
  | .aastore => if len = 1 then ab_h_aast P pc lv h n st else none
  | .new idx => if len = 3 then ab_h_new P y idx pc lv h n st else none
  | .newarray atype => if len = 2 then ab_h_newa P atype pc lv h n st else none
  | .anewarray idx => if len = 3 then ab_h_anew P y idx pc lv h n st else none
  | .checkcast idx => if len = 3 then ab_h_cast P y idx pc lv h n st else none
  | .ldc idx => ab_h_ldc P y idx len pc lv h n st 2
  | .ldc_w idx => ab_h_ldc P y idx len pc lv h n st 3
  | .ldc2_w idx => ab_h_ldc P y idx len pc lv h n st 4
  | _ => none
/-- an instruction that ends the method -/
def ab_end (ret : Option FieldType) (len : Nat) (st : List Value) : Instr → Option Outcome
  | .ireturn => (match len, st, ret with
    | 1, [.int v], some ty => if narrow ty (.int v) = .int v then some (.returned (some (.int v))) else none
    | _, _, _ => none)
  | .lreturn => (match len, st, ret with
    | 1, [.long v], some .long => some (.returned (some (.long v)))
    | _, _, _ => none)
  | .areturn => (match len, st, ret with
    | 1, [.null], some (.object _) => some (.returned (some .null))
    | 1, [.ref a], some (.object _) => some (.returned (some (.ref a)))
    | 1, [.null], some (.array _) => some (.returned (some .null))
    | 1, [.ref a], some (.array _) => some (.returned (some (.ref a)))
    | _, _, _ => none)
  | .return_ => (match len, st, ret with
    | 1, [], none => some (.returned none)
    | _, _, _ => none)
  | .athrow => (match len, st with
    | 1, .ref a :: _ => some (.threw a)
    | _, _ => none)
  | _ => none
/-- an instruction that calls: 0 static, 1 virtual, 2 a constructor; the entry -/
def ab_inv : Instr → Option (Nat × Nat)
  | .invokestatic idx => some (0, idx)
  | .invokevirtual idx => some (1, idx)
  | .invokespecial idx => some (2, idx)
  | _ => none
/-- the callee, its arguments, what is left of the operands -/
def ab_who (P : ab_T) (y how idx : Nat) (st : List Value) (h : ab_H) : Option (Nat × List Value × List Value) := match ab_cal P y idx with
  | none => none
  | some (z, k) =>
    if k ≤ st.length ∧ ((st.drop k).map fun v => v.category).sum ≤ 9 then
      (match how, st.drop k with
       | 0, r => if ab_stt P z = true ∧ (r.map fun v => v.category).sum ≤ 8 then some (z, (st.take k).reverse, r) else none
       | 1, .ref b :: r => (match h b with
         | some (.inr (ci, _)) => if ab_stt P z = false ∧ ab_sel P z ci = true then some (z, .ref b :: (st.take k).reverse, r) else none
         | _ => none)
       | 2, .ref b :: r => if ab_stt P z = false ∧ (ab_nm P z).name = "<init>" ∧ ab_ret P z = none then some (z, .ref b :: (st.take k).reverse, r) else none
       | _, _ => none)
    else none
def ab_add (dc ds : Nat) (S : ab_S) : ab_S := (S.1, S.2.1, S.2.2.1, dc + S.2.2.2.1, ds + S.2.2.2.2)
abbrev ab_B : Type := Nat → Option (Nat → Nat → List Value → ab_H → Nat → Option ab_S)
/-- a method by its law, if it has one; else by its code -/
def ab_or (b : Option (Nat → Nat → List Value → ab_H → Nat → Option ab_S)) (F L : Nat) (av : List Value) (h : ab_H) (n : Nat) (r : Option ab_S) : Option ab_S := match b with
  | some g => g F L av h n
  | none => r
/-- THE RUN of a method y from pc on, with so many frames F and words L left; bf: methods that are told by their laws -/
def ab_run (P : ab_T) (bf : ab_B) : Nat → Nat → Nat → Nat → Nat → ab_L → List Value → ab_H → Nat → Option ab_S
  | 0, _, _, _, _, _, _, _, _ => none
  | fuel + 1, F, L, y, pc, lv, st, h, n =>
    match decode (ab_code P y) pc with
    | .error _ => none
    | .ok (i, len) =>
      match ab_stk i with
      | some (k, f) => if len = k then (match f st with
        | some st1 => ab_run P bf fuel F L y (pc + k) lv st1 h n
        | none => none) else none
      | none =>
        match ab_loc (ab_maxL P y) lv pc st len i with
        | some f => ab_run P bf fuel F L y f.1 f.2.1 f.2.2 h n
        | none =>
          match ab_hp P y len pc lv st h n i with
          | some x => (ab_run P bf fuel F L y x.1.1 x.1.2.1 x.1.2.2 x.2.1 x.2.2.1).map (ab_add x.2.2.2.1 x.2.2.2.2)
          | none =>
            match ab_end (ab_ret P y) len st i with
            | some o => some (o, h, n, 0, 0)
            | none =>
              match ab_inv i with
              | none => none
              | some (how, idx) =>
                match ab_who P y how idx st h with
                | none => none
                | some (z, av, r) =>
                  if len = 3 ∧ 1 ≤ F ∧ 19 + ab_maxL P z ≤ L ∧ (lg_sl av).length ≤ ab_maxL P z then
                    (match ab_or (bf z) (F - 1) (L - (19 + ab_maxL P z)) av h n (ab_run P bf fuel (F - 1) (L - (19 + ab_maxL P z)) z 0 (lv_args 0 av) [] h n) with
                     | none => none
                     | some S => (match S.1 with
                       | .returned v => (ab_run P bf fuel F L y (pc + 3) lv (v.toList ++ r) S.2.1 S.2.2.1).map (ab_add S.2.2.2.1 S.2.2.2.2)
                       | .threw _ => some S))
                  else none
