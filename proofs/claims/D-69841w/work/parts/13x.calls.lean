/-! STEPS OVER THE TYPED STATE, 3: arrays made, casts, constants, ends, calls -/
/-- what is behind a call that answers an int, a long, a reference, nothing -/
def zs_kI (K : Int32 → zs_T → Prop) (Q : zs_Q) : zs_Q := fun o S => match o with
  | .returned (some (.int v)) => K v S
  | .threw a => Q (.threw a) S
  | _ => False
def zs_kJ (K : Int64 → zs_T → Prop) (Q : zs_Q) : zs_Q := fun o S => match o with
  | .returned (some (.long v)) => K v S
  | .threw a => Q (.threw a) S
  | _ => False
def zs_kR (K : Option Nat → zs_T → Prop) (Q : zs_Q) : zs_Q := fun o S => match o with
  | .returned (some .null) => K none S
  | .returned (some (.ref a)) => K (some a) S
  | .threw a => Q (.threw a) S
  | _ => False
def zs_kV (K : zs_T → Prop) (Q : zs_Q) : zs_Q := fun o S => match o with
  | .returned none => K S
  | .threw a => Q (.threw a) S
  | _ => False
theorem zs_C.imp {X : zs_X} {d z : Nat} {av : List Value} {S : zs_T} {Q Q1 : zs_Q} (h : zs_C X d z av S Q) (k : ∀ o S1, Q o S1 → Q1 o S1) : zs_C X d z av S Q1 := by
  obtain ⟨h1, o, S1, mc, ms, h2, h3, h4, h5⟩ := h
  exact ⟨h1, o, S1, mc, ms, h2, h3, h4, k _ _ h5⟩
theorem zs_U.imp {X : zs_X} {d y pc : Nat} {L : ab_L} {st : List Value} {S : zs_T} {Q Q1 : zs_Q} (h : zs_U X d y pc L st S Q) (k : ∀ o S1, Q o S1 → Q1 o S1) : zs_U X d y pc L st S Q1 := by
  intro lv hl
  obtain ⟨o, S1, mc, ms, h2, h3, h4, h5⟩ := h lv hl
  exact ⟨o, S1, mc, ms, h2, h3, h4, k _ _ h5⟩
theorem zs_CI {X : zs_X} {d z : Nat} {av : List Value} {S : zs_T} {Q Q1 : zs_Q} {K K1 : Int32 → zs_T → Prop} (h : zs_C X d z av S (zs_kI K Q)) (k : ∀ v S1, K v S1 → K1 v S1) (q : ∀ a S1, Q (.threw a) S1 → Q1 (.threw a) S1) : zs_C X d z av S (zs_kI K1 Q1) := h.imp (fun o S1 h => by
  unfold zs_kI at h ⊢
  split at h
  · exact k _ _ h
  · exact q _ _ h
  · exact h.elim)
theorem zs_CJ {X : zs_X} {d z : Nat} {av : List Value} {S : zs_T} {Q Q1 : zs_Q} {K K1 : Int64 → zs_T → Prop} (h : zs_C X d z av S (zs_kJ K Q)) (k : ∀ v S1, K v S1 → K1 v S1) (q : ∀ a S1, Q (.threw a) S1 → Q1 (.threw a) S1) : zs_C X d z av S (zs_kJ K1 Q1) := h.imp (fun o S1 h => by
  unfold zs_kJ at h ⊢
  split at h
  · exact k _ _ h
  · exact q _ _ h
  · exact h.elim)
theorem zs_CR {X : zs_X} {d z : Nat} {av : List Value} {S : zs_T} {Q Q1 : zs_Q} {K K1 : Option Nat → zs_T → Prop} (h : zs_C X d z av S (zs_kR K Q)) (k : ∀ v S1, K v S1 → K1 v S1) (q : ∀ a S1, Q (.threw a) S1 → Q1 (.threw a) S1) : zs_C X d z av S (zs_kR K1 Q1) := h.imp (fun o S1 h => by
  unfold zs_kR at h ⊢
  split at h
  · exact k _ _ h
  · exact k _ _ h
  · exact q _ _ h
  · exact h.elim)
theorem zs_CV {X : zs_X} {d z : Nat} {av : List Value} {S : zs_T} {Q Q1 : zs_Q} {K K1 : zs_T → Prop} (h : zs_C X d z av S (zs_kV K Q)) (k : ∀ S1, K S1 → K1 S1) (q : ∀ a S1, Q (.threw a) S1 → Q1 (.threw a) S1) : zs_C X d z av S (zs_kV K1 Q1) := h.imp (fun o S1 h => by
  unfold zs_kV at h ⊢
  split at h
  · exact k _ h
  · exact q _ _ h
  · exact h.elim)
/-- fewer locals are known -/
def zs_sub : ab_L → ab_L → Prop
  | [], _ => True
  | q :: r, L => ab_get L q.1 = some q.2 ∧ zs_sub r L
theorem zs_sub_in {L lv : ab_L} (h : zs_in L lv) : ∀ L1, zs_sub L1 L → zs_in L1 lv
  | [], _ => fun q hq => by cases hq
  | a :: r, hs => fun q hq => by
    rcases List.mem_cons.mp hq with e | e
    · subst e; exact zs_get h hs.1
    · exact zs_sub_in h r hs.2 q e
theorem zs_U.weak {X : zs_X} {d y pc : Nat} {L L1 : ab_L} {st : List Value} {S : zs_T} {Q : zs_Q} (h : zs_U X d y pc L1 st S Q) (hs : zs_sub L1 L) : zs_U X d y pc L st S Q := fun lv hl => h lv (zs_sub_in hl L1 hs)
section ZV
variable {X : zs_X} {d y pc : Nat} {L : ab_L} {st r : List Value} {S : zs_T} {Q : zs_Q}
/-- a call of a method without a law: its body from the entry -/
theorem zs_C.of {z : Nat} {av : List Value} (hb : X.2.1 z = none) (hnd : zs_in (lv_args 0 av) (lv_args 0 av)) (h : zs_U X d z 0 (lv_args 0 av) [] S Q) : zs_C X (d + 1) z av S Q := by
  obtain ⟨o, S1, mc, ms, h2, h3, h4, h5⟩ := h _ hnd
  refine ⟨by omega, o, S1, mc, ms, ?_, h3, h4, h5⟩
  unfold ab_Ca
  rw [hb]
  exact h2
theorem zs_C.of1 {z : Nat} {av : List Value} (hb : X.2.1 z = none) (hd : 1 ≤ d) (hnd : zs_in (lv_args 0 av) (lv_args 0 av)) (h : zs_U X (d - 1) z 0 (lv_args 0 av) [] S Q) : zs_C X d z av S Q := by
  obtain ⟨e, rfl⟩ : ∃ e, d = e + 1 := ⟨d - 1, by omega⟩
  exact zs_C.of hb hnd h
theorem zu_newa0 {k : Nat} {i : Int32} {atype : ArrayType} (hd : decode (ab_code X.1 y) pc = .ok (.newarray atype, 2)) (hkd : ab_kd (ab_ak X.1) (newarray.typeOf atype) = some k) (hG : zs_tag (X.2.2.2.getD k .int) = 0) (hz : ∀ n, ab_zero (newarray.typeOf atype) n = some (n, .inl (fun _ => 0))) (h0 : 0 ≤ i) (hb : i.toNatClampNeg * componentBytes (newarray.typeOf atype) ≤ 536870912) (kk : zs_U X d y (pc + 2) L (.ref (zs_N S) :: r) (zs_nw S (.inr (k, i.toNatClampNeg)) i.toNatClampNeg) Q) : zs_U X d y pc L (.int i :: r) S Q := by
  intro lv hl
  refine zs_E_hp (S2 := zs_nw S (.inr (k, i.toNatClampNeg)) i.toNatClampNeg) (dc := 1) (ds := i.toNatClampNeg) hd rfl rfl ?_ rfl rfl (kk lv hl)
  simp only [ab_hp, ab_h_newa, hkd, hz, if_true]
  rw [if_pos ⟨h0, hb⟩, zs_h_nw (G := X.2.2) (e := .inr (k, i.toNatClampNeg)) (m := i.toNatClampNeg) (x := .inl (k, i.toNatClampNeg, .inl (fun _ => 0))) ?_]
  · rfl
  · simp only [zs_e, hG, zs_c]
    congr 4
    funext j
    simp [zs_rdn]
theorem zu_newa1 {k : Nat} {i : Int32} {atype : ArrayType} (hd : decode (ab_code X.1 y) pc = .ok (.newarray atype, 2)) (hkd : ab_kd (ab_ak X.1) (newarray.typeOf atype) = some k) (hG : zs_tag (X.2.2.2.getD k .int) = 1) (hz : ∀ n, ab_zero (newarray.typeOf atype) n = some (n, .inr (.inl (fun _ => 0)))) (h0 : 0 ≤ i) (hb : i.toNatClampNeg * componentBytes (newarray.typeOf atype) ≤ 536870912) (kk : zs_U X d y (pc + 2) L (.ref (zs_N S) :: r) (zs_nw S (.inr (k, i.toNatClampNeg)) i.toNatClampNeg) Q) : zs_U X d y pc L (.int i :: r) S Q := by
  intro lv hl
  refine zs_E_hp (S2 := zs_nw S (.inr (k, i.toNatClampNeg)) i.toNatClampNeg) (dc := 1) (ds := i.toNatClampNeg) hd rfl rfl ?_ rfl rfl (kk lv hl)
  simp only [ab_hp, ab_h_newa, hkd, hz, if_true]
  rw [if_pos ⟨h0, hb⟩, zs_h_nw (G := X.2.2) (e := .inr (k, i.toNatClampNeg)) (m := i.toNatClampNeg) (x := .inl (k, i.toNatClampNeg, .inr (.inl (fun _ => 0)))) ?_]
  · rfl
  · simp only [zs_e, hG, zs_c]
    congr 5
    funext j
    simp [zs_rdn]
theorem zu_anew {k idx : Nat} {i : Int32} (hd : decode (ab_code X.1 y) pc = .ok (.anewarray idx, 3)) (hkd : ab_an X.1 y idx = some k) (hG : zs_tag (X.2.2.2.getD k .int) = 2) (h0 : 0 ≤ i) (hb : i.toNatClampNeg * 4 ≤ 536870912) (kk : zs_U X d y (pc + 3) L (.ref (zs_N S) :: r) (zs_nw S (.inr (k, i.toNatClampNeg)) i.toNatClampNeg) Q) : zs_U X d y pc L (.int i :: r) S Q := by
  intro lv hl
  refine zs_E_hp (S2 := zs_nw S (.inr (k, i.toNatClampNeg)) i.toNatClampNeg) (dc := 1) (ds := i.toNatClampNeg) hd rfl rfl ?_ rfl rfl (kk lv hl)
  simp only [ab_hp, ab_h_anew, hkd, if_true]
  rw [if_pos ⟨h0, hb⟩, zs_h_nw (G := X.2.2) (e := .inr (k, i.toNatClampNeg)) (m := i.toNatClampNeg) (x := .inl (k, i.toNatClampNeg, .inr (.inr (.inr (.inr (fun _ => none)))))) ?_]
  · rfl
  · simp only [zs_e, hG, zs_c]
    congr 8
    funext j
    simp [zs_rdn]
theorem zu_cast {idx c : Nat} {v : Value} {o : Option Nat} (hd : decode (ab_code X.1 y) pc = .ok (.checkcast idx, 3)) (hf : ab_ck X.1 y idx = some c) (hv : v = va_rf o) (hk : ∀ a, o = some a → zs_K S a = some (.inl c)) (kk : zs_U X d y (pc + 3) L (v :: r) S Q) : zs_U X d y pc L (v :: r) S Q := by
  intro lv hl
  subst hv
  cases o with
  | none =>
    refine zs_E_hp (S2 := S) (dc := 0) (ds := 0) hd rfl rfl ?_ rfl rfl (kk lv hl)
    simp only [ab_hp, ab_h_cast, va_rf, if_true]
  | some a =>
    refine zs_E_hp (S2 := S) (dc := 0) (ds := 0) hd rfl rfl ?_ rfl rfl (kk lv hl)
    simp only [ab_hp, ab_h_cast, va_rf, hf, zs_h_at (G := X.2.2) (hk a rfl), zs_e, if_true]
theorem zu_ldcI {idx : Nat} {v : Int32} (hd : decode (ab_code X.1 y) pc = .ok (.ldc idx, 2)) (hf : ab_cn X.1 y idx = some (.int v)) (kk : zs_U X d y (pc + 2) L (.int v :: st) S Q) : zs_U X d y pc L st S Q := by
  intro lv hl
  refine zs_E_hp (S2 := S) (dc := 0) (ds := 0) hd rfl rfl ?_ rfl rfl (kk lv hl)
  simp only [ab_hp, ab_h_ldc, hf, if_true]
theorem zu_ldcR {idx a : Nat} (hd : decode (ab_code X.1 y) pc = .ok (.ldc idx, 2)) (hf : ab_cn X.1 y idx = some (.ref a)) (kk : zs_U X d y (pc + 2) L (.ref a :: st) S Q) : zs_U X d y pc L st S Q := by
  intro lv hl
  refine zs_E_hp (S2 := S) (dc := 0) (ds := 0) hd rfl rfl ?_ rfl rfl (kk lv hl)
  simp only [ab_hp, ab_h_ldc, hf, if_true]
theorem zu_ldcw {idx : Nat} {v : Int32} (hd : decode (ab_code X.1 y) pc = .ok (.ldc_w idx, 3)) (hf : ab_cn X.1 y idx = some (.int v)) (kk : zs_U X d y (pc + 3) L (.int v :: st) S Q) : zs_U X d y pc L st S Q := by
  intro lv hl
  refine zs_E_hp (S2 := S) (dc := 0) (ds := 0) hd rfl rfl ?_ rfl rfl (kk lv hl)
  simp only [ab_hp, ab_h_ldc, hf, if_true]
theorem zu_ldc2 {idx : Nat} {v : Int64} (hd : decode (ab_code X.1 y) pc = .ok (.ldc2_w idx, 3)) (hf : ab_cn X.1 y idx = some (.long v)) (kk : zs_U X d y (pc + 3) L (.long v :: st) S Q) : zs_U X d y pc L st S Q := by
  intro lv hl
  refine zs_E_hp (S2 := S) (dc := 0) (ds := 0) hd rfl rfl ?_ rfl rfl (kk lv hl)
  simp only [ab_hp, ab_h_ldc, hf, if_true]
theorem zu_iret {v : Int32} {ty : FieldType} (hd : decode (ab_code X.1 y) pc = .ok (.ireturn, 1)) (hr : ab_ret X.1 y = some ty) (hn : narrow ty (.int v) = .int v) (kk : Q (.returned (some (.int v))) S) : zs_U X d y pc L [.int v] S Q := fun lv hl => zs_E_end hd rfl rfl rfl (by simp only [ab_end, hr, hn, if_true]) kk
theorem zu_lret {v : Int64} (hd : decode (ab_code X.1 y) pc = .ok (.lreturn, 1)) (hr : ab_ret X.1 y = some .long) (kk : Q (.returned (some (.long v))) S) : zs_U X d y pc L [.long v] S Q := fun lv hl => zs_E_end hd rfl rfl rfl (by simp only [ab_end, hr]) kk
theorem zu_aret {v : Value} {C : String} (hd : decode (ab_code X.1 y) pc = .ok (.areturn, 1)) (hr : ab_ret X.1 y = some (.object C)) (hv : zs_isr v) (kk : Q (.returned (some v)) S) : zs_U X d y pc L [v] S Q := by
  intro lv hl
  rcases hv with rfl | ⟨a, rfl⟩
  · exact zs_E_end hd rfl rfl rfl (by simp only [ab_end, hr]) kk
  · exact zs_E_end hd rfl rfl rfl (by simp only [ab_end, hr]) kk
theorem zu_vret (hd : decode (ab_code X.1 y) pc = .ok (.return_, 1)) (hr : ab_ret X.1 y = none) (kk : Q (.returned none) S) : zs_U X d y pc L [] S Q := fun lv hl => zs_E_end hd rfl rfl rfl (by simp only [ab_end, hr]) kk
theorem zu_throw {a : Nat} (hd : decode (ab_code X.1 y) pc = .ok (.athrow, 1)) (kk : Q (.threw a) S) : zs_U X d y pc L (.ref a :: r) S Q := fun lv hl => zs_E_end hd rfl rfl rfl rfl kk
/-- what the caller goes on with -/
def zs_on (X : zs_X) (d y pc : Nat) (L : ab_L) (r : List Value) (Q : zs_Q) : zs_Q := fun o S1 => match o with
  | .returned v => zs_U X d y pc L (v.toList ++ r) S1 Q
  | .threw a => Q (.threw a) S1
theorem zs_onI {K : Int32 → zs_T → Prop} (k : ∀ v S1, K v S1 → zs_U X d y pc L (.int v :: r) S1 Q) : ∀ o S1, zs_kI K Q o S1 → zs_on X d y pc L r Q o S1 := by
  intro o S1 h
  unfold zs_kI at h
  split at h
  · exact k _ _ h
  · exact h
  · exact h.elim
theorem zs_onJ {K : Int64 → zs_T → Prop} (k : ∀ v S1, K v S1 → zs_U X d y pc L (.long v :: r) S1 Q) : ∀ o S1, zs_kJ K Q o S1 → zs_on X d y pc L r Q o S1 := by
  intro o S1 h
  unfold zs_kJ at h
  split at h
  · exact k _ _ h
  · exact h
  · exact h.elim
theorem zs_onR {K : Option Nat → zs_T → Prop} (k : ∀ v S1, K v S1 → zs_U X d y pc L (va_rf v :: r) S1 Q) : ∀ o S1, zs_kR K Q o S1 → zs_on X d y pc L r Q o S1 := by
  intro o S1 h
  unfold zs_kR at h
  split at h
  · exact k none _ h
  · rename_i a
    exact k (some a) _ h
  · exact h
  · exact h.elim
theorem zs_onV {K : zs_T → Prop} (k : ∀ S1, K S1 → zs_U X d y pc L r S1 Q) : ∀ o S1, zs_kV K Q o S1 → zs_on X d y pc L r Q o S1 := by
  intro o S1 h
  unfold zs_kV at h
  split at h
  · exact k _ h
  · exact h
  · exact h.elim
theorem zs_call {i : Instr} {how idx z : Nat} {av : List Value} {K : zs_Q} (hm : ab_Bm X.2.1) (hd : decode (ab_code X.1 y) pc = .ok (i, 3)) (hi : ab_stk i = none) (hl : ∀ lv, ab_loc (ab_maxL X.1 y) lv pc st 3 i = none) (hp : ∀ lv, ab_hp X.1 y 3 pc lv st (zs_h X.2.2 S) (zs_N S) i = none) (he : ab_end (ab_ret X.1 y) 3 st i = none) (hv : ab_inv i = some (how, idx)) (hw : ab_who X.1 y how idx st (zs_h X.2.2 S) = some (z, av, r)) (hz : ab_maxL X.1 z ≤ 27) (hlen : (lg_sl av).length ≤ ab_maxL X.1 z)
    (kk : zs_C X d z av S K) (ko : ∀ o S1, K o S1 → zs_on X d y (pc + 3) L r Q o S1) : zs_U X d y pc L st S Q := by
  intro lv hlv
  refine zs_E_call hm hd hi (hl lv) (hp lv) he hv hw hz hlen (kk.imp (fun o S1 h => ?_))
  have h1 := ko o S1 h
  unfold zs_on at h1
  cases o with
  | returned v => exact h1 lv hlv
  | threw a => exact h1
theorem zs_take {as t : List Value} : ((as.reverse ++ t).take as.length).reverse = as ∧ (as.reverse ++ t).drop as.length = t ∧ as.length ≤ (as.reverse ++ t).length := by
  refine ⟨?_, ?_, ?_⟩
  · have h := List.take_left (l₁ := as.reverse) (l₂ := t)
    rw [List.length_reverse] at h
    rw [h, List.reverse_reverse]
  · have h := List.drop_left (l₁ := as.reverse) (l₂ := t)
    rw [List.length_reverse] at h
    exact h
  · simp
theorem zu_cS {idx z k : Nat} {as : List Value} {K : zs_Q} (hm : ab_Bm X.2.1) (hc : ab_cal X.1 y idx = some (z, k)) (hk : as.length = k) (hs : ab_stt X.1 z = true) (hz : ab_maxL X.1 z ≤ 27) (hd : decode (ab_code X.1 y) pc = .ok (.invokestatic idx, 3)) (hr : (r.map fun v => v.category).sum ≤ 8) (hlen : (lg_sl as).length ≤ ab_maxL X.1 z)
    (kk : zs_C X d z as S K) (ko : ∀ o S1, K o S1 → zs_on X d y (pc + 3) L r Q o S1) : zs_U X d y pc L (as.reverse ++ r) S Q := by
  subst hk
  obtain ⟨t1, t2, t3⟩ := zs_take (as := as) (t := r)
  refine zs_call (how := 0) hm hd rfl (fun _ => rfl) (fun _ => rfl) rfl rfl ?_ hz hlen kk ko
  simp only [ab_who, hc, t2, t1]
  rw [if_pos ⟨t3, by omega⟩, if_pos ⟨hs, hr⟩]
theorem zu_cV {idx z k b ci : Nat} {as : List Value} {K : zs_Q} (hm : ab_Bm X.2.1) (hc : ab_cal X.1 y idx = some (z, k)) (hk : as.length = k) (hs : ab_stt X.1 z = false) (hsel : ab_sel X.1 z ci = true) (hz : ab_maxL X.1 z ≤ 27) (hd : decode (ab_code X.1 y) pc = .ok (.invokevirtual idx, 3)) (hb : zs_K S b = some (.inl ci)) (hr : (r.map fun v => v.category).sum ≤ 8) (hlen : (lg_sl (.ref b :: as)).length ≤ ab_maxL X.1 z)
    (kk : zs_C X d z (.ref b :: as) S K) (ko : ∀ o S1, K o S1 → zs_on X d y (pc + 3) L r Q o S1) : zs_U X d y pc L (as.reverse ++ .ref b :: r) S Q := by
  subst hk
  obtain ⟨t1, t2, t3⟩ := zs_take (as := as) (t := .ref b :: r)
  refine zs_call (how := 1) hm hd rfl (fun _ => rfl) (fun _ => rfl) rfl rfl ?_ hz hlen kk ko
  simp only [ab_who, hc, t2, t1, zs_h_at (G := X.2.2) hb, zs_e]
  rw [if_pos ⟨t3, by simp only [List.map_cons, List.sum_cons]; have h9 : (Value.ref b).category = 1 := rfl; omega⟩, if_pos ⟨hs, hsel⟩]
theorem zu_cI {idx z k b : Nat} {as : List Value} {K : zs_Q} (hm : ab_Bm X.2.1) (hc : ab_cal X.1 y idx = some (z, k)) (hk : as.length = k) (hs : ab_stt X.1 z = false) (hnm : (ab_nm X.1 z).name = "<init>") (hret : ab_ret X.1 z = none) (hz : ab_maxL X.1 z ≤ 27) (hd : decode (ab_code X.1 y) pc = .ok (.invokespecial idx, 3)) (hr : (r.map fun v => v.category).sum ≤ 8) (hlen : (lg_sl (.ref b :: as)).length ≤ ab_maxL X.1 z)
    (kk : zs_C X d z (.ref b :: as) S K) (ko : ∀ o S1, K o S1 → zs_on X d y (pc + 3) L r Q o S1) : zs_U X d y pc L (as.reverse ++ .ref b :: r) S Q := by
  subst hk
  obtain ⟨t1, t2, t3⟩ := zs_take (as := as) (t := .ref b :: r)
  refine zs_call (how := 2) hm hd rfl (fun _ => rfl) (fun _ => rfl) rfl rfl ?_ hz hlen kk ko
  simp only [ab_who, hc, t2, t1]
  rw [if_pos ⟨t3, by simp only [List.map_cons, List.sum_cons]; have h9 : (Value.ref b).category = 1 := rfl; omega⟩, if_pos ⟨hs, hnm, hret⟩]
end ZV
