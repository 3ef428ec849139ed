/-! printed by gen_all.py: what the methods compute -/
set_option maxRecDepth 100000
/-! SchemaPascal$Reader.condition()LSchemaPascal$Node; -/
theorem zm_4108 {σ : Nat → Nat} {n0 : Nat} {bf : ab_B} : ab_code (zx σ n0 bf).1 4108 = prog_9_method_99_code := rfl
theorem zq_4108 {σ : Nat → Nat} {n0 : Nat} {bf : ab_B} : ab_maxL (zx σ n0 bf).1 4108 = 2 := rfl
theorem zr_4108 {σ : Nat → Nat} {n0 : Nat} {bf : ab_B} : ab_ret (zx σ n0 bf).1 4108 = (Option.some (Jvm.ClassFile.FieldType.object "SchemaPascal$Node")) := rfl
theorem d_4108_0 {σ : Nat → Nat} {n0 : Nat} {bf : ab_B} : decode (ab_code (zx σ n0 bf).1 4108) 0 = .ok (.aload_n 0, 1) := zd zm_4108 (by decide +kernel)
theorem d_4108_1 {σ : Nat → Nat} {n0 : Nat} {bf : ab_B} : decode (ab_code (zx σ n0 bf).1 4108) 1 = .ok (.invokevirtual 569, 3) := zd zm_4108 (by decide +kernel)
theorem d_4108_4 {σ : Nat → Nat} {n0 : Nat} {bf : ab_B} : decode (ab_code (zx σ n0 bf).1 4108) 4 = .ok (.astore_n 1, 1) := zd zm_4108 (by decide +kernel)
theorem d_4108_5 {σ : Nat → Nat} {n0 : Nat} {bf : ab_B} : decode (ab_code (zx σ n0 bf).1 4108) 5 = .ok (.aload_n 1, 1) := zd zm_4108 (by decide +kernel)
theorem d_4108_6 {σ : Nat → Nat} {n0 : Nat} {bf : ab_B} : decode (ab_code (zx σ n0 bf).1 4108) 6 = .ok (.getfield 297, 3) := zd zm_4108 (by decide +kernel)
theorem d_4108_9 {σ : Nat → Nat} {n0 : Nat} {bf : ab_B} : decode (ab_code (zx σ n0 bf).1 4108) 9 = .ok (.invokevirtual 450, 3) := zd zm_4108 (by decide +kernel)
theorem d_4108_12 {σ : Nat → Nat} {n0 : Nat} {bf : ab_B} : decode (ab_code (zx σ n0 bf).1 4108) 12 = .ok (.aload_n 0, 1) := zd zm_4108 (by decide +kernel)
theorem d_4108_13 {σ : Nat → Nat} {n0 : Nat} {bf : ab_B} : decode (ab_code (zx σ n0 bf).1 4108) 13 = .ok (.getfield 150, 3) := zd zm_4108 (by decide +kernel)
theorem d_4108_16 {σ : Nat → Nat} {n0 : Nat} {bf : ab_B} : decode (ab_code (zx σ n0 bf).1 4108) 16 = .ok (.if_acmp .eq 9, 3) := zd zm_4108 (by decide +kernel)
theorem d_4108_19 {σ : Nat → Nat} {n0 : Nat} {bf : ab_B} : decode (ab_code (zx σ n0 bf).1 4108) 19 = .ok (.aload_n 0, 1) := zd zm_4108 (by decide +kernel)
theorem d_4108_20 {σ : Nat → Nat} {n0 : Nat} {bf : ab_B} : decode (ab_code (zx σ n0 bf).1 4108) 20 = .ok (.iconst 5, 1) := zd zm_4108 (by decide +kernel)
theorem d_4108_21 {σ : Nat → Nat} {n0 : Nat} {bf : ab_B} : decode (ab_code (zx σ n0 bf).1 4108) 21 = .ok (.invokevirtual 25, 3) := zd zm_4108 (by decide +kernel)
theorem d_4108_24 {σ : Nat → Nat} {n0 : Nat} {bf : ab_B} : decode (ab_code (zx σ n0 bf).1 4108) 24 = .ok (.athrow, 1) := zd zm_4108 (by decide +kernel)
theorem d_4108_25 {σ : Nat → Nat} {n0 : Nat} {bf : ab_B} : decode (ab_code (zx σ n0 bf).1 4108) 25 = .ok (.aload_n 1, 1) := zd zm_4108 (by decide +kernel)
theorem d_4108_26 {σ : Nat → Nat} {n0 : Nat} {bf : ab_B} : decode (ab_code (zx σ n0 bf).1 4108) 26 = .ok (.areturn, 1) := zd zm_4108 (by decide +kernel)
def w_X5_condition (X : zs_X) (d : Nat) (p0 : Nat) (S : zs_T) (Q : zs_Q) : Prop :=
  (zs_K S p0 = some (.inl 4) ∧ zs_C X d 4014 [.ref p0] S (zs_kR (fun v3 S2 => (∃ b4, v3 = some b4 ∧ zs_K S2 b4 = some (.inl 11) ∧ ∃ b7, (zs_R S2 11002 b4) = some b7 ∧ zs_K S2 b7 = some (.inl 6) ∧ zs_C X d 6001 [.ref b7] S2 (zs_kR (fun v11 S10 => (zs_K S10 p0 = some (.inl 4) ∧ ((v11 = (zs_R S10 4003 p0) → (Q (.returned (some (va_rf v3))) S10)) ∧ (¬ (v11 = (zs_R S10 4003 p0)) → (zs_C X d 4006 [.ref p0, .int (5 : Int32)] S10 (zs_kR (fun v15 S14 => (∃ b16, v15 = some b16 ∧ Q (.threw b16) S14)) Q)))))) Q))) Q))
theorem u_X5_condition {σ : Nat → Nat} {n0 : Nat} {bf : ab_B} {d : Nat} {p0 : Nat} {S : zs_T} {Q : zs_Q} (hB : zt_B bf) (hd : 1 ≤ d) (h : w_X5_condition (zx σ n0 bf) (d - 1) p0 S Q) : zs_C (zx σ n0 bf) d 4108 [.ref p0] S Q := by
  have hL : lv_args 0 [.ref p0] = [(0, .ref p0)] := rfl
  refine zs_C.of1 (hB.2 4108 (by decide) (by decide)) hd (by rw [hL]; exact zs_sub_self _ (by exact ⟨rfl, trivial⟩)) ?_
  rw [hL]
  clear hL
  unfold w_X5_condition at h
  refine zu_aload_n d_4108_0 rfl (zs_ra _) ?_
  obtain ⟨k1, h⟩ := h
  refine zc_4_569  hB rfl k1 d_4108_1 (Nat.le_of_ble_eq_true rfl) h (fun v3 S2 h => ?_)
  refine zu_astore_n d_4108_4 (zs_rr _) (zs_lt zq_4108 rfl) ?_
  refine zu_aload_n d_4108_5 rfl (zs_rr _) ?_
  obtain ⟨b4, e5, h⟩ := h
  refine zs_stk0 (zs_rfe e5) ?_
  obtain ⟨k6, h⟩ := h
  refine zg_4_297 rfl d_4108_6 k6 ?_
  obtain ⟨b7, e8, h⟩ := h
  refine zs_stk0 (zs_rfe e8) ?_
  obtain ⟨k9, h⟩ := h
  refine zc_4_450  hB rfl k9 d_4108_9 (Nat.le_of_ble_eq_true rfl) h (fun v11 S10 h => ?_)
  refine zu_aload_n d_4108_12 rfl (zs_ra _) ?_
  obtain ⟨k12, h⟩ := h
  refine zg_4_150 rfl d_4108_13 k12 ?_
  refine zu_acmpeq (u := v11) (w := (zs_R S10 4003 p0)) (t := 25) d_4108_16 rfl rfl rfl (fun c13 => ?_) (fun c13 => ?_)
  · have h := h.1 c13
    refine zu_aload_n d_4108_25 rfl (zs_rr _) ?_
    exact zu_aret d_4108_26 zr_4108 (zs_rr _) h
  · have h := h.2 c13
    refine zu_aload_n d_4108_19 rfl (zs_ra _) ?_
    refine zu_iconst d_4108_20 zi_5 ?_
    refine zc_4_25 (x0 := (5 : Int32)) hB rfl k12 d_4108_21 (Nat.le_of_ble_eq_true rfl) h (fun v15 S14 h => ?_)
    obtain ⟨b16, e17, h⟩ := h
    refine zs_stk0 (zs_rfe e17) ?_
    exact zu_throw d_4108_24 h
/-! SchemaPascal$Reader.jump(II)I -/
theorem zm_4109 {σ : Nat → Nat} {n0 : Nat} {bf : ab_B} : ab_code (zx σ n0 bf).1 4109 = prog_9_method_100_code := rfl
theorem zq_4109 {σ : Nat → Nat} {n0 : Nat} {bf : ab_B} : ab_maxL (zx σ n0 bf).1 4109 = 3 := rfl
theorem zr_4109 {σ : Nat → Nat} {n0 : Nat} {bf : ab_B} : ab_ret (zx σ n0 bf).1 4109 = (Option.some Jvm.ClassFile.FieldType.int) := rfl
theorem d_4109_0 {σ : Nat → Nat} {n0 : Nat} {bf : ab_B} : decode (ab_code (zx σ n0 bf).1 4109) 0 = .ok (.aload_n 0, 1) := zd zm_4109 (by decide +kernel)
theorem d_4109_1 {σ : Nat → Nat} {n0 : Nat} {bf : ab_B} : decode (ab_code (zx σ n0 bf).1 4109) 1 = .ok (.iload_n 1, 1) := zd zm_4109 (by decide +kernel)
theorem d_4109_2 {σ : Nat → Nat} {n0 : Nat} {bf : ab_B} : decode (ab_code (zx σ n0 bf).1 4109) 2 = .ok (.iload_n 2, 1) := zd zm_4109 (by decide +kernel)
theorem d_4109_3 {σ : Nat → Nat} {n0 : Nat} {bf : ab_B} : decode (ab_code (zx σ n0 bf).1 4109) 3 = .ok (.invokevirtual 273, 3) := zd zm_4109 (by decide +kernel)
theorem d_4109_6 {σ : Nat → Nat} {n0 : Nat} {bf : ab_B} : decode (ab_code (zx σ n0 bf).1 4109) 6 = .ok (.pop, 1) := zd zm_4109 (by decide +kernel)
theorem d_4109_7 {σ : Nat → Nat} {n0 : Nat} {bf : ab_B} : decode (ab_code (zx σ n0 bf).1 4109) 7 = .ok (.aload_n 0, 1) := zd zm_4109 (by decide +kernel)
theorem d_4109_8 {σ : Nat → Nat} {n0 : Nat} {bf : ab_B} : decode (ab_code (zx σ n0 bf).1 4109) 8 = .ok (.getfield 128, 3) := zd zm_4109 (by decide +kernel)
theorem d_4109_11 {σ : Nat → Nat} {n0 : Nat} {bf : ab_B} : decode (ab_code (zx σ n0 bf).1 4109) 11 = .ok (.iconst 0, 1) := zd zm_4109 (by decide +kernel)
theorem d_4109_12 {σ : Nat → Nat} {n0 : Nat} {bf : ab_B} : decode (ab_code (zx σ n0 bf).1 4109) 12 = .ok (.invokevirtual 709, 3) := zd zm_4109 (by decide +kernel)
theorem d_4109_15 {σ : Nat → Nat} {n0 : Nat} {bf : ab_B} : decode (ab_code (zx σ n0 bf).1 4109) 15 = .ok (.ireturn, 1) := zd zm_4109 (by decide +kernel)
def w_X5_jump (X : zs_X) (d : Nat) (p0 : Nat) (p1 : Int32) (p2 : Int32) (S : zs_T) (Q : zs_Q) : Prop :=
  (zs_K S p0 = some (.inl 4) ∧ zs_C X d 4094 [.ref p0, .int p1, .int p2] S (zs_kI (fun v3 S2 => (zs_K S2 p0 = some (.inl 4) ∧ ∃ b5, (zs_R S2 4001 p0) = some b5 ∧ zs_K S2 b5 = some (.inl 3) ∧ zs_C X d 3002 [.ref b5, .int (0 : Int32)] S2 (zs_kI (fun v9 S8 => (Q (.returned (some (.int v9))) S8)) Q))) Q))
theorem u_X5_jump {σ : Nat → Nat} {n0 : Nat} {bf : ab_B} {d : Nat} {p0 : Nat} {p1 : Int32} {p2 : Int32} {S : zs_T} {Q : zs_Q} (hB : zt_B bf) (hd : 1 ≤ d) (h : w_X5_jump (zx σ n0 bf) (d - 1) p0 p1 p2 S Q) : zs_C (zx σ n0 bf) d 4109 [.ref p0, .int p1, .int p2] S Q := by
  have hL : lv_args 0 [.ref p0, .int p1, .int p2] = [(0, .ref p0), (1, .int p1), (2, .int p2)] := rfl
  refine zs_C.of1 (hB.2 4109 (by decide) (by decide)) hd (by rw [hL]; exact zs_sub_self _ (by exact ⟨rfl, rfl, rfl, trivial⟩)) ?_
  rw [hL]
  clear hL
  unfold w_X5_jump at h
  refine zu_aload_n d_4109_0 rfl (zs_ra _) ?_
  refine zu_iload_n d_4109_1 rfl ?_
  refine zu_iload_n d_4109_2 rfl ?_
  obtain ⟨k1, h⟩ := h
  refine zc_4_273 (x0 := p1) (x1 := p2) hB rfl k1 d_4109_3 (Nat.le_of_ble_eq_true rfl) h (fun v3 S2 h => ?_)
  refine zu_pop d_4109_6 rfl ?_
  refine zu_aload_n d_4109_7 rfl (zs_ra _) ?_
  obtain ⟨k4, h⟩ := h
  refine zg_4_128 rfl d_4109_8 k4 ?_
  refine zu_iconst d_4109_11 zi_0 ?_
  obtain ⟨b5, e6, h⟩ := h
  refine zs_stk1 (zs_rfe e6) ?_
  obtain ⟨k7, h⟩ := h
  refine zc_4_709 (x0 := (0 : Int32)) hB rfl k7 d_4109_12 (Nat.le_of_ble_eq_true rfl) h (fun v9 S8 h => ?_)
  exact zu_iret d_4109_15 zr_4109 rfl h
/-! SchemaPascal$Reader.here(IZ)V -/
theorem zm_4110 {σ : Nat → Nat} {n0 : Nat} {bf : ab_B} : ab_code (zx σ n0 bf).1 4110 = prog_9_method_101_code := rfl
theorem zq_4110 {σ : Nat → Nat} {n0 : Nat} {bf : ab_B} : ab_maxL (zx σ n0 bf).1 4110 = 3 := rfl
theorem zr_4110 {σ : Nat → Nat} {n0 : Nat} {bf : ab_B} : ab_ret (zx σ n0 bf).1 4110 = (Option.none : Option Jvm.ClassFile.FieldType) := rfl
theorem d_4110_0 {σ : Nat → Nat} {n0 : Nat} {bf : ab_B} : decode (ab_code (zx σ n0 bf).1 4110) 0 = .ok (.iload_n 2, 1) := zd zm_4110 (by decide +kernel)
theorem d_4110_1 {σ : Nat → Nat} {n0 : Nat} {bf : ab_B} : decode (ab_code (zx σ n0 bf).1 4110) 1 = .ok (.ifCond .eq 19, 3) := zd zm_4110 (by decide +kernel)
theorem d_4110_4 {σ : Nat → Nat} {n0 : Nat} {bf : ab_B} : decode (ab_code (zx σ n0 bf).1 4110) 4 = .ok (.aload_n 0, 1) := zd zm_4110 (by decide +kernel)
theorem d_4110_5 {σ : Nat → Nat} {n0 : Nat} {bf : ab_B} : decode (ab_code (zx σ n0 bf).1 4110) 5 = .ok (.getfield 128, 3) := zd zm_4110 (by decide +kernel)
theorem d_4110_8 {σ : Nat → Nat} {n0 : Nat} {bf : ab_B} : decode (ab_code (zx σ n0 bf).1 4110) 8 = .ok (.getfield 768, 3) := zd zm_4110 (by decide +kernel)
theorem d_4110_11 {σ : Nat → Nat} {n0 : Nat} {bf : ab_B} : decode (ab_code (zx σ n0 bf).1 4110) 11 = .ok (.iload_n 1, 1) := zd zm_4110 (by decide +kernel)
theorem d_4110_12 {σ : Nat → Nat} {n0 : Nat} {bf : ab_B} : decode (ab_code (zx σ n0 bf).1 4110) 12 = .ok (.aload_n 0, 1) := zd zm_4110 (by decide +kernel)
theorem d_4110_13 {σ : Nat → Nat} {n0 : Nat} {bf : ab_B} : decode (ab_code (zx σ n0 bf).1 4110) 13 = .ok (.getfield 128, 3) := zd zm_4110 (by decide +kernel)
theorem d_4110_16 {σ : Nat → Nat} {n0 : Nat} {bf : ab_B} : decode (ab_code (zx σ n0 bf).1 4110) 16 = .ok (.getfield 265, 3) := zd zm_4110 (by decide +kernel)
theorem d_4110_19 {σ : Nat → Nat} {n0 : Nat} {bf : ab_B} : decode (ab_code (zx σ n0 bf).1 4110) 19 = .ok (.iastore, 1) := zd zm_4110 (by decide +kernel)
theorem d_4110_20 {σ : Nat → Nat} {n0 : Nat} {bf : ab_B} : decode (ab_code (zx σ n0 bf).1 4110) 20 = .ok (.return_, 1) := zd zm_4110 (by decide +kernel)
def w_X5_here_2 (X : zs_X) (d : Nat) (p0 : Nat) (p1 : Int32) (p2 : Int32) (S : zs_T) (Q : zs_Q) : Prop :=
  (((p2 = 0 → (Q (.returned none) S)) ∧ (¬ (p2 = 0) → (zs_K S p0 = some (.inl 4) ∧ ∃ b3, (zs_R S 4001 p0) = some b3 ∧ zs_K S b3 = some (.inl 3) ∧ ∃ b6, (zs_R S 3000 b3) = some b6 ∧ zs_A S b6 0 p1 ∧ ab_n0 X.1 ≤ b6 ∧ ∀ S10, S10 = zs_si S b6 p1.toNatClampNeg (zs_I S 3001 b3) → Q (.returned none) S10))))
theorem u_X5_here_2 {σ : Nat → Nat} {n0 : Nat} {bf : ab_B} {d : Nat} {p0 : Nat} {p1 : Int32} {p2 : Int32} {S : zs_T} {Q : zs_Q} (hB : zt_B bf) (hd : 1 ≤ d) (h : w_X5_here_2 (zx σ n0 bf) (d - 1) p0 p1 p2 S Q) : zs_C (zx σ n0 bf) d 4110 [.ref p0, .int p1, .int p2] S Q := by
  have hL : lv_args 0 [.ref p0, .int p1, .int p2] = [(0, .ref p0), (1, .int p1), (2, .int p2)] := rfl
  refine zs_C.of1 (hB.2 4110 (by decide) (by decide)) hd (by rw [hL]; exact zs_sub_self _ (by exact ⟨rfl, rfl, rfl, trivial⟩)) ?_
  rw [hL]
  clear hL
  unfold w_X5_here_2 at h
  refine zu_iload_n d_4110_0 rfl ?_
  refine zu_ifeq (t := 20) d_4110_1 rfl (fun c1 => ?_) (fun c1 => ?_)
  · have h := h.1 c1
    exact zu_vret d_4110_20 zr_4110 h
  · have h := h.2 c1
    refine zu_aload_n d_4110_4 rfl (zs_ra _) ?_
    obtain ⟨k2, h⟩ := h
    refine zg_4_128 rfl d_4110_5 k2 ?_
    obtain ⟨b3, e4, h⟩ := h
    refine zs_stk0 (zs_rfe e4) ?_
    obtain ⟨k5, h⟩ := h
    refine zg_4_768 rfl d_4110_8 k5 ?_
    refine zu_iload_n d_4110_11 rfl ?_
    refine zu_aload_n d_4110_12 rfl (zs_ra _) ?_
    refine zg_4_128 rfl d_4110_13 k2 ?_
    refine zs_stk0 (zs_rfe e4) ?_
    refine zg_4_265 rfl d_4110_16 k5 ?_
    obtain ⟨b6, e7, h⟩ := h
    refine zs_stk2 (zs_rfe e7) ?_
    obtain ⟨k8, h⟩ := h
    obtain ⟨k9, h⟩ := h
    refine zu_iast (k := 0) d_4110_19 rfl rfl k9 k8 ?_
    generalize e11 : zs_si S b6 p1.toNatClampNeg (zs_I S 3001 b3) = S10
    have h := h S10 e11.symm
    have K12 : ∀ b, zs_K S10 b = zs_K S b := zs_Kt e11 (zs_Ksi _ _ _ _) (fun _ => rfl)
    exact zu_vret d_4110_20 zr_4110 h
/-! SchemaPascal$Reader.loop()V -/
theorem zm_4111 {σ : Nat → Nat} {n0 : Nat} {bf : ab_B} : ab_code (zx σ n0 bf).1 4111 = prog_9_method_103_code := rfl
theorem zq_4111 {σ : Nat → Nat} {n0 : Nat} {bf : ab_B} : ab_maxL (zx σ n0 bf).1 4111 = 4 := rfl
theorem zr_4111 {σ : Nat → Nat} {n0 : Nat} {bf : ab_B} : ab_ret (zx σ n0 bf).1 4111 = (Option.none : Option Jvm.ClassFile.FieldType) := rfl
theorem d_4111_0 {σ : Nat → Nat} {n0 : Nat} {bf : ab_B} : decode (ab_code (zx σ n0 bf).1 4111) 0 = .ok (.aload_n 0, 1) := zd zm_4111 (by decide +kernel)
theorem d_4111_1 {σ : Nat → Nat} {n0 : Nat} {bf : ab_B} : decode (ab_code (zx σ n0 bf).1 4111) 1 = .ok (.getfield 5, 3) := zd zm_4111 (by decide +kernel)
theorem d_4111_4 {σ : Nat → Nat} {n0 : Nat} {bf : ab_B} : decode (ab_code (zx σ n0 bf).1 4111) 4 = .ok (.getfield 11, 3) := zd zm_4111 (by decide +kernel)
theorem d_4111_7 {σ : Nat → Nat} {n0 : Nat} {bf : ab_B} : decode (ab_code (zx σ n0 bf).1 4111) 7 = .ok (.istore_n 1, 1) := zd zm_4111 (by decide +kernel)
theorem d_4111_8 {σ : Nat → Nat} {n0 : Nat} {bf : ab_B} : decode (ab_code (zx σ n0 bf).1 4111) 8 = .ok (.aload_n 0, 1) := zd zm_4111 (by decide +kernel)
theorem d_4111_9 {σ : Nat → Nat} {n0 : Nat} {bf : ab_B} : decode (ab_code (zx σ n0 bf).1 4111) 9 = .ok (.iconst 0, 1) := zd zm_4111 (by decide +kernel)
theorem d_4111_10 {σ : Nat → Nat} {n0 : Nat} {bf : ab_B} : decode (ab_code (zx σ n0 bf).1 4111) 10 = .ok (.iload_n 1, 1) := zd zm_4111 (by decide +kernel)
theorem d_4111_11 {σ : Nat → Nat} {n0 : Nat} {bf : ab_B} : decode (ab_code (zx σ n0 bf).1 4111) 11 = .ok (.invokevirtual 273, 3) := zd zm_4111 (by decide +kernel)
theorem d_4111_14 {σ : Nat → Nat} {n0 : Nat} {bf : ab_B} : decode (ab_code (zx σ n0 bf).1 4111) 14 = .ok (.pop, 1) := zd zm_4111 (by decide +kernel)
theorem d_4111_15 {σ : Nat → Nat} {n0 : Nat} {bf : ab_B} : decode (ab_code (zx σ n0 bf).1 4111) 15 = .ok (.aload_n 0, 1) := zd zm_4111 (by decide +kernel)
theorem d_4111_16 {σ : Nat → Nat} {n0 : Nat} {bf : ab_B} : decode (ab_code (zx σ n0 bf).1 4111) 16 = .ok (.getfield 5, 3) := zd zm_4111 (by decide +kernel)
theorem d_4111_19 {σ : Nat → Nat} {n0 : Nat} {bf : ab_B} : decode (ab_code (zx σ n0 bf).1 4111) 19 = .ok (.invokevirtual 29, 3) := zd zm_4111 (by decide +kernel)
theorem d_4111_22 {σ : Nat → Nat} {n0 : Nat} {bf : ab_B} : decode (ab_code (zx σ n0 bf).1 4111) 22 = .ok (.aload_n 0, 1) := zd zm_4111 (by decide +kernel)
theorem d_4111_23 {σ : Nat → Nat} {n0 : Nat} {bf : ab_B} : decode (ab_code (zx σ n0 bf).1 4111) 23 = .ok (.getfield 128, 3) := zd zm_4111 (by decide +kernel)
theorem d_4111_26 {σ : Nat → Nat} {n0 : Nat} {bf : ab_B} : decode (ab_code (zx σ n0 bf).1 4111) 26 = .ok (.getfield 265, 3) := zd zm_4111 (by decide +kernel)
theorem d_4111_29 {σ : Nat → Nat} {n0 : Nat} {bf : ab_B} : decode (ab_code (zx σ n0 bf).1 4111) 29 = .ok (.istore_n 2, 1) := zd zm_4111 (by decide +kernel)
theorem d_4111_30 {σ : Nat → Nat} {n0 : Nat} {bf : ab_B} : decode (ab_code (zx σ n0 bf).1 4111) 30 = .ok (.aload_n 0, 1) := zd zm_4111 (by decide +kernel)
theorem d_4111_31 {σ : Nat → Nat} {n0 : Nat} {bf : ab_B} : decode (ab_code (zx σ n0 bf).1 4111) 31 = .ok (.aload_n 0, 1) := zd zm_4111 (by decide +kernel)
theorem d_4111_32 {σ : Nat → Nat} {n0 : Nat} {bf : ab_B} : decode (ab_code (zx σ n0 bf).1 4111) 32 = .ok (.invokevirtual 772, 3) := zd zm_4111 (by decide +kernel)
theorem d_4111_35 {σ : Nat → Nat} {n0 : Nat} {bf : ab_B} : decode (ab_code (zx σ n0 bf).1 4111) 35 = .ok (.invokevirtual 721, 3) := zd zm_4111 (by decide +kernel)
theorem d_4111_38 {σ : Nat → Nat} {n0 : Nat} {bf : ab_B} : decode (ab_code (zx σ n0 bf).1 4111) 38 = .ok (.aload_n 0, 1) := zd zm_4111 (by decide +kernel)
theorem d_4111_39 {σ : Nat → Nat} {n0 : Nat} {bf : ab_B} : decode (ab_code (zx σ n0 bf).1 4111) 39 = .ok (.bipush 13, 2) := zd zm_4111 (by decide +kernel)
theorem d_4111_41 {σ : Nat → Nat} {n0 : Nat} {bf : ab_B} : decode (ab_code (zx σ n0 bf).1 4111) 41 = .ok (.invokevirtual 221, 3) := zd zm_4111 (by decide +kernel)
theorem d_4111_44 {σ : Nat → Nat} {n0 : Nat} {bf : ab_B} : decode (ab_code (zx σ n0 bf).1 4111) 44 = .ok (.aload_n 0, 1) := zd zm_4111 (by decide +kernel)
theorem d_4111_45 {σ : Nat → Nat} {n0 : Nat} {bf : ab_B} : decode (ab_code (zx σ n0 bf).1 4111) 45 = .ok (.bipush 38, 2) := zd zm_4111 (by decide +kernel)
theorem d_4111_47 {σ : Nat → Nat} {n0 : Nat} {bf : ab_B} : decode (ab_code (zx σ n0 bf).1 4111) 47 = .ok (.iload_n 1, 1) := zd zm_4111 (by decide +kernel)
theorem d_4111_48 {σ : Nat → Nat} {n0 : Nat} {bf : ab_B} : decode (ab_code (zx σ n0 bf).1 4111) 48 = .ok (.invokevirtual 775, 3) := zd zm_4111 (by decide +kernel)
theorem d_4111_51 {σ : Nat → Nat} {n0 : Nat} {bf : ab_B} : decode (ab_code (zx σ n0 bf).1 4111) 51 = .ok (.istore_n 3, 1) := zd zm_4111 (by decide +kernel)
theorem d_4111_52 {σ : Nat → Nat} {n0 : Nat} {bf : ab_B} : decode (ab_code (zx σ n0 bf).1 4111) 52 = .ok (.aload_n 0, 1) := zd zm_4111 (by decide +kernel)
theorem d_4111_53 {σ : Nat → Nat} {n0 : Nat} {bf : ab_B} : decode (ab_code (zx σ n0 bf).1 4111) 53 = .ok (.iconst 0, 1) := zd zm_4111 (by decide +kernel)
theorem d_4111_54 {σ : Nat → Nat} {n0 : Nat} {bf : ab_B} : decode (ab_code (zx σ n0 bf).1 4111) 54 = .ok (.iload_n 1, 1) := zd zm_4111 (by decide +kernel)
theorem d_4111_55 {σ : Nat → Nat} {n0 : Nat} {bf : ab_B} : decode (ab_code (zx σ n0 bf).1 4111) 55 = .ok (.invokevirtual 273, 3) := zd zm_4111 (by decide +kernel)
theorem d_4111_58 {σ : Nat → Nat} {n0 : Nat} {bf : ab_B} : decode (ab_code (zx σ n0 bf).1 4111) 58 = .ok (.pop, 1) := zd zm_4111 (by decide +kernel)
theorem d_4111_59 {σ : Nat → Nat} {n0 : Nat} {bf : ab_B} : decode (ab_code (zx σ n0 bf).1 4111) 59 = .ok (.aload_n 0, 1) := zd zm_4111 (by decide +kernel)
theorem d_4111_60 {σ : Nat → Nat} {n0 : Nat} {bf : ab_B} : decode (ab_code (zx σ n0 bf).1 4111) 60 = .ok (.invokevirtual 744, 3) := zd zm_4111 (by decide +kernel)
theorem d_4111_63 {σ : Nat → Nat} {n0 : Nat} {bf : ab_B} : decode (ab_code (zx σ n0 bf).1 4111) 63 = .ok (.aload_n 0, 1) := zd zm_4111 (by decide +kernel)
theorem d_4111_64 {σ : Nat → Nat} {n0 : Nat} {bf : ab_B} : decode (ab_code (zx σ n0 bf).1 4111) 64 = .ok (.bipush 37, 2) := zd zm_4111 (by decide +kernel)
theorem d_4111_66 {σ : Nat → Nat} {n0 : Nat} {bf : ab_B} : decode (ab_code (zx σ n0 bf).1 4111) 66 = .ok (.iload_n 1, 1) := zd zm_4111 (by decide +kernel)
theorem d_4111_67 {σ : Nat → Nat} {n0 : Nat} {bf : ab_B} : decode (ab_code (zx σ n0 bf).1 4111) 67 = .ok (.iload_n 2, 1) := zd zm_4111 (by decide +kernel)
theorem d_4111_68 {σ : Nat → Nat} {n0 : Nat} {bf : ab_B} : decode (ab_code (zx σ n0 bf).1 4111) 68 = .ok (.invokevirtual 712, 3) := zd zm_4111 (by decide +kernel)
theorem d_4111_71 {σ : Nat → Nat} {n0 : Nat} {bf : ab_B} : decode (ab_code (zx σ n0 bf).1 4111) 71 = .ok (.aload_n 0, 1) := zd zm_4111 (by decide +kernel)
theorem d_4111_72 {σ : Nat → Nat} {n0 : Nat} {bf : ab_B} : decode (ab_code (zx σ n0 bf).1 4111) 72 = .ok (.iload_n 3, 1) := zd zm_4111 (by decide +kernel)
theorem d_4111_73 {σ : Nat → Nat} {n0 : Nat} {bf : ab_B} : decode (ab_code (zx σ n0 bf).1 4111) 73 = .ok (.iconst 1, 1) := zd zm_4111 (by decide +kernel)
theorem d_4111_74 {σ : Nat → Nat} {n0 : Nat} {bf : ab_B} : decode (ab_code (zx σ n0 bf).1 4111) 74 = .ok (.invokevirtual 778, 3) := zd zm_4111 (by decide +kernel)
theorem d_4111_77 {σ : Nat → Nat} {n0 : Nat} {bf : ab_B} : decode (ab_code (zx σ n0 bf).1 4111) 77 = .ok (.return_, 1) := zd zm_4111 (by decide +kernel)
def w_X5_loop_59 (X : zs_X) (d : Nat) (p0 : Nat) (p1 : Int32) (p2 : Int32) (p3 : Int32) (S : zs_T) (Q : zs_Q) : Prop :=
  (zs_K S p0 = some (.inl 4) ∧ zs_C X d 4106 [.ref p0] S (zs_kV (fun S2 => (zs_K S2 p0 = some (.inl 4) ∧ zs_C X d 4097 [.ref p0, .int (37 : Int32), .int p1, .int p2] S2 (zs_kV (fun S5 => (zs_K S5 p0 = some (.inl 4) ∧ zs_C X d 4110 [.ref p0, .int p3, .int (1 : Int32)] S5 (zs_kV (fun S8 => (Q (.returned none) S8)) Q))) Q))) Q))
theorem u_X5_loop_59 {σ : Nat → Nat} {n0 : Nat} {bf : ab_B} {d : Nat} {p0 : Nat} {p1 : Int32} {p2 : Int32} {p3 : Int32} {S : zs_T} {Q : zs_Q} (hB : zt_B bf) (h : w_X5_loop_59 (zx σ n0 bf) d p0 p1 p2 p3 S Q) : zs_U (zx σ n0 bf) d 4111 59 [(0, .ref p0), (1, .int p1), (2, .int p2), (3, .int p3)] [] S Q := by
  unfold w_X5_loop_59 at h
  refine zu_aload_n d_4111_59 rfl (zs_ra _) ?_
  obtain ⟨k1, h⟩ := h
  refine zc_4_744  hB rfl k1 d_4111_60 (Nat.le_of_ble_eq_true rfl) h (fun S2 h => ?_)
  refine zu_aload_n d_4111_63 rfl (zs_ra _) ?_
  refine zu_bipush d_4111_64 zj_37 ?_
  refine zu_iload_n d_4111_66 rfl ?_
  refine zu_iload_n d_4111_67 rfl ?_
  obtain ⟨k4, h⟩ := h
  refine zc_4_712 (x0 := (37 : Int32)) (x1 := p1) (x2 := p2) hB rfl k4 d_4111_68 (Nat.le_of_ble_eq_true rfl) h (fun S5 h => ?_)
  refine zu_aload_n d_4111_71 rfl (zs_ra _) ?_
  refine zu_iload_n d_4111_72 rfl ?_
  refine zu_iconst d_4111_73 zi_1 ?_
  obtain ⟨k7, h⟩ := h
  refine zc_4_778 (x0 := p3) (x1 := (1 : Int32)) hB rfl k7 d_4111_74 (Nat.le_of_ble_eq_true rfl) h (fun S8 h => ?_)
  exact zu_vret d_4111_77 zr_4111 h
def w_X5_loop_30 (X : zs_X) (d : Nat) (p0 : Nat) (p1 : Int32) (p2 : Int32) (S : zs_T) (Q : zs_Q) : Prop :=
  (zs_K S p0 = some (.inl 4) ∧ zs_C X d 4108 [.ref p0] S (zs_kR (fun v3 S2 => (zs_K S2 p0 = some (.inl 4) ∧ zs_C X d 4096 [.ref p0, va_rf v3] S2 (zs_kV (fun S5 => (zs_K S5 p0 = some (.inl 4) ∧ zs_C X d 4005 [.ref p0, .int (13 : Int32)] S5 (zs_kV (fun S8 => (zs_K S8 p0 = some (.inl 4) ∧ zs_C X d 4109 [.ref p0, .int (38 : Int32), .int p1] S8 (zs_kI (fun v12 S11 => (zs_K S11 p0 = some (.inl 4) ∧ zs_C X d 4094 [.ref p0, .int (0 : Int32), .int p1] S11 (zs_kI (fun v15 S14 => (w_X5_loop_59 X d p0 p1 p2 v12 S14 Q)) Q))) Q))) Q))) Q))) Q))
theorem u_X5_loop_30 {σ : Nat → Nat} {n0 : Nat} {bf : ab_B} {d : Nat} {p0 : Nat} {p1 : Int32} {p2 : Int32} {S : zs_T} {Q : zs_Q} (hB : zt_B bf) (h : w_X5_loop_30 (zx σ n0 bf) d p0 p1 p2 S Q) : zs_U (zx σ n0 bf) d 4111 30 [(0, .ref p0), (1, .int p1), (2, .int p2)] [] S Q := by
  unfold w_X5_loop_30 at h
  refine zu_aload_n d_4111_30 rfl (zs_ra _) ?_
  refine zu_aload_n d_4111_31 rfl (zs_ra _) ?_
  obtain ⟨k1, h⟩ := h
  refine zc_4_772  hB rfl k1 d_4111_32 (Nat.le_of_ble_eq_true rfl) h (fun v3 S2 h => ?_)
  obtain ⟨k4, h⟩ := h
  refine zc_4_721 (x0 := v3) hB rfl k4 d_4111_35 (Nat.le_of_ble_eq_true rfl) h (fun S5 h => ?_)
  refine zu_aload_n d_4111_38 rfl (zs_ra _) ?_
  refine zu_bipush d_4111_39 zj_13 ?_
  obtain ⟨k7, h⟩ := h
  refine zc_4_221 (x0 := (13 : Int32)) hB rfl k7 d_4111_41 (Nat.le_of_ble_eq_true rfl) h (fun S8 h => ?_)
  refine zu_aload_n d_4111_44 rfl (zs_ra _) ?_
  refine zu_bipush d_4111_45 zj_38 ?_
  refine zu_iload_n d_4111_47 rfl ?_
  obtain ⟨k10, h⟩ := h
  refine zc_4_775 (x0 := (38 : Int32)) (x1 := p1) hB rfl k10 d_4111_48 (Nat.le_of_ble_eq_true rfl) h (fun v12 S11 h => ?_)
  refine zu_istore_n d_4111_51 (zs_lt zq_4111 rfl) ?_
  refine zu_aload_n d_4111_52 rfl (zs_ra _) ?_
  refine zu_iconst d_4111_53 zi_0 ?_
  refine zu_iload_n d_4111_54 rfl ?_
  obtain ⟨k13, h⟩ := h
  refine zc_4_273 (x0 := (0 : Int32)) (x1 := p1) hB rfl k13 d_4111_55 (Nat.le_of_ble_eq_true rfl) h (fun v15 S14 h => ?_)
  refine zu_pop d_4111_58 rfl ?_
  exact (u_X5_loop_59 hB h).weak ⟨rfl, rfl, rfl, rfl, trivial⟩
def w_X5_loop (X : zs_X) (d : Nat) (p0 : Nat) (S : zs_T) (Q : zs_Q) : Prop :=
  (zs_K S p0 = some (.inl 4) ∧ ∃ b2, (zs_R S 4000 p0) = some b2 ∧ zs_K S b2 = some (.inl 5) ∧ zs_C X d 4094 [.ref p0, .int (0 : Int32), .int (zs_I S 5005 b2)] S (zs_kI (fun v6 S5 => (zs_K S5 p0 = some (.inl 4) ∧ ∃ b8, (zs_R S5 4000 p0) = some b8 ∧ zs_K S5 b8 = some (.inl 5) ∧ zs_C X d 5004 [.ref b8] S5 (zs_kV (fun S11 => (zs_K S11 p0 = some (.inl 4) ∧ ∃ b14, (zs_R S11 4001 p0) = some b14 ∧ zs_K S11 b14 = some (.inl 3) ∧ w_X5_loop_30 X d p0 (zs_I S 5005 b2) (zs_I S11 3001 b14) S11 Q)) Q))) Q))
theorem u_X5_loop {σ : Nat → Nat} {n0 : Nat} {bf : ab_B} {d : Nat} {p0 : Nat} {S : zs_T} {Q : zs_Q} (hB : zt_B bf) (hd : 1 ≤ d) (h : w_X5_loop (zx σ n0 bf) (d - 1) p0 S Q) : zs_C (zx σ n0 bf) d 4111 [.ref p0] S Q := by
  have hL : lv_args 0 [.ref p0] = [(0, .ref p0)] := rfl
  refine zs_C.of1 (hB.2 4111 (by decide) (by decide)) hd (by rw [hL]; exact zs_sub_self _ (by exact ⟨rfl, trivial⟩)) ?_
  rw [hL]
  clear hL
  unfold w_X5_loop at h
  refine zu_aload_n d_4111_0 rfl (zs_ra _) ?_
  obtain ⟨k1, h⟩ := h
  refine zg_4_5 rfl d_4111_1 k1 ?_
  obtain ⟨b2, e3, h⟩ := h
  refine zs_stk0 (zs_rfe e3) ?_
  obtain ⟨k4, h⟩ := h
  refine zg_4_11 rfl d_4111_4 k4 ?_
  refine zu_istore_n d_4111_7 (zs_lt zq_4111 rfl) ?_
  refine zu_aload_n d_4111_8 rfl (zs_ra _) ?_
  refine zu_iconst d_4111_9 zi_0 ?_
  refine zu_iload_n d_4111_10 rfl ?_
  refine zc_4_273 (x0 := (0 : Int32)) (x1 := (zs_I S 5005 b2)) hB rfl k1 d_4111_11 (Nat.le_of_ble_eq_true rfl) h (fun v6 S5 h => ?_)
  refine zu_pop d_4111_14 rfl ?_
  refine zu_aload_n d_4111_15 rfl (zs_ra _) ?_
  obtain ⟨k7, h⟩ := h
  refine zg_4_5 rfl d_4111_16 k7 ?_
  obtain ⟨b8, e9, h⟩ := h
  refine zs_stk0 (zs_rfe e9) ?_
  obtain ⟨k10, h⟩ := h
  refine zc_4_29  hB rfl k10 d_4111_19 (Nat.le_of_ble_eq_true rfl) h (fun S11 h => ?_)
  refine zu_aload_n d_4111_22 rfl (zs_ra _) ?_
  obtain ⟨k13, h⟩ := h
  refine zg_4_128 rfl d_4111_23 k13 ?_
  obtain ⟨b14, e15, h⟩ := h
  refine zs_stk0 (zs_rfe e15) ?_
  obtain ⟨k16, h⟩ := h
  refine zg_4_265 rfl d_4111_26 k16 ?_
  refine zu_istore_n d_4111_29 (zs_lt zq_4111 rfl) ?_
  exact (u_X5_loop_30 hB h).weak ⟨rfl, rfl, rfl, trivial⟩
/-! SchemaPascal$Reader.repeated()V -/
theorem zm_4112 {σ : Nat → Nat} {n0 : Nat} {bf : ab_B} : ab_code (zx σ n0 bf).1 4112 = prog_9_method_104_code := rfl
theorem zq_4112 {σ : Nat → Nat} {n0 : Nat} {bf : ab_B} : ab_maxL (zx σ n0 bf).1 4112 = 3 := rfl
theorem zr_4112 {σ : Nat → Nat} {n0 : Nat} {bf : ab_B} : ab_ret (zx σ n0 bf).1 4112 = (Option.none : Option Jvm.ClassFile.FieldType) := rfl
theorem d_4112_0 {σ : Nat → Nat} {n0 : Nat} {bf : ab_B} : decode (ab_code (zx σ n0 bf).1 4112) 0 = .ok (.aload_n 0, 1) := zd zm_4112 (by decide +kernel)
theorem d_4112_1 {σ : Nat → Nat} {n0 : Nat} {bf : ab_B} : decode (ab_code (zx σ n0 bf).1 4112) 1 = .ok (.getfield 5, 3) := zd zm_4112 (by decide +kernel)
theorem d_4112_4 {σ : Nat → Nat} {n0 : Nat} {bf : ab_B} : decode (ab_code (zx σ n0 bf).1 4112) 4 = .ok (.getfield 11, 3) := zd zm_4112 (by decide +kernel)
theorem d_4112_7 {σ : Nat → Nat} {n0 : Nat} {bf : ab_B} : decode (ab_code (zx σ n0 bf).1 4112) 7 = .ok (.istore_n 1, 1) := zd zm_4112 (by decide +kernel)
theorem d_4112_8 {σ : Nat → Nat} {n0 : Nat} {bf : ab_B} : decode (ab_code (zx σ n0 bf).1 4112) 8 = .ok (.aload_n 0, 1) := zd zm_4112 (by decide +kernel)
theorem d_4112_9 {σ : Nat → Nat} {n0 : Nat} {bf : ab_B} : decode (ab_code (zx σ n0 bf).1 4112) 9 = .ok (.iconst 0, 1) := zd zm_4112 (by decide +kernel)
theorem d_4112_10 {σ : Nat → Nat} {n0 : Nat} {bf : ab_B} : decode (ab_code (zx σ n0 bf).1 4112) 10 = .ok (.iload_n 1, 1) := zd zm_4112 (by decide +kernel)
theorem d_4112_11 {σ : Nat → Nat} {n0 : Nat} {bf : ab_B} : decode (ab_code (zx σ n0 bf).1 4112) 11 = .ok (.invokevirtual 273, 3) := zd zm_4112 (by decide +kernel)
theorem d_4112_14 {σ : Nat → Nat} {n0 : Nat} {bf : ab_B} : decode (ab_code (zx σ n0 bf).1 4112) 14 = .ok (.pop, 1) := zd zm_4112 (by decide +kernel)
theorem d_4112_15 {σ : Nat → Nat} {n0 : Nat} {bf : ab_B} : decode (ab_code (zx σ n0 bf).1 4112) 15 = .ok (.aload_n 0, 1) := zd zm_4112 (by decide +kernel)
theorem d_4112_16 {σ : Nat → Nat} {n0 : Nat} {bf : ab_B} : decode (ab_code (zx σ n0 bf).1 4112) 16 = .ok (.getfield 5, 3) := zd zm_4112 (by decide +kernel)
theorem d_4112_19 {σ : Nat → Nat} {n0 : Nat} {bf : ab_B} : decode (ab_code (zx σ n0 bf).1 4112) 19 = .ok (.invokevirtual 29, 3) := zd zm_4112 (by decide +kernel)
theorem d_4112_22 {σ : Nat → Nat} {n0 : Nat} {bf : ab_B} : decode (ab_code (zx σ n0 bf).1 4112) 22 = .ok (.aload_n 0, 1) := zd zm_4112 (by decide +kernel)
theorem d_4112_23 {σ : Nat → Nat} {n0 : Nat} {bf : ab_B} : decode (ab_code (zx σ n0 bf).1 4112) 23 = .ok (.getfield 128, 3) := zd zm_4112 (by decide +kernel)
theorem d_4112_26 {σ : Nat → Nat} {n0 : Nat} {bf : ab_B} : decode (ab_code (zx σ n0 bf).1 4112) 26 = .ok (.getfield 265, 3) := zd zm_4112 (by decide +kernel)
theorem d_4112_29 {σ : Nat → Nat} {n0 : Nat} {bf : ab_B} : decode (ab_code (zx σ n0 bf).1 4112) 29 = .ok (.istore_n 2, 1) := zd zm_4112 (by decide +kernel)
theorem d_4112_30 {σ : Nat → Nat} {n0 : Nat} {bf : ab_B} : decode (ab_code (zx σ n0 bf).1 4112) 30 = .ok (.aload_n 0, 1) := zd zm_4112 (by decide +kernel)
theorem d_4112_31 {σ : Nat → Nat} {n0 : Nat} {bf : ab_B} : decode (ab_code (zx σ n0 bf).1 4112) 31 = .ok (.iconst 0, 1) := zd zm_4112 (by decide +kernel)
theorem d_4112_32 {σ : Nat → Nat} {n0 : Nat} {bf : ab_B} : decode (ab_code (zx σ n0 bf).1 4112) 32 = .ok (.iload_n 1, 1) := zd zm_4112 (by decide +kernel)
theorem d_4112_33 {σ : Nat → Nat} {n0 : Nat} {bf : ab_B} : decode (ab_code (zx σ n0 bf).1 4112) 33 = .ok (.invokevirtual 273, 3) := zd zm_4112 (by decide +kernel)
theorem d_4112_36 {σ : Nat → Nat} {n0 : Nat} {bf : ab_B} : decode (ab_code (zx σ n0 bf).1 4112) 36 = .ok (.pop, 1) := zd zm_4112 (by decide +kernel)
theorem d_4112_37 {σ : Nat → Nat} {n0 : Nat} {bf : ab_B} : decode (ab_code (zx σ n0 bf).1 4112) 37 = .ok (.aload_n 0, 1) := zd zm_4112 (by decide +kernel)
theorem d_4112_38 {σ : Nat → Nat} {n0 : Nat} {bf : ab_B} : decode (ab_code (zx σ n0 bf).1 4112) 38 = .ok (.bipush 15, 2) := zd zm_4112 (by decide +kernel)
theorem d_4112_40 {σ : Nat → Nat} {n0 : Nat} {bf : ab_B} : decode (ab_code (zx σ n0 bf).1 4112) 40 = .ok (.invokevirtual 287, 3) := zd zm_4112 (by decide +kernel)
theorem d_4112_43 {σ : Nat → Nat} {n0 : Nat} {bf : ab_B} : decode (ab_code (zx σ n0 bf).1 4112) 43 = .ok (.aload_n 0, 1) := zd zm_4112 (by decide +kernel)
theorem d_4112_44 {σ : Nat → Nat} {n0 : Nat} {bf : ab_B} : decode (ab_code (zx σ n0 bf).1 4112) 44 = .ok (.getfield 5, 3) := zd zm_4112 (by decide +kernel)
theorem d_4112_47 {σ : Nat → Nat} {n0 : Nat} {bf : ab_B} : decode (ab_code (zx σ n0 bf).1 4112) 47 = .ok (.invokevirtual 29, 3) := zd zm_4112 (by decide +kernel)
theorem d_4112_50 {σ : Nat → Nat} {n0 : Nat} {bf : ab_B} : decode (ab_code (zx σ n0 bf).1 4112) 50 = .ok (.aload_n 0, 1) := zd zm_4112 (by decide +kernel)
theorem d_4112_51 {σ : Nat → Nat} {n0 : Nat} {bf : ab_B} : decode (ab_code (zx σ n0 bf).1 4112) 51 = .ok (.aload_n 0, 1) := zd zm_4112 (by decide +kernel)
theorem d_4112_52 {σ : Nat → Nat} {n0 : Nat} {bf : ab_B} : decode (ab_code (zx σ n0 bf).1 4112) 52 = .ok (.invokevirtual 772, 3) := zd zm_4112 (by decide +kernel)
theorem d_4112_55 {σ : Nat → Nat} {n0 : Nat} {bf : ab_B} : decode (ab_code (zx σ n0 bf).1 4112) 55 = .ok (.invokevirtual 721, 3) := zd zm_4112 (by decide +kernel)
theorem d_4112_58 {σ : Nat → Nat} {n0 : Nat} {bf : ab_B} : decode (ab_code (zx σ n0 bf).1 4112) 58 = .ok (.aload_n 0, 1) := zd zm_4112 (by decide +kernel)
theorem d_4112_59 {σ : Nat → Nat} {n0 : Nat} {bf : ab_B} : decode (ab_code (zx σ n0 bf).1 4112) 59 = .ok (.bipush 38, 2) := zd zm_4112 (by decide +kernel)
theorem d_4112_61 {σ : Nat → Nat} {n0 : Nat} {bf : ab_B} : decode (ab_code (zx σ n0 bf).1 4112) 61 = .ok (.iload_n 1, 1) := zd zm_4112 (by decide +kernel)
theorem d_4112_62 {σ : Nat → Nat} {n0 : Nat} {bf : ab_B} : decode (ab_code (zx σ n0 bf).1 4112) 62 = .ok (.iload_n 2, 1) := zd zm_4112 (by decide +kernel)
theorem d_4112_63 {σ : Nat → Nat} {n0 : Nat} {bf : ab_B} : decode (ab_code (zx σ n0 bf).1 4112) 63 = .ok (.invokevirtual 712, 3) := zd zm_4112 (by decide +kernel)
theorem d_4112_66 {σ : Nat → Nat} {n0 : Nat} {bf : ab_B} : decode (ab_code (zx σ n0 bf).1 4112) 66 = .ok (.return_, 1) := zd zm_4112 (by decide +kernel)
def w_X5_repeated_66 (X : zs_X) (d : Nat)  (S : zs_T) (Q : zs_Q) : Prop :=
  (Q (.returned none) S)
theorem u_X5_repeated_66 {σ : Nat → Nat} {n0 : Nat} {bf : ab_B} {d : Nat}  {S : zs_T} {Q : zs_Q} (hB : zt_B bf) (h : w_X5_repeated_66 (zx σ n0 bf) d  S Q) : zs_U (zx σ n0 bf) d 4112 66 [] [] S Q := by
  unfold w_X5_repeated_66 at h
  exact zu_vret d_4112_66 zr_4112 h
def w_X5_repeated_30 (X : zs_X) (d : Nat) (p0 : Nat) (p1 : Int32) (p2 : Int32) (S : zs_T) (Q : zs_Q) : Prop :=
  (zs_K S p0 = some (.inl 4) ∧ zs_C X d 4094 [.ref p0, .int (0 : Int32), .int p1] S (zs_kI (fun v3 S2 => (zs_K S2 p0 = some (.inl 4) ∧ zs_C X d 4105 [.ref p0, .int (15 : Int32)] S2 (zs_kV (fun S5 => (zs_K S5 p0 = some (.inl 4) ∧ ∃ b8, (zs_R S5 4000 p0) = some b8 ∧ zs_K S5 b8 = some (.inl 5) ∧ zs_C X d 5004 [.ref b8] S5 (zs_kV (fun S11 => (zs_K S11 p0 = some (.inl 4) ∧ zs_C X d 4108 [.ref p0] S11 (zs_kR (fun v15 S14 => (zs_K S14 p0 = some (.inl 4) ∧ zs_C X d 4096 [.ref p0, va_rf v15] S14 (zs_kV (fun S17 => (zs_K S17 p0 = some (.inl 4) ∧ zs_C X d 4097 [.ref p0, .int (38 : Int32), .int p1, .int p2] S17 (zs_kV (fun S20 => w_X5_repeated_66 X d  S20 Q) Q))) Q))) Q))) Q))) Q))) Q))
theorem u_X5_repeated_30 {σ : Nat → Nat} {n0 : Nat} {bf : ab_B} {d : Nat} {p0 : Nat} {p1 : Int32} {p2 : Int32} {S : zs_T} {Q : zs_Q} (hB : zt_B bf) (h : w_X5_repeated_30 (zx σ n0 bf) d p0 p1 p2 S Q) : zs_U (zx σ n0 bf) d 4112 30 [(0, .ref p0), (1, .int p1), (2, .int p2)] [] S Q := by
  unfold w_X5_repeated_30 at h
  refine zu_aload_n d_4112_30 rfl (zs_ra _) ?_
  refine zu_iconst d_4112_31 zi_0 ?_
  refine zu_iload_n d_4112_32 rfl ?_
  obtain ⟨k1, h⟩ := h
  refine zc_4_273 (x0 := (0 : Int32)) (x1 := p1) hB rfl k1 d_4112_33 (Nat.le_of_ble_eq_true rfl) h (fun v3 S2 h => ?_)
  refine zu_pop d_4112_36 rfl ?_
  refine zu_aload_n d_4112_37 rfl (zs_ra _) ?_
  refine zu_bipush d_4112_38 zj_15 ?_
  obtain ⟨k4, h⟩ := h
  refine zc_4_287 (x0 := (15 : Int32)) hB rfl k4 d_4112_40 (Nat.le_of_ble_eq_true rfl) h (fun S5 h => ?_)
  refine zu_aload_n d_4112_43 rfl (zs_ra _) ?_
  obtain ⟨k7, h⟩ := h
  refine zg_4_5 rfl d_4112_44 k7 ?_
  obtain ⟨b8, e9, h⟩ := h
  refine zs_stk0 (zs_rfe e9) ?_
  obtain ⟨k10, h⟩ := h
  refine zc_4_29  hB rfl k10 d_4112_47 (Nat.le_of_ble_eq_true rfl) h (fun S11 h => ?_)
  refine zu_aload_n d_4112_50 rfl (zs_ra _) ?_
  refine zu_aload_n d_4112_51 rfl (zs_ra _) ?_
  obtain ⟨k13, h⟩ := h
  refine zc_4_772  hB rfl k13 d_4112_52 (Nat.le_of_ble_eq_true rfl) h (fun v15 S14 h => ?_)
  obtain ⟨k16, h⟩ := h
  refine zc_4_721 (x0 := v15) hB rfl k16 d_4112_55 (Nat.le_of_ble_eq_true rfl) h (fun S17 h => ?_)
  refine zu_aload_n d_4112_58 rfl (zs_ra _) ?_
  refine zu_bipush d_4112_59 zj_38 ?_
  refine zu_iload_n d_4112_61 rfl ?_
  refine zu_iload_n d_4112_62 rfl ?_
  obtain ⟨k19, h⟩ := h
  refine zc_4_712 (x0 := (38 : Int32)) (x1 := p1) (x2 := p2) hB rfl k19 d_4112_63 (Nat.le_of_ble_eq_true rfl) h (fun S20 h => ?_)
  exact (u_X5_repeated_66 hB h).weak trivial
def w_X5_repeated (X : zs_X) (d : Nat) (p0 : Nat) (S : zs_T) (Q : zs_Q) : Prop :=
  (zs_K S p0 = some (.inl 4) ∧ ∃ b2, (zs_R S 4000 p0) = some b2 ∧ zs_K S b2 = some (.inl 5) ∧ zs_C X d 4094 [.ref p0, .int (0 : Int32), .int (zs_I S 5005 b2)] S (zs_kI (fun v6 S5 => (zs_K S5 p0 = some (.inl 4) ∧ ∃ b8, (zs_R S5 4000 p0) = some b8 ∧ zs_K S5 b8 = some (.inl 5) ∧ zs_C X d 5004 [.ref b8] S5 (zs_kV (fun S11 => (zs_K S11 p0 = some (.inl 4) ∧ ∃ b14, (zs_R S11 4001 p0) = some b14 ∧ zs_K S11 b14 = some (.inl 3) ∧ w_X5_repeated_30 X d p0 (zs_I S 5005 b2) (zs_I S11 3001 b14) S11 Q)) Q))) Q))
theorem u_X5_repeated {σ : Nat → Nat} {n0 : Nat} {bf : ab_B} {d : Nat} {p0 : Nat} {S : zs_T} {Q : zs_Q} (hB : zt_B bf) (hd : 1 ≤ d) (h : w_X5_repeated (zx σ n0 bf) (d - 1) p0 S Q) : zs_C (zx σ n0 bf) d 4112 [.ref p0] S Q := by
  have hL : lv_args 0 [.ref p0] = [(0, .ref p0)] := rfl
  refine zs_C.of1 (hB.2 4112 (by decide) (by decide)) hd (by rw [hL]; exact zs_sub_self _ (by exact ⟨rfl, trivial⟩)) ?_
  rw [hL]
  clear hL
  unfold w_X5_repeated at h
  refine zu_aload_n d_4112_0 rfl (zs_ra _) ?_
  obtain ⟨k1, h⟩ := h
  refine zg_4_5 rfl d_4112_1 k1 ?_
  obtain ⟨b2, e3, h⟩ := h
  refine zs_stk0 (zs_rfe e3) ?_
  obtain ⟨k4, h⟩ := h
  refine zg_4_11 rfl d_4112_4 k4 ?_
  refine zu_istore_n d_4112_7 (zs_lt zq_4112 rfl) ?_
  refine zu_aload_n d_4112_8 rfl (zs_ra _) ?_
  refine zu_iconst d_4112_9 zi_0 ?_
  refine zu_iload_n d_4112_10 rfl ?_
  refine zc_4_273 (x0 := (0 : Int32)) (x1 := (zs_I S 5005 b2)) hB rfl k1 d_4112_11 (Nat.le_of_ble_eq_true rfl) h (fun v6 S5 h => ?_)
  refine zu_pop d_4112_14 rfl ?_
  refine zu_aload_n d_4112_15 rfl (zs_ra _) ?_
  obtain ⟨k7, h⟩ := h
  refine zg_4_5 rfl d_4112_16 k7 ?_
  obtain ⟨b8, e9, h⟩ := h
  refine zs_stk0 (zs_rfe e9) ?_
  obtain ⟨k10, h⟩ := h
  refine zc_4_29  hB rfl k10 d_4112_19 (Nat.le_of_ble_eq_true rfl) h (fun S11 h => ?_)
  refine zu_aload_n d_4112_22 rfl (zs_ra _) ?_
  obtain ⟨k13, h⟩ := h
  refine zg_4_128 rfl d_4112_23 k13 ?_
  obtain ⟨b14, e15, h⟩ := h
  refine zs_stk0 (zs_rfe e15) ?_
  obtain ⟨k16, h⟩ := h
  refine zg_4_265 rfl d_4112_26 k16 ?_
  refine zu_istore_n d_4112_29 (zs_lt zq_4112 rfl) ?_
  exact (u_X5_repeated_30 hB h).weak ⟨rfl, rfl, rfl, trivial⟩
/-! SchemaPascal$Reader.counted()V -/
theorem zm_4113 {σ : Nat → Nat} {n0 : Nat} {bf : ab_B} : ab_code (zx σ n0 bf).1 4113 = prog_9_method_105_code := rfl
theorem zq_4113 {σ : Nat → Nat} {n0 : Nat} {bf : ab_B} : ab_maxL (zx σ n0 bf).1 4113 = 8 := rfl
theorem zr_4113 {σ : Nat → Nat} {n0 : Nat} {bf : ab_B} : ab_ret (zx σ n0 bf).1 4113 = (Option.none : Option Jvm.ClassFile.FieldType) := rfl
theorem d_4113_0 {σ : Nat → Nat} {n0 : Nat} {bf : ab_B} : decode (ab_code (zx σ n0 bf).1 4113) 0 = .ok (.aload_n 0, 1) := zd zm_4113 (by decide +kernel)
theorem d_4113_1 {σ : Nat → Nat} {n0 : Nat} {bf : ab_B} : decode (ab_code (zx σ n0 bf).1 4113) 1 = .ok (.getfield 5, 3) := zd zm_4113 (by decide +kernel)
theorem d_4113_4 {σ : Nat → Nat} {n0 : Nat} {bf : ab_B} : decode (ab_code (zx σ n0 bf).1 4113) 4 = .ok (.getfield 11, 3) := zd zm_4113 (by decide +kernel)
theorem d_4113_7 {σ : Nat → Nat} {n0 : Nat} {bf : ab_B} : decode (ab_code (zx σ n0 bf).1 4113) 7 = .ok (.istore_n 1, 1) := zd zm_4113 (by decide +kernel)
theorem d_4113_8 {σ : Nat → Nat} {n0 : Nat} {bf : ab_B} : decode (ab_code (zx σ n0 bf).1 4113) 8 = .ok (.aload_n 0, 1) := zd zm_4113 (by decide +kernel)
theorem d_4113_9 {σ : Nat → Nat} {n0 : Nat} {bf : ab_B} : decode (ab_code (zx σ n0 bf).1 4113) 9 = .ok (.iconst 0, 1) := zd zm_4113 (by decide +kernel)
theorem d_4113_10 {σ : Nat → Nat} {n0 : Nat} {bf : ab_B} : decode (ab_code (zx σ n0 bf).1 4113) 10 = .ok (.iload_n 1, 1) := zd zm_4113 (by decide +kernel)
theorem d_4113_11 {σ : Nat → Nat} {n0 : Nat} {bf : ab_B} : decode (ab_code (zx σ n0 bf).1 4113) 11 = .ok (.invokevirtual 273, 3) := zd zm_4113 (by decide +kernel)
theorem d_4113_14 {σ : Nat → Nat} {n0 : Nat} {bf : ab_B} : decode (ab_code (zx σ n0 bf).1 4113) 14 = .ok (.pop, 1) := zd zm_4113 (by decide +kernel)
theorem d_4113_15 {σ : Nat → Nat} {n0 : Nat} {bf : ab_B} : decode (ab_code (zx σ n0 bf).1 4113) 15 = .ok (.aload_n 0, 1) := zd zm_4113 (by decide +kernel)
theorem d_4113_16 {σ : Nat → Nat} {n0 : Nat} {bf : ab_B} : decode (ab_code (zx σ n0 bf).1 4113) 16 = .ok (.getfield 5, 3) := zd zm_4113 (by decide +kernel)
theorem d_4113_19 {σ : Nat → Nat} {n0 : Nat} {bf : ab_B} : decode (ab_code (zx σ n0 bf).1 4113) 19 = .ok (.invokevirtual 29, 3) := zd zm_4113 (by decide +kernel)
theorem d_4113_22 {σ : Nat → Nat} {n0 : Nat} {bf : ab_B} : decode (ab_code (zx σ n0 bf).1 4113) 22 = .ok (.aload_n 0, 1) := zd zm_4113 (by decide +kernel)
theorem d_4113_23 {σ : Nat → Nat} {n0 : Nat} {bf : ab_B} : decode (ab_code (zx σ n0 bf).1 4113) 23 = .ok (.getfield 5, 3) := zd zm_4113 (by decide +kernel)
theorem d_4113_26 {σ : Nat → Nat} {n0 : Nat} {bf : ab_B} : decode (ab_code (zx σ n0 bf).1 4113) 26 = .ok (.invokevirtual 36, 3) := zd zm_4113 (by decide +kernel)
theorem d_4113_29 {σ : Nat → Nat} {n0 : Nat} {bf : ab_B} : decode (ab_code (zx σ n0 bf).1 4113) 29 = .ok (.ifCond .ne 9, 3) := zd zm_4113 (by decide +kernel)
theorem d_4113_32 {σ : Nat → Nat} {n0 : Nat} {bf : ab_B} : decode (ab_code (zx σ n0 bf).1 4113) 32 = .ok (.aload_n 0, 1) := zd zm_4113 (by decide +kernel)
theorem d_4113_33 {σ : Nat → Nat} {n0 : Nat} {bf : ab_B} : decode (ab_code (zx σ n0 bf).1 4113) 33 = .ok (.iconst 2, 1) := zd zm_4113 (by decide +kernel)
theorem d_4113_34 {σ : Nat → Nat} {n0 : Nat} {bf : ab_B} : decode (ab_code (zx σ n0 bf).1 4113) 34 = .ok (.invokevirtual 25, 3) := zd zm_4113 (by decide +kernel)
theorem d_4113_37 {σ : Nat → Nat} {n0 : Nat} {bf : ab_B} : decode (ab_code (zx σ n0 bf).1 4113) 37 = .ok (.athrow, 1) := zd zm_4113 (by decide +kernel)
theorem d_4113_38 {σ : Nat → Nat} {n0 : Nat} {bf : ab_B} : decode (ab_code (zx σ n0 bf).1 4113) 38 = .ok (.aload_n 0, 1) := zd zm_4113 (by decide +kernel)
theorem d_4113_39 {σ : Nat → Nat} {n0 : Nat} {bf : ab_B} : decode (ab_code (zx σ n0 bf).1 4113) 39 = .ok (.aload_n 0, 1) := zd zm_4113 (by decide +kernel)
theorem d_4113_40 {σ : Nat → Nat} {n0 : Nat} {bf : ab_B} : decode (ab_code (zx σ n0 bf).1 4113) 40 = .ok (.getfield 5, 3) := zd zm_4113 (by decide +kernel)
theorem d_4113_43 {σ : Nat → Nat} {n0 : Nat} {bf : ab_B} : decode (ab_code (zx σ n0 bf).1 4113) 43 = .ok (.getfield 40, 3) := zd zm_4113 (by decide +kernel)
theorem d_4113_46 {σ : Nat → Nat} {n0 : Nat} {bf : ab_B} : decode (ab_code (zx σ n0 bf).1 4113) 46 = .ok (.invokevirtual 318, 3) := zd zm_4113 (by decide +kernel)
theorem d_4113_49 {σ : Nat → Nat} {n0 : Nat} {bf : ab_B} : decode (ab_code (zx σ n0 bf).1 4113) 49 = .ok (.astore_n 2, 1) := zd zm_4113 (by decide +kernel)
theorem d_4113_50 {σ : Nat → Nat} {n0 : Nat} {bf : ab_B} : decode (ab_code (zx σ n0 bf).1 4113) 50 = .ok (.aload_n 2, 1) := zd zm_4113 (by decide +kernel)
theorem d_4113_51 {σ : Nat → Nat} {n0 : Nat} {bf : ab_B} : decode (ab_code (zx σ n0 bf).1 4113) 51 = .ok (.ifnull 43, 3) := zd zm_4113 (by decide +kernel)
theorem d_4113_54 {σ : Nat → Nat} {n0 : Nat} {bf : ab_B} : decode (ab_code (zx σ n0 bf).1 4113) 54 = .ok (.aload_n 2, 1) := zd zm_4113 (by decide +kernel)
theorem d_4113_55 {σ : Nat → Nat} {n0 : Nat} {bf : ab_B} : decode (ab_code (zx σ n0 bf).1 4113) 55 = .ok (.getfield 62, 3) := zd zm_4113 (by decide +kernel)
theorem d_4113_58 {σ : Nat → Nat} {n0 : Nat} {bf : ab_B} : decode (ab_code (zx σ n0 bf).1 4113) 58 = .ok (.iconst 2, 1) := zd zm_4113 (by decide +kernel)
theorem d_4113_59 {σ : Nat → Nat} {n0 : Nat} {bf : ab_B} : decode (ab_code (zx σ n0 bf).1 4113) 59 = .ok (.if_icmp .ne 35, 3) := zd zm_4113 (by decide +kernel)
theorem d_4113_62 {σ : Nat → Nat} {n0 : Nat} {bf : ab_B} : decode (ab_code (zx σ n0 bf).1 4113) 62 = .ok (.aload_n 2, 1) := zd zm_4113 (by decide +kernel)
theorem d_4113_63 {σ : Nat → Nat} {n0 : Nat} {bf : ab_B} : decode (ab_code (zx σ n0 bf).1 4113) 63 = .ok (.getfield 107, 3) := zd zm_4113 (by decide +kernel)
theorem d_4113_66 {σ : Nat → Nat} {n0 : Nat} {bf : ab_B} : decode (ab_code (zx σ n0 bf).1 4113) 66 = .ok (.aload_n 0, 1) := zd zm_4113 (by decide +kernel)
theorem d_4113_67 {σ : Nat → Nat} {n0 : Nat} {bf : ab_B} : decode (ab_code (zx σ n0 bf).1 4113) 67 = .ok (.getfield 218, 3) := zd zm_4113 (by decide +kernel)
theorem d_4113_70 {σ : Nat → Nat} {n0 : Nat} {bf : ab_B} : decode (ab_code (zx σ n0 bf).1 4113) 70 = .ok (.if_acmp .ne 24, 3) := zd zm_4113 (by decide +kernel)
theorem d_4113_73 {σ : Nat → Nat} {n0 : Nat} {bf : ab_B} : decode (ab_code (zx σ n0 bf).1 4113) 73 = .ok (.aload_n 2, 1) := zd zm_4113 (by decide +kernel)
theorem d_4113_74 {σ : Nat → Nat} {n0 : Nat} {bf : ab_B} : decode (ab_code (zx σ n0 bf).1 4113) 74 = .ok (.getfield 104, 3) := zd zm_4113 (by decide +kernel)
theorem d_4113_77 {σ : Nat → Nat} {n0 : Nat} {bf : ab_B} : decode (ab_code (zx σ n0 bf).1 4113) 77 = .ok (.aload_n 0, 1) := zd zm_4113 (by decide +kernel)
theorem d_4113_78 {σ : Nat → Nat} {n0 : Nat} {bf : ab_B} : decode (ab_code (zx σ n0 bf).1 4113) 78 = .ok (.getfield 218, 3) := zd zm_4113 (by decide +kernel)
theorem d_4113_81 {σ : Nat → Nat} {n0 : Nat} {bf : ab_B} : decode (ab_code (zx σ n0 bf).1 4113) 81 = .ok (.getfield 247, 3) := zd zm_4113 (by decide +kernel)
theorem d_4113_84 {σ : Nat → Nat} {n0 : Nat} {bf : ab_B} : decode (ab_code (zx σ n0 bf).1 4113) 84 = .ok (.invokevirtual 50, 3) := zd zm_4113 (by decide +kernel)
theorem d_4113_87 {σ : Nat → Nat} {n0 : Nat} {bf : ab_B} : decode (ab_code (zx σ n0 bf).1 4113) 87 = .ok (.if_icmp .lt 7, 3) := zd zm_4113 (by decide +kernel)
theorem d_4113_90 {σ : Nat → Nat} {n0 : Nat} {bf : ab_B} : decode (ab_code (zx σ n0 bf).1 4113) 90 = .ok (.iconst 1, 1) := zd zm_4113 (by decide +kernel)
theorem d_4113_91 {σ : Nat → Nat} {n0 : Nat} {bf : ab_B} : decode (ab_code (zx σ n0 bf).1 4113) 91 = .ok (.goto 4, 3) := zd zm_4113 (by decide +kernel)
theorem d_4113_94 {σ : Nat → Nat} {n0 : Nat} {bf : ab_B} : decode (ab_code (zx σ n0 bf).1 4113) 94 = .ok (.iconst 0, 1) := zd zm_4113 (by decide +kernel)
theorem d_4113_95 {σ : Nat → Nat} {n0 : Nat} {bf : ab_B} : decode (ab_code (zx σ n0 bf).1 4113) 95 = .ok (.istore_n 3, 1) := zd zm_4113 (by decide +kernel)
theorem d_4113_96 {σ : Nat → Nat} {n0 : Nat} {bf : ab_B} : decode (ab_code (zx σ n0 bf).1 4113) 96 = .ok (.iload_n 3, 1) := zd zm_4113 (by decide +kernel)
theorem d_4113_97 {σ : Nat → Nat} {n0 : Nat} {bf : ab_B} : decode (ab_code (zx σ n0 bf).1 4113) 97 = .ok (.ifCond .eq 13, 3) := zd zm_4113 (by decide +kernel)
theorem d_4113_100 {σ : Nat → Nat} {n0 : Nat} {bf : ab_B} : decode (ab_code (zx σ n0 bf).1 4113) 100 = .ok (.aload_n 2, 1) := zd zm_4113 (by decide +kernel)
theorem d_4113_101 {σ : Nat → Nat} {n0 : Nat} {bf : ab_B} : decode (ab_code (zx σ n0 bf).1 4113) 101 = .ok (.getfield 65, 3) := zd zm_4113 (by decide +kernel)
theorem d_4113_104 {σ : Nat → Nat} {n0 : Nat} {bf : ab_B} : decode (ab_code (zx σ n0 bf).1 4113) 104 = .ok (.invokevirtual 335, 3) := zd zm_4113 (by decide +kernel)
theorem d_4113_107 {σ : Nat → Nat} {n0 : Nat} {bf : ab_B} : decode (ab_code (zx σ n0 bf).1 4113) 107 = .ok (.ifCond .ne 9, 3) := zd zm_4113 (by decide +kernel)
theorem d_4113_110 {σ : Nat → Nat} {n0 : Nat} {bf : ab_B} : decode (ab_code (zx σ n0 bf).1 4113) 110 = .ok (.aload_n 0, 1) := zd zm_4113 (by decide +kernel)
theorem d_4113_111 {σ : Nat → Nat} {n0 : Nat} {bf : ab_B} : decode (ab_code (zx σ n0 bf).1 4113) 111 = .ok (.iconst 3, 1) := zd zm_4113 (by decide +kernel)
theorem d_4113_112 {σ : Nat → Nat} {n0 : Nat} {bf : ab_B} : decode (ab_code (zx σ n0 bf).1 4113) 112 = .ok (.invokevirtual 25, 3) := zd zm_4113 (by decide +kernel)
theorem d_4113_115 {σ : Nat → Nat} {n0 : Nat} {bf : ab_B} : decode (ab_code (zx σ n0 bf).1 4113) 115 = .ok (.athrow, 1) := zd zm_4113 (by decide +kernel)
theorem d_4113_116 {σ : Nat → Nat} {n0 : Nat} {bf : ab_B} : decode (ab_code (zx σ n0 bf).1 4113) 116 = .ok (.aload_n 0, 1) := zd zm_4113 (by decide +kernel)
theorem d_4113_117 {σ : Nat → Nat} {n0 : Nat} {bf : ab_B} : decode (ab_code (zx σ n0 bf).1 4113) 117 = .ok (.iconst 2, 1) := zd zm_4113 (by decide +kernel)
theorem d_4113_118 {σ : Nat → Nat} {n0 : Nat} {bf : ab_B} : decode (ab_code (zx σ n0 bf).1 4113) 118 = .ok (.aload_n 0, 1) := zd zm_4113 (by decide +kernel)
theorem d_4113_119 {σ : Nat → Nat} {n0 : Nat} {bf : ab_B} : decode (ab_code (zx σ n0 bf).1 4113) 119 = .ok (.getfield 5, 3) := zd zm_4113 (by decide +kernel)
theorem d_4113_122 {σ : Nat → Nat} {n0 : Nat} {bf : ab_B} : decode (ab_code (zx σ n0 bf).1 4113) 122 = .ok (.getfield 11, 3) := zd zm_4113 (by decide +kernel)
theorem d_4113_125 {σ : Nat → Nat} {n0 : Nat} {bf : ab_B} : decode (ab_code (zx σ n0 bf).1 4113) 125 = .ok (.aload_n 2, 1) := zd zm_4113 (by decide +kernel)
theorem d_4113_126 {σ : Nat → Nat} {n0 : Nat} {bf : ab_B} : decode (ab_code (zx σ n0 bf).1 4113) 126 = .ok (.getfield 65, 3) := zd zm_4113 (by decide +kernel)
theorem d_4113_129 {σ : Nat → Nat} {n0 : Nat} {bf : ab_B} : decode (ab_code (zx σ n0 bf).1 4113) 129 = .ok (.invokevirtual 572, 3) := zd zm_4113 (by decide +kernel)
theorem d_4113_132 {σ : Nat → Nat} {n0 : Nat} {bf : ab_B} : decode (ab_code (zx σ n0 bf).1 4113) 132 = .ok (.astore 4, 2) := zd zm_4113 (by decide +kernel)
theorem d_4113_134 {σ : Nat → Nat} {n0 : Nat} {bf : ab_B} : decode (ab_code (zx σ n0 bf).1 4113) 134 = .ok (.aload 4, 2) := zd zm_4113 (by decide +kernel)
theorem d_4113_136 {σ : Nat → Nat} {n0 : Nat} {bf : ab_B} : decode (ab_code (zx σ n0 bf).1 4113) 136 = .ok (.aload_n 2, 1) := zd zm_4113 (by decide +kernel)
theorem d_4113_137 {σ : Nat → Nat} {n0 : Nat} {bf : ab_B} : decode (ab_code (zx σ n0 bf).1 4113) 137 = .ok (.putfield 664, 3) := zd zm_4113 (by decide +kernel)
theorem d_4113_140 {σ : Nat → Nat} {n0 : Nat} {bf : ab_B} : decode (ab_code (zx σ n0 bf).1 4113) 140 = .ok (.aload_n 0, 1) := zd zm_4113 (by decide +kernel)
theorem d_4113_141 {σ : Nat → Nat} {n0 : Nat} {bf : ab_B} : decode (ab_code (zx σ n0 bf).1 4113) 141 = .ok (.getfield 5, 3) := zd zm_4113 (by decide +kernel)
theorem d_4113_144 {σ : Nat → Nat} {n0 : Nat} {bf : ab_B} : decode (ab_code (zx σ n0 bf).1 4113) 144 = .ok (.invokevirtual 29, 3) := zd zm_4113 (by decide +kernel)
theorem d_4113_147 {σ : Nat → Nat} {n0 : Nat} {bf : ab_B} : decode (ab_code (zx σ n0 bf).1 4113) 147 = .ok (.aload_n 0, 1) := zd zm_4113 (by decide +kernel)
theorem d_4113_148 {σ : Nat → Nat} {n0 : Nat} {bf : ab_B} : decode (ab_code (zx σ n0 bf).1 4113) 148 = .ok (.sipush 259, 3) := zd zm_4113 (by decide +kernel)
theorem d_4113_151 {σ : Nat → Nat} {n0 : Nat} {bf : ab_B} : decode (ab_code (zx σ n0 bf).1 4113) 151 = .ok (.invokevirtual 224, 3) := zd zm_4113 (by decide +kernel)
theorem d_4113_154 {σ : Nat → Nat} {n0 : Nat} {bf : ab_B} : decode (ab_code (zx σ n0 bf).1 4113) 154 = .ok (.aload_n 0, 1) := zd zm_4113 (by decide +kernel)
theorem d_4113_155 {σ : Nat → Nat} {n0 : Nat} {bf : ab_B} : decode (ab_code (zx σ n0 bf).1 4113) 155 = .ok (.aload_n 0, 1) := zd zm_4113 (by decide +kernel)
theorem d_4113_156 {σ : Nat → Nat} {n0 : Nat} {bf : ab_B} : decode (ab_code (zx σ n0 bf).1 4113) 156 = .ok (.aload_n 2, 1) := zd zm_4113 (by decide +kernel)
theorem d_4113_157 {σ : Nat → Nat} {n0 : Nat} {bf : ab_B} : decode (ab_code (zx σ n0 bf).1 4113) 157 = .ok (.invokevirtual 781, 3) := zd zm_4113 (by decide +kernel)
theorem d_4113_160 {σ : Nat → Nat} {n0 : Nat} {bf : ab_B} : decode (ab_code (zx σ n0 bf).1 4113) 160 = .ok (.invokevirtual 721, 3) := zd zm_4113 (by decide +kernel)
theorem d_4113_163 {σ : Nat → Nat} {n0 : Nat} {bf : ab_B} : decode (ab_code (zx σ n0 bf).1 4113) 163 = .ok (.aload_n 0, 1) := zd zm_4113 (by decide +kernel)
theorem d_4113_164 {σ : Nat → Nat} {n0 : Nat} {bf : ab_B} : decode (ab_code (zx σ n0 bf).1 4113) 164 = .ok (.getfield 5, 3) := zd zm_4113 (by decide +kernel)
theorem d_4113_167 {σ : Nat → Nat} {n0 : Nat} {bf : ab_B} : decode (ab_code (zx σ n0 bf).1 4113) 167 = .ok (.bipush 18, 2) := zd zm_4113 (by decide +kernel)
theorem d_4113_169 {σ : Nat → Nat} {n0 : Nat} {bf : ab_B} : decode (ab_code (zx σ n0 bf).1 4113) 169 = .ok (.invokevirtual 33, 3) := zd zm_4113 (by decide +kernel)
theorem d_4113_172 {σ : Nat → Nat} {n0 : Nat} {bf : ab_B} : decode (ab_code (zx σ n0 bf).1 4113) 172 = .ok (.istore 5, 2) := zd zm_4113 (by decide +kernel)
theorem d_4113_174 {σ : Nat → Nat} {n0 : Nat} {bf : ab_B} : decode (ab_code (zx σ n0 bf).1 4113) 174 = .ok (.iload 5, 2) := zd zm_4113 (by decide +kernel)
theorem d_4113_176 {σ : Nat → Nat} {n0 : Nat} {bf : ab_B} : decode (ab_code (zx σ n0 bf).1 4113) 176 = .ok (.ifCond .ne 21, 3) := zd zm_4113 (by decide +kernel)
theorem d_4113_179 {σ : Nat → Nat} {n0 : Nat} {bf : ab_B} : decode (ab_code (zx σ n0 bf).1 4113) 179 = .ok (.aload_n 0, 1) := zd zm_4113 (by decide +kernel)
theorem d_4113_180 {σ : Nat → Nat} {n0 : Nat} {bf : ab_B} : decode (ab_code (zx σ n0 bf).1 4113) 180 = .ok (.getfield 5, 3) := zd zm_4113 (by decide +kernel)
theorem d_4113_183 {σ : Nat → Nat} {n0 : Nat} {bf : ab_B} : decode (ab_code (zx σ n0 bf).1 4113) 183 = .ok (.bipush 17, 2) := zd zm_4113 (by decide +kernel)
theorem d_4113_185 {σ : Nat → Nat} {n0 : Nat} {bf : ab_B} : decode (ab_code (zx σ n0 bf).1 4113) 185 = .ok (.invokevirtual 33, 3) := zd zm_4113 (by decide +kernel)
theorem d_4113_188 {σ : Nat → Nat} {n0 : Nat} {bf : ab_B} : decode (ab_code (zx σ n0 bf).1 4113) 188 = .ok (.ifCond .ne 9, 3) := zd zm_4113 (by decide +kernel)
theorem d_4113_191 {σ : Nat → Nat} {n0 : Nat} {bf : ab_B} : decode (ab_code (zx σ n0 bf).1 4113) 191 = .ok (.aload_n 0, 1) := zd zm_4113 (by decide +kernel)
theorem d_4113_192 {σ : Nat → Nat} {n0 : Nat} {bf : ab_B} : decode (ab_code (zx σ n0 bf).1 4113) 192 = .ok (.iconst 2, 1) := zd zm_4113 (by decide +kernel)
theorem d_4113_193 {σ : Nat → Nat} {n0 : Nat} {bf : ab_B} : decode (ab_code (zx σ n0 bf).1 4113) 193 = .ok (.invokevirtual 25, 3) := zd zm_4113 (by decide +kernel)
theorem d_4113_196 {σ : Nat → Nat} {n0 : Nat} {bf : ab_B} : decode (ab_code (zx σ n0 bf).1 4113) 196 = .ok (.athrow, 1) := zd zm_4113 (by decide +kernel)
theorem d_4113_197 {σ : Nat → Nat} {n0 : Nat} {bf : ab_B} : decode (ab_code (zx σ n0 bf).1 4113) 197 = .ok (.aload_n 0, 1) := zd zm_4113 (by decide +kernel)
theorem d_4113_198 {σ : Nat → Nat} {n0 : Nat} {bf : ab_B} : decode (ab_code (zx σ n0 bf).1 4113) 198 = .ok (.getfield 5, 3) := zd zm_4113 (by decide +kernel)
theorem d_4113_201 {σ : Nat → Nat} {n0 : Nat} {bf : ab_B} : decode (ab_code (zx σ n0 bf).1 4113) 201 = .ok (.invokevirtual 29, 3) := zd zm_4113 (by decide +kernel)
theorem d_4113_204 {σ : Nat → Nat} {n0 : Nat} {bf : ab_B} : decode (ab_code (zx σ n0 bf).1 4113) 204 = .ok (.aload_n 0, 1) := zd zm_4113 (by decide +kernel)
theorem d_4113_205 {σ : Nat → Nat} {n0 : Nat} {bf : ab_B} : decode (ab_code (zx σ n0 bf).1 4113) 205 = .ok (.aload_n 0, 1) := zd zm_4113 (by decide +kernel)
theorem d_4113_206 {σ : Nat → Nat} {n0 : Nat} {bf : ab_B} : decode (ab_code (zx σ n0 bf).1 4113) 206 = .ok (.aload_n 2, 1) := zd zm_4113 (by decide +kernel)
theorem d_4113_207 {σ : Nat → Nat} {n0 : Nat} {bf : ab_B} : decode (ab_code (zx σ n0 bf).1 4113) 207 = .ok (.invokevirtual 781, 3) := zd zm_4113 (by decide +kernel)
theorem d_4113_210 {σ : Nat → Nat} {n0 : Nat} {bf : ab_B} : decode (ab_code (zx σ n0 bf).1 4113) 210 = .ok (.invokevirtual 721, 3) := zd zm_4113 (by decide +kernel)
theorem d_4113_213 {σ : Nat → Nat} {n0 : Nat} {bf : ab_B} : decode (ab_code (zx σ n0 bf).1 4113) 213 = .ok (.aload_n 0, 1) := zd zm_4113 (by decide +kernel)
theorem d_4113_214 {σ : Nat → Nat} {n0 : Nat} {bf : ab_B} : decode (ab_code (zx σ n0 bf).1 4113) 214 = .ok (.bipush 13, 2) := zd zm_4113 (by decide +kernel)
theorem d_4113_216 {σ : Nat → Nat} {n0 : Nat} {bf : ab_B} : decode (ab_code (zx σ n0 bf).1 4113) 216 = .ok (.invokevirtual 221, 3) := zd zm_4113 (by decide +kernel)
theorem d_4113_219 {σ : Nat → Nat} {n0 : Nat} {bf : ab_B} : decode (ab_code (zx σ n0 bf).1 4113) 219 = .ok (.aload_n 0, 1) := zd zm_4113 (by decide +kernel)
theorem d_4113_220 {σ : Nat → Nat} {n0 : Nat} {bf : ab_B} : decode (ab_code (zx σ n0 bf).1 4113) 220 = .ok (.bipush 39, 2) := zd zm_4113 (by decide +kernel)
theorem d_4113_222 {σ : Nat → Nat} {n0 : Nat} {bf : ab_B} : decode (ab_code (zx σ n0 bf).1 4113) 222 = .ok (.iload_n 1, 1) := zd zm_4113 (by decide +kernel)
theorem d_4113_223 {σ : Nat → Nat} {n0 : Nat} {bf : ab_B} : decode (ab_code (zx σ n0 bf).1 4113) 223 = .ok (.aload_n 2, 1) := zd zm_4113 (by decide +kernel)
theorem d_4113_224 {σ : Nat → Nat} {n0 : Nat} {bf : ab_B} : decode (ab_code (zx σ n0 bf).1 4113) 224 = .ok (.getfield 104, 3) := zd zm_4113 (by decide +kernel)
theorem d_4113_227 {σ : Nat → Nat} {n0 : Nat} {bf : ab_B} : decode (ab_code (zx σ n0 bf).1 4113) 227 = .ok (.invokevirtual 712, 3) := zd zm_4113 (by decide +kernel)
theorem d_4113_230 {σ : Nat → Nat} {n0 : Nat} {bf : ab_B} : decode (ab_code (zx σ n0 bf).1 4113) 230 = .ok (.aload_n 0, 1) := zd zm_4113 (by decide +kernel)
theorem d_4113_231 {σ : Nat → Nat} {n0 : Nat} {bf : ab_B} : decode (ab_code (zx σ n0 bf).1 4113) 231 = .ok (.getfield 128, 3) := zd zm_4113 (by decide +kernel)
theorem d_4113_234 {σ : Nat → Nat} {n0 : Nat} {bf : ab_B} : decode (ab_code (zx σ n0 bf).1 4113) 234 = .ok (.iload 5, 2) := zd zm_4113 (by decide +kernel)
theorem d_4113_236 {σ : Nat → Nat} {n0 : Nat} {bf : ab_B} : decode (ab_code (zx σ n0 bf).1 4113) 236 = .ok (.ifCond .eq 7, 3) := zd zm_4113 (by decide +kernel)
theorem d_4113_239 {σ : Nat → Nat} {n0 : Nat} {bf : ab_B} : decode (ab_code (zx σ n0 bf).1 4113) 239 = .ok (.iconst (-1), 1) := zd zm_4113 (by decide +kernel)
theorem d_4113_240 {σ : Nat → Nat} {n0 : Nat} {bf : ab_B} : decode (ab_code (zx σ n0 bf).1 4113) 240 = .ok (.goto 4, 3) := zd zm_4113 (by decide +kernel)
theorem d_4113_243 {σ : Nat → Nat} {n0 : Nat} {bf : ab_B} : decode (ab_code (zx σ n0 bf).1 4113) 243 = .ok (.iconst 1, 1) := zd zm_4113 (by decide +kernel)
theorem d_4113_244 {σ : Nat → Nat} {n0 : Nat} {bf : ab_B} : decode (ab_code (zx σ n0 bf).1 4113) 244 = .ok (.invokevirtual 709, 3) := zd zm_4113 (by decide +kernel)
theorem d_4113_247 {σ : Nat → Nat} {n0 : Nat} {bf : ab_B} : decode (ab_code (zx σ n0 bf).1 4113) 247 = .ok (.pop, 1) := zd zm_4113 (by decide +kernel)
theorem d_4113_248 {σ : Nat → Nat} {n0 : Nat} {bf : ab_B} : decode (ab_code (zx σ n0 bf).1 4113) 248 = .ok (.aload_n 0, 1) := zd zm_4113 (by decide +kernel)
theorem d_4113_249 {σ : Nat → Nat} {n0 : Nat} {bf : ab_B} : decode (ab_code (zx σ n0 bf).1 4113) 249 = .ok (.getfield 128, 3) := zd zm_4113 (by decide +kernel)
theorem d_4113_252 {σ : Nat → Nat} {n0 : Nat} {bf : ab_B} : decode (ab_code (zx σ n0 bf).1 4113) 252 = .ok (.aload_n 2, 1) := zd zm_4113 (by decide +kernel)
theorem d_4113_253 {σ : Nat → Nat} {n0 : Nat} {bf : ab_B} : decode (ab_code (zx σ n0 bf).1 4113) 253 = .ok (.getfield 65, 3) := zd zm_4113 (by decide +kernel)
theorem d_4113_256 {σ : Nat → Nat} {n0 : Nat} {bf : ab_B} : decode (ab_code (zx σ n0 bf).1 4113) 256 = .ok (.getfield 137, 3) := zd zm_4113 (by decide +kernel)
theorem d_4113_259 {σ : Nat → Nat} {n0 : Nat} {bf : ab_B} : decode (ab_code (zx σ n0 bf).1 4113) 259 = .ok (.invokevirtual 709, 3) := zd zm_4113 (by decide +kernel)
theorem d_4113_262 {σ : Nat → Nat} {n0 : Nat} {bf : ab_B} : decode (ab_code (zx σ n0 bf).1 4113) 262 = .ok (.pop, 1) := zd zm_4113 (by decide +kernel)
theorem d_4113_263 {σ : Nat → Nat} {n0 : Nat} {bf : ab_B} : decode (ab_code (zx σ n0 bf).1 4113) 263 = .ok (.aload_n 0, 1) := zd zm_4113 (by decide +kernel)
theorem d_4113_264 {σ : Nat → Nat} {n0 : Nat} {bf : ab_B} : decode (ab_code (zx σ n0 bf).1 4113) 264 = .ok (.getfield 128, 3) := zd zm_4113 (by decide +kernel)
theorem d_4113_267 {σ : Nat → Nat} {n0 : Nat} {bf : ab_B} : decode (ab_code (zx σ n0 bf).1 4113) 267 = .ok (.iconst 0, 1) := zd zm_4113 (by decide +kernel)
theorem d_4113_268 {σ : Nat → Nat} {n0 : Nat} {bf : ab_B} : decode (ab_code (zx σ n0 bf).1 4113) 268 = .ok (.invokevirtual 709, 3) := zd zm_4113 (by decide +kernel)
theorem d_4113_271 {σ : Nat → Nat} {n0 : Nat} {bf : ab_B} : decode (ab_code (zx σ n0 bf).1 4113) 271 = .ok (.istore 6, 2) := zd zm_4113 (by decide +kernel)
theorem d_4113_273 {σ : Nat → Nat} {n0 : Nat} {bf : ab_B} : decode (ab_code (zx σ n0 bf).1 4113) 273 = .ok (.aload_n 0, 1) := zd zm_4113 (by decide +kernel)
theorem d_4113_274 {σ : Nat → Nat} {n0 : Nat} {bf : ab_B} : decode (ab_code (zx σ n0 bf).1 4113) 274 = .ok (.getfield 128, 3) := zd zm_4113 (by decide +kernel)
theorem d_4113_277 {σ : Nat → Nat} {n0 : Nat} {bf : ab_B} : decode (ab_code (zx σ n0 bf).1 4113) 277 = .ok (.getfield 265, 3) := zd zm_4113 (by decide +kernel)
theorem d_4113_280 {σ : Nat → Nat} {n0 : Nat} {bf : ab_B} : decode (ab_code (zx σ n0 bf).1 4113) 280 = .ok (.istore 7, 2) := zd zm_4113 (by decide +kernel)
theorem d_4113_282 {σ : Nat → Nat} {n0 : Nat} {bf : ab_B} : decode (ab_code (zx σ n0 bf).1 4113) 282 = .ok (.aload_n 0, 1) := zd zm_4113 (by decide +kernel)
theorem d_4113_283 {σ : Nat → Nat} {n0 : Nat} {bf : ab_B} : decode (ab_code (zx σ n0 bf).1 4113) 283 = .ok (.iconst 0, 1) := zd zm_4113 (by decide +kernel)
theorem d_4113_284 {σ : Nat → Nat} {n0 : Nat} {bf : ab_B} : decode (ab_code (zx σ n0 bf).1 4113) 284 = .ok (.iload_n 1, 1) := zd zm_4113 (by decide +kernel)
theorem d_4113_285 {σ : Nat → Nat} {n0 : Nat} {bf : ab_B} : decode (ab_code (zx σ n0 bf).1 4113) 285 = .ok (.invokevirtual 273, 3) := zd zm_4113 (by decide +kernel)
theorem d_4113_288 {σ : Nat → Nat} {n0 : Nat} {bf : ab_B} : decode (ab_code (zx σ n0 bf).1 4113) 288 = .ok (.pop, 1) := zd zm_4113 (by decide +kernel)
theorem d_4113_289 {σ : Nat → Nat} {n0 : Nat} {bf : ab_B} : decode (ab_code (zx σ n0 bf).1 4113) 289 = .ok (.aload_n 0, 1) := zd zm_4113 (by decide +kernel)
theorem d_4113_290 {σ : Nat → Nat} {n0 : Nat} {bf : ab_B} : decode (ab_code (zx σ n0 bf).1 4113) 290 = .ok (.invokevirtual 744, 3) := zd zm_4113 (by decide +kernel)
theorem d_4113_293 {σ : Nat → Nat} {n0 : Nat} {bf : ab_B} : decode (ab_code (zx σ n0 bf).1 4113) 293 = .ok (.aload_n 0, 1) := zd zm_4113 (by decide +kernel)
theorem d_4113_294 {σ : Nat → Nat} {n0 : Nat} {bf : ab_B} : decode (ab_code (zx σ n0 bf).1 4113) 294 = .ok (.bipush 40, 2) := zd zm_4113 (by decide +kernel)
theorem d_4113_296 {σ : Nat → Nat} {n0 : Nat} {bf : ab_B} : decode (ab_code (zx σ n0 bf).1 4113) 296 = .ok (.iload_n 1, 1) := zd zm_4113 (by decide +kernel)
theorem d_4113_297 {σ : Nat → Nat} {n0 : Nat} {bf : ab_B} : decode (ab_code (zx σ n0 bf).1 4113) 297 = .ok (.aload_n 2, 1) := zd zm_4113 (by decide +kernel)
theorem d_4113_298 {σ : Nat → Nat} {n0 : Nat} {bf : ab_B} : decode (ab_code (zx σ n0 bf).1 4113) 298 = .ok (.getfield 104, 3) := zd zm_4113 (by decide +kernel)
theorem d_4113_301 {σ : Nat → Nat} {n0 : Nat} {bf : ab_B} : decode (ab_code (zx σ n0 bf).1 4113) 301 = .ok (.invokevirtual 712, 3) := zd zm_4113 (by decide +kernel)
theorem d_4113_304 {σ : Nat → Nat} {n0 : Nat} {bf : ab_B} : decode (ab_code (zx σ n0 bf).1 4113) 304 = .ok (.aload_n 0, 1) := zd zm_4113 (by decide +kernel)
theorem d_4113_305 {σ : Nat → Nat} {n0 : Nat} {bf : ab_B} : decode (ab_code (zx σ n0 bf).1 4113) 305 = .ok (.getfield 128, 3) := zd zm_4113 (by decide +kernel)
theorem d_4113_308 {σ : Nat → Nat} {n0 : Nat} {bf : ab_B} : decode (ab_code (zx σ n0 bf).1 4113) 308 = .ok (.iload 5, 2) := zd zm_4113 (by decide +kernel)
theorem d_4113_310 {σ : Nat → Nat} {n0 : Nat} {bf : ab_B} : decode (ab_code (zx σ n0 bf).1 4113) 310 = .ok (.ifCond .eq 7, 3) := zd zm_4113 (by decide +kernel)
theorem d_4113_313 {σ : Nat → Nat} {n0 : Nat} {bf : ab_B} : decode (ab_code (zx σ n0 bf).1 4113) 313 = .ok (.iconst (-1), 1) := zd zm_4113 (by decide +kernel)
theorem d_4113_314 {σ : Nat → Nat} {n0 : Nat} {bf : ab_B} : decode (ab_code (zx σ n0 bf).1 4113) 314 = .ok (.goto 4, 3) := zd zm_4113 (by decide +kernel)
theorem d_4113_317 {σ : Nat → Nat} {n0 : Nat} {bf : ab_B} : decode (ab_code (zx σ n0 bf).1 4113) 317 = .ok (.iconst 1, 1) := zd zm_4113 (by decide +kernel)
theorem d_4113_318 {σ : Nat → Nat} {n0 : Nat} {bf : ab_B} : decode (ab_code (zx σ n0 bf).1 4113) 318 = .ok (.invokevirtual 709, 3) := zd zm_4113 (by decide +kernel)
theorem d_4113_321 {σ : Nat → Nat} {n0 : Nat} {bf : ab_B} : decode (ab_code (zx σ n0 bf).1 4113) 321 = .ok (.pop, 1) := zd zm_4113 (by decide +kernel)
theorem d_4113_322 {σ : Nat → Nat} {n0 : Nat} {bf : ab_B} : decode (ab_code (zx σ n0 bf).1 4113) 322 = .ok (.aload_n 0, 1) := zd zm_4113 (by decide +kernel)
theorem d_4113_323 {σ : Nat → Nat} {n0 : Nat} {bf : ab_B} : decode (ab_code (zx σ n0 bf).1 4113) 323 = .ok (.getfield 128, 3) := zd zm_4113 (by decide +kernel)
theorem d_4113_326 {σ : Nat → Nat} {n0 : Nat} {bf : ab_B} : decode (ab_code (zx σ n0 bf).1 4113) 326 = .ok (.aload_n 2, 1) := zd zm_4113 (by decide +kernel)
theorem d_4113_327 {σ : Nat → Nat} {n0 : Nat} {bf : ab_B} : decode (ab_code (zx σ n0 bf).1 4113) 327 = .ok (.getfield 65, 3) := zd zm_4113 (by decide +kernel)
theorem d_4113_330 {σ : Nat → Nat} {n0 : Nat} {bf : ab_B} : decode (ab_code (zx σ n0 bf).1 4113) 330 = .ok (.getfield 137, 3) := zd zm_4113 (by decide +kernel)
theorem d_4113_333 {σ : Nat → Nat} {n0 : Nat} {bf : ab_B} : decode (ab_code (zx σ n0 bf).1 4113) 333 = .ok (.invokevirtual 709, 3) := zd zm_4113 (by decide +kernel)
theorem d_4113_336 {σ : Nat → Nat} {n0 : Nat} {bf : ab_B} : decode (ab_code (zx σ n0 bf).1 4113) 336 = .ok (.pop, 1) := zd zm_4113 (by decide +kernel)
theorem d_4113_337 {σ : Nat → Nat} {n0 : Nat} {bf : ab_B} : decode (ab_code (zx σ n0 bf).1 4113) 337 = .ok (.aload_n 0, 1) := zd zm_4113 (by decide +kernel)
theorem d_4113_338 {σ : Nat → Nat} {n0 : Nat} {bf : ab_B} : decode (ab_code (zx σ n0 bf).1 4113) 338 = .ok (.getfield 128, 3) := zd zm_4113 (by decide +kernel)
theorem d_4113_341 {σ : Nat → Nat} {n0 : Nat} {bf : ab_B} : decode (ab_code (zx σ n0 bf).1 4113) 341 = .ok (.iload 7, 2) := zd zm_4113 (by decide +kernel)
theorem d_4113_343 {σ : Nat → Nat} {n0 : Nat} {bf : ab_B} : decode (ab_code (zx σ n0 bf).1 4113) 343 = .ok (.invokevirtual 709, 3) := zd zm_4113 (by decide +kernel)
theorem d_4113_346 {σ : Nat → Nat} {n0 : Nat} {bf : ab_B} : decode (ab_code (zx σ n0 bf).1 4113) 346 = .ok (.pop, 1) := zd zm_4113 (by decide +kernel)
theorem d_4113_347 {σ : Nat → Nat} {n0 : Nat} {bf : ab_B} : decode (ab_code (zx σ n0 bf).1 4113) 347 = .ok (.aload_n 0, 1) := zd zm_4113 (by decide +kernel)
theorem d_4113_348 {σ : Nat → Nat} {n0 : Nat} {bf : ab_B} : decode (ab_code (zx σ n0 bf).1 4113) 348 = .ok (.iload 6, 2) := zd zm_4113 (by decide +kernel)
theorem d_4113_350 {σ : Nat → Nat} {n0 : Nat} {bf : ab_B} : decode (ab_code (zx σ n0 bf).1 4113) 350 = .ok (.iconst 1, 1) := zd zm_4113 (by decide +kernel)
theorem d_4113_351 {σ : Nat → Nat} {n0 : Nat} {bf : ab_B} : decode (ab_code (zx σ n0 bf).1 4113) 351 = .ok (.invokevirtual 778, 3) := zd zm_4113 (by decide +kernel)
theorem d_4113_354 {σ : Nat → Nat} {n0 : Nat} {bf : ab_B} : decode (ab_code (zx σ n0 bf).1 4113) 354 = .ok (.return_, 1) := zd zm_4113 (by decide +kernel)
def w_X5_counted_32 (X : zs_X) (d : Nat) (p0 : Nat) (S : zs_T) (Q : zs_Q) : Prop :=
  (zs_K S p0 = some (.inl 4) ∧ zs_C X d 4006 [.ref p0, .int (2 : Int32)] S (zs_kR (fun v3 S2 => (∃ b4, v3 = some b4 ∧ Q (.threw b4) S2)) Q))
theorem u_X5_counted_32 {σ : Nat → Nat} {n0 : Nat} {bf : ab_B} {d : Nat} {p0 : Nat} {S : zs_T} {Q : zs_Q} (hB : zt_B bf) (h : w_X5_counted_32 (zx σ n0 bf) d p0 S Q) : zs_U (zx σ n0 bf) d 4113 32 [(0, .ref p0)] [] S Q := by
  unfold w_X5_counted_32 at h
  refine zu_aload_n d_4113_32 rfl (zs_ra _) ?_
  refine zu_iconst d_4113_33 zi_2 ?_
  obtain ⟨k1, h⟩ := h
  refine zc_4_25 (x0 := (2 : Int32)) hB rfl k1 d_4113_34 (Nat.le_of_ble_eq_true rfl) h (fun v3 S2 h => ?_)
  obtain ⟨b4, e5, h⟩ := h
  refine zs_stk0 (zs_rfe e5) ?_
  exact zu_throw d_4113_37 h
def w_X5_counted_110 (X : zs_X) (d : Nat) (p0 : Nat) (S : zs_T) (Q : zs_Q) : Prop :=
  (zs_K S p0 = some (.inl 4) ∧ zs_C X d 4006 [.ref p0, .int (3 : Int32)] S (zs_kR (fun v3 S2 => (∃ b4, v3 = some b4 ∧ Q (.threw b4) S2)) Q))
theorem u_X5_counted_110 {σ : Nat → Nat} {n0 : Nat} {bf : ab_B} {d : Nat} {p0 : Nat} {S : zs_T} {Q : zs_Q} (hB : zt_B bf) (h : w_X5_counted_110 (zx σ n0 bf) d p0 S Q) : zs_U (zx σ n0 bf) d 4113 110 [(0, .ref p0)] [] S Q := by
  unfold w_X5_counted_110 at h
  refine zu_aload_n d_4113_110 rfl (zs_ra _) ?_
  refine zu_iconst d_4113_111 zi_3 ?_
  obtain ⟨k1, h⟩ := h
  refine zc_4_25 (x0 := (3 : Int32)) hB rfl k1 d_4113_112 (Nat.le_of_ble_eq_true rfl) h (fun v3 S2 h => ?_)
  obtain ⟨b4, e5, h⟩ := h
  refine zs_stk0 (zs_rfe e5) ?_
  exact zu_throw d_4113_115 h
def w_X5_counted_354 (X : zs_X) (d : Nat)  (S : zs_T) (Q : zs_Q) : Prop :=
  (Q (.returned none) S)
theorem u_X5_counted_354 {σ : Nat → Nat} {n0 : Nat} {bf : ab_B} {d : Nat}  {S : zs_T} {Q : zs_Q} (hB : zt_B bf) (h : w_X5_counted_354 (zx σ n0 bf) d  S Q) : zs_U (zx σ n0 bf) d 4113 354 [] [] S Q := by
  unfold w_X5_counted_354 at h
  exact zu_vret d_4113_354 zr_4113 h
def w_X5_counted_318 (X : zs_X) (d : Nat) (p0 : Nat) (p2 : Option Nat) (p6 : Int32) (p7 : Int32) (q0 : Option Nat) (q1 : Int32) (S : zs_T) (Q : zs_Q) : Prop :=
  (∃ b1, q0 = some b1 ∧ zs_K S b1 = some (.inl 3) ∧ zs_C X d 3002 [.ref b1, .int q1] S (zs_kI (fun v5 S4 => (zs_K S4 p0 = some (.inl 4) ∧ ∃ b7, p2 = some b7 ∧ zs_K S4 b7 = some (.inl 7) ∧ ∃ b10, (zs_R S4 7002 b7) = some b10 ∧ zs_K S4 b10 = some (.inl 6) ∧ ∃ b13, (zs_R S4 4001 p0) = some b13 ∧ zs_K S4 b13 = some (.inl 3) ∧ zs_C X d 3002 [.ref b13, .int (zs_I S4 6001 b10)] S4 (zs_kI (fun v17 S16 => (zs_K S16 p0 = some (.inl 4) ∧ ∃ b19, (zs_R S16 4001 p0) = some b19 ∧ zs_K S16 b19 = some (.inl 3) ∧ zs_C X d 3002 [.ref b19, .int p7] S16 (zs_kI (fun v23 S22 => (zs_K S22 p0 = some (.inl 4) ∧ zs_C X d 4110 [.ref p0, .int p6, .int (1 : Int32)] S22 (zs_kV (fun S25 => w_X5_counted_354 X d  S25 Q) Q))) Q))) Q))) Q))
theorem u_X5_counted_318 {σ : Nat → Nat} {n0 : Nat} {bf : ab_B} {d : Nat} {p0 : Nat} {p2 : Option Nat} {p6 : Int32} {p7 : Int32} {q0 : Option Nat} {q1 : Int32} {S : zs_T} {Q : zs_Q} (hB : zt_B bf) (h : w_X5_counted_318 (zx σ n0 bf) d p0 p2 p6 p7 q0 q1 S Q) : zs_U (zx σ n0 bf) d 4113 318 [(0, .ref p0), (2, va_rf p2), (6, .int p6), (7, .int p7)] [.int q1, va_rf q0] S Q := by
  unfold w_X5_counted_318 at h
  obtain ⟨b1, e2, h⟩ := h
  refine zs_stk1 (zs_rfe e2) ?_
  obtain ⟨k3, h⟩ := h
  refine zc_4_709 (x0 := q1) hB rfl k3 d_4113_318 (Nat.le_of_ble_eq_true rfl) h (fun v5 S4 h => ?_)
  refine zu_pop d_4113_321 rfl ?_
  refine zu_aload_n d_4113_322 rfl (zs_ra _) ?_
  obtain ⟨k6, h⟩ := h
  refine zg_4_128 rfl d_4113_323 k6 ?_
  refine zu_aload_n d_4113_326 rfl (zs_rr _) ?_
  obtain ⟨b7, e8, h⟩ := h
  refine zs_stk0 (zs_rfe e8) ?_
  obtain ⟨k9, h⟩ := h
  refine zg_4_65 rfl d_4113_327 k9 ?_
  obtain ⟨b10, e11, h⟩ := h
  refine zs_stk0 (zs_rfe e11) ?_
  obtain ⟨k12, h⟩ := h
  refine zg_4_137 rfl d_4113_330 k12 ?_
  obtain ⟨b13, e14, h⟩ := h
  refine zs_stk1 (zs_rfe e14) ?_
  obtain ⟨k15, h⟩ := h
  refine zc_4_709 (x0 := (zs_I S4 6001 b10)) hB rfl k15 d_4113_333 (Nat.le_of_ble_eq_true rfl) h (fun v17 S16 h => ?_)
  refine zu_pop d_4113_336 rfl ?_
  refine zu_aload_n d_4113_337 rfl (zs_ra _) ?_
  obtain ⟨k18, h⟩ := h
  refine zg_4_128 rfl d_4113_338 k18 ?_
  refine zu_iload d_4113_341 rfl ?_
  obtain ⟨b19, e20, h⟩ := h
  refine zs_stk1 (zs_rfe e20) ?_
  obtain ⟨k21, h⟩ := h
  refine zc_4_709 (x0 := p7) hB rfl k21 d_4113_343 (Nat.le_of_ble_eq_true rfl) h (fun v23 S22 h => ?_)
  refine zu_pop d_4113_346 rfl ?_
  refine zu_aload_n d_4113_347 rfl (zs_ra _) ?_
  refine zu_iload d_4113_348 rfl ?_
  refine zu_iconst d_4113_350 zi_1 ?_
  obtain ⟨k24, h⟩ := h
  refine zc_4_778 (x0 := p6) (x1 := (1 : Int32)) hB rfl k24 d_4113_351 (Nat.le_of_ble_eq_true rfl) h (fun S25 h => ?_)
  exact (u_X5_counted_354 hB h).weak trivial
def w_X5_counted_282 (X : zs_X) (d : Nat) (p0 : Nat) (p1 : Int32) (p2 : Option Nat) (p5 : Int32) (p6 : Int32) (p7 : Int32) (S : zs_T) (Q : zs_Q) : Prop :=
  (zs_K S p0 = some (.inl 4) ∧ zs_C X d 4094 [.ref p0, .int (0 : Int32), .int p1] S (zs_kI (fun v3 S2 => (zs_K S2 p0 = some (.inl 4) ∧ zs_C X d 4106 [.ref p0] S2 (zs_kV (fun S5 => (∃ b7, p2 = some b7 ∧ zs_K S5 b7 = some (.inl 7) ∧ zs_K S5 p0 = some (.inl 4) ∧ zs_C X d 4097 [.ref p0, .int (40 : Int32), .int p1, .int (zs_I S5 7008 b7)] S5 (zs_kV (fun S11 => (zs_K S11 p0 = some (.inl 4) ∧ ((p5 = 0 → (w_X5_counted_318 X d p0 p2 p6 p7 (zs_R S11 4001 p0) (1 : Int32) S11 Q)) ∧ (¬ (p5 = 0) → (w_X5_counted_318 X d p0 p2 p6 p7 (zs_R S11 4001 p0) (-1 : Int32) S11 Q))))) Q))) Q))) Q))
theorem u_X5_counted_282 {σ : Nat → Nat} {n0 : Nat} {bf : ab_B} {d : Nat} {p0 : Nat} {p1 : Int32} {p2 : Option Nat} {p5 : Int32} {p6 : Int32} {p7 : Int32} {S : zs_T} {Q : zs_Q} (hB : zt_B bf) (h : w_X5_counted_282 (zx σ n0 bf) d p0 p1 p2 p5 p6 p7 S Q) : zs_U (zx σ n0 bf) d 4113 282 [(0, .ref p0), (1, .int p1), (2, va_rf p2), (5, .int p5), (6, .int p6), (7, .int p7)] [] S Q := by
  unfold w_X5_counted_282 at h
  refine zu_aload_n d_4113_282 rfl (zs_ra _) ?_
  refine zu_iconst d_4113_283 zi_0 ?_
  refine zu_iload_n d_4113_284 rfl ?_
  obtain ⟨k1, h⟩ := h
  refine zc_4_273 (x0 := (0 : Int32)) (x1 := p1) hB rfl k1 d_4113_285 (Nat.le_of_ble_eq_true rfl) h (fun v3 S2 h => ?_)
  refine zu_pop d_4113_288 rfl ?_
  refine zu_aload_n d_4113_289 rfl (zs_ra _) ?_
  obtain ⟨k4, h⟩ := h
  refine zc_4_744  hB rfl k4 d_4113_290 (Nat.le_of_ble_eq_true rfl) h (fun S5 h => ?_)
  refine zu_aload_n d_4113_293 rfl (zs_ra _) ?_
  refine zu_bipush d_4113_294 zj_40 ?_
  refine zu_iload_n d_4113_296 rfl ?_
  refine zu_aload_n d_4113_297 rfl (zs_rr _) ?_
  obtain ⟨b7, e8, h⟩ := h
  refine zs_stk0 (zs_rfe e8) ?_
  obtain ⟨k9, h⟩ := h
  refine zg_4_104 rfl d_4113_298 k9 ?_
  obtain ⟨k10, h⟩ := h
  refine zc_4_712 (x0 := (40 : Int32)) (x1 := p1) (x2 := (zs_I S5 7008 b7)) hB rfl k10 d_4113_301 (Nat.le_of_ble_eq_true rfl) h (fun S11 h => ?_)
  refine zu_aload_n d_4113_304 rfl (zs_ra _) ?_
  obtain ⟨k13, h⟩ := h
  refine zg_4_128 rfl d_4113_305 k13 ?_
  refine zu_iload d_4113_308 rfl ?_
  refine zu_ifeq (t := 317) d_4113_310 rfl (fun c14 => ?_) (fun c14 => ?_)
  · have h := h.1 c14
    refine zu_iconst d_4113_317 zi_1 ?_
    exact (u_X5_counted_318 hB h).weak ⟨rfl, rfl, rfl, rfl, trivial⟩
  · have h := h.2 c14
    refine zu_iconst d_4113_313 zi_m1 ?_
    refine zu_goto (t := 318) d_4113_314 rfl ?_
    exact (u_X5_counted_318 hB h).weak ⟨rfl, rfl, rfl, rfl, trivial⟩
def w_X5_counted_244 (X : zs_X) (d : Nat) (p0 : Nat) (p1 : Int32) (p2 : Option Nat) (p5 : Int32) (q0 : Option Nat) (q1 : Int32) (S : zs_T) (Q : zs_Q) : Prop :=
  (∃ b1, q0 = some b1 ∧ zs_K S b1 = some (.inl 3) ∧ zs_C X d 3002 [.ref b1, .int q1] S (zs_kI (fun v5 S4 => (zs_K S4 p0 = some (.inl 4) ∧ ∃ b7, p2 = some b7 ∧ zs_K S4 b7 = some (.inl 7) ∧ ∃ b10, (zs_R S4 7002 b7) = some b10 ∧ zs_K S4 b10 = some (.inl 6) ∧ ∃ b13, (zs_R S4 4001 p0) = some b13 ∧ zs_K S4 b13 = some (.inl 3) ∧ zs_C X d 3002 [.ref b13, .int (zs_I S4 6001 b10)] S4 (zs_kI (fun v17 S16 => (zs_K S16 p0 = some (.inl 4) ∧ ∃ b19, (zs_R S16 4001 p0) = some b19 ∧ zs_K S16 b19 = some (.inl 3) ∧ zs_C X d 3002 [.ref b19, .int (0 : Int32)] S16 (zs_kI (fun v23 S22 => (zs_K S22 p0 = some (.inl 4) ∧ ∃ b25, (zs_R S22 4001 p0) = some b25 ∧ zs_K S22 b25 = some (.inl 3) ∧ w_X5_counted_282 X d p0 p1 p2 p5 v23 (zs_I S22 3001 b25) S22 Q)) Q))) Q))) Q))
theorem u_X5_counted_244 {σ : Nat → Nat} {n0 : Nat} {bf : ab_B} {d : Nat} {p0 : Nat} {p1 : Int32} {p2 : Option Nat} {p5 : Int32} {q0 : Option Nat} {q1 : Int32} {S : zs_T} {Q : zs_Q} (hB : zt_B bf) (h : w_X5_counted_244 (zx σ n0 bf) d p0 p1 p2 p5 q0 q1 S Q) : zs_U (zx σ n0 bf) d 4113 244 [(0, .ref p0), (1, .int p1), (2, va_rf p2), (5, .int p5)] [.int q1, va_rf q0] S Q := by
  unfold w_X5_counted_244 at h
  obtain ⟨b1, e2, h⟩ := h
  refine zs_stk1 (zs_rfe e2) ?_
  obtain ⟨k3, h⟩ := h
  refine zc_4_709 (x0 := q1) hB rfl k3 d_4113_244 (Nat.le_of_ble_eq_true rfl) h (fun v5 S4 h => ?_)
  refine zu_pop d_4113_247 rfl ?_
  refine zu_aload_n d_4113_248 rfl (zs_ra _) ?_
  obtain ⟨k6, h⟩ := h
  refine zg_4_128 rfl d_4113_249 k6 ?_
  refine zu_aload_n d_4113_252 rfl (zs_rr _) ?_
  obtain ⟨b7, e8, h⟩ := h
  refine zs_stk0 (zs_rfe e8) ?_
  obtain ⟨k9, h⟩ := h
  refine zg_4_65 rfl d_4113_253 k9 ?_
  obtain ⟨b10, e11, h⟩ := h
  refine zs_stk0 (zs_rfe e11) ?_
  obtain ⟨k12, h⟩ := h
  refine zg_4_137 rfl d_4113_256 k12 ?_
  obtain ⟨b13, e14, h⟩ := h
  refine zs_stk1 (zs_rfe e14) ?_
  obtain ⟨k15, h⟩ := h
  refine zc_4_709 (x0 := (zs_I S4 6001 b10)) hB rfl k15 d_4113_259 (Nat.le_of_ble_eq_true rfl) h (fun v17 S16 h => ?_)
  refine zu_pop d_4113_262 rfl ?_
  refine zu_aload_n d_4113_263 rfl (zs_ra _) ?_
  obtain ⟨k18, h⟩ := h
  refine zg_4_128 rfl d_4113_264 k18 ?_
  refine zu_iconst d_4113_267 zi_0 ?_
  obtain ⟨b19, e20, h⟩ := h
  refine zs_stk1 (zs_rfe e20) ?_
  obtain ⟨k21, h⟩ := h
  refine zc_4_709 (x0 := (0 : Int32)) hB rfl k21 d_4113_268 (Nat.le_of_ble_eq_true rfl) h (fun v23 S22 h => ?_)
  refine zu_istore d_4113_271 (zs_lt zq_4113 rfl) ?_
  refine zu_aload_n d_4113_273 rfl (zs_ra _) ?_
  obtain ⟨k24, h⟩ := h
  refine zg_4_128 rfl d_4113_274 k24 ?_
  obtain ⟨b25, e26, h⟩ := h
  refine zs_stk0 (zs_rfe e26) ?_
  obtain ⟨k27, h⟩ := h
  refine zg_4_265 rfl d_4113_277 k27 ?_
  refine zu_istore d_4113_280 (zs_lt zq_4113 rfl) ?_
  exact (u_X5_counted_282 hB h).weak ⟨rfl, rfl, rfl, rfl, rfl, rfl, trivial⟩
def w_X5_counted_230 (X : zs_X) (d : Nat) (p0 : Nat) (p1 : Int32) (p2 : Option Nat) (p5 : Int32) (S : zs_T) (Q : zs_Q) : Prop :=
  (zs_K S p0 = some (.inl 4) ∧ ((p5 = 0 → (w_X5_counted_244 X d p0 p1 p2 p5 (zs_R S 4001 p0) (1 : Int32) S Q)) ∧ (¬ (p5 = 0) → (w_X5_counted_244 X d p0 p1 p2 p5 (zs_R S 4001 p0) (-1 : Int32) S Q))))
theorem u_X5_counted_230 {σ : Nat → Nat} {n0 : Nat} {bf : ab_B} {d : Nat} {p0 : Nat} {p1 : Int32} {p2 : Option Nat} {p5 : Int32} {S : zs_T} {Q : zs_Q} (hB : zt_B bf) (h : w_X5_counted_230 (zx σ n0 bf) d p0 p1 p2 p5 S Q) : zs_U (zx σ n0 bf) d 4113 230 [(0, .ref p0), (1, .int p1), (2, va_rf p2), (5, .int p5)] [] S Q := by
  unfold w_X5_counted_230 at h
  refine zu_aload_n d_4113_230 rfl (zs_ra _) ?_
  obtain ⟨k1, h⟩ := h
  refine zg_4_128 rfl d_4113_231 k1 ?_
  refine zu_iload d_4113_234 rfl ?_
  refine zu_ifeq (t := 243) d_4113_236 rfl (fun c2 => ?_) (fun c2 => ?_)
  · have h := h.1 c2
    refine zu_iconst d_4113_243 zi_1 ?_
    exact (u_X5_counted_244 hB h).weak ⟨rfl, rfl, rfl, rfl, trivial⟩
  · have h := h.2 c2
    refine zu_iconst d_4113_239 zi_m1 ?_
    refine zu_goto (t := 244) d_4113_240 rfl ?_
    exact (u_X5_counted_244 hB h).weak ⟨rfl, rfl, rfl, rfl, trivial⟩
def w_X5_counted_197 (X : zs_X) (d : Nat) (p0 : Nat) (p1 : Int32) (p2 : Option Nat) (p5 : Int32) (S : zs_T) (Q : zs_Q) : Prop :=
  (zs_K S p0 = some (.inl 4) ∧ ∃ b2, (zs_R S 4000 p0) = some b2 ∧ zs_K S b2 = some (.inl 5) ∧ zs_C X d 5004 [.ref b2] S (zs_kV (fun S5 => (zs_K S5 p0 = some (.inl 4) ∧ zs_C X d 4114 [.ref p0, va_rf p2] S5 (zs_kR (fun v9 S8 => (zs_K S8 p0 = some (.inl 4) ∧ zs_C X d 4096 [.ref p0, va_rf v9] S8 (zs_kV (fun S11 => (zs_K S11 p0 = some (.inl 4) ∧ zs_C X d 4005 [.ref p0, .int (13 : Int32)] S11 (zs_kV (fun S14 => (∃ b16, p2 = some b16 ∧ zs_K S14 b16 = some (.inl 7) ∧ zs_K S14 p0 = some (.inl 4) ∧ zs_C X d 4097 [.ref p0, .int (39 : Int32), .int p1, .int (zs_I S14 7008 b16)] S14 (zs_kV (fun S20 => w_X5_counted_230 X d p0 p1 p2 p5 S20 Q) Q))) Q))) Q))) Q))) Q))
theorem u_X5_counted_197 {σ : Nat → Nat} {n0 : Nat} {bf : ab_B} {d : Nat} {p0 : Nat} {p1 : Int32} {p2 : Option Nat} {p5 : Int32} {S : zs_T} {Q : zs_Q} (hB : zt_B bf) (h : w_X5_counted_197 (zx σ n0 bf) d p0 p1 p2 p5 S Q) : zs_U (zx σ n0 bf) d 4113 197 [(0, .ref p0), (1, .int p1), (2, va_rf p2), (5, .int p5)] [] S Q := by
  unfold w_X5_counted_197 at h
  refine zu_aload_n d_4113_197 rfl (zs_ra _) ?_
  obtain ⟨k1, h⟩ := h
  refine zg_4_5 rfl d_4113_198 k1 ?_
  obtain ⟨b2, e3, h⟩ := h
  refine zs_stk0 (zs_rfe e3) ?_
  obtain ⟨k4, h⟩ := h
  refine zc_4_29  hB rfl k4 d_4113_201 (Nat.le_of_ble_eq_true rfl) h (fun S5 h => ?_)
  refine zu_aload_n d_4113_204 rfl (zs_ra _) ?_
  refine zu_aload_n d_4113_205 rfl (zs_ra _) ?_
  refine zu_aload_n d_4113_206 rfl (zs_rr _) ?_
  obtain ⟨k7, h⟩ := h
  refine zc_4_781 (x0 := p2) hB rfl k7 d_4113_207 (Nat.le_of_ble_eq_true rfl) h (fun v9 S8 h => ?_)
  obtain ⟨k10, h⟩ := h
  refine zc_4_721 (x0 := v9) hB rfl k10 d_4113_210 (Nat.le_of_ble_eq_true rfl) h (fun S11 h => ?_)
  refine zu_aload_n d_4113_213 rfl (zs_ra _) ?_
  refine zu_bipush d_4113_214 zj_13 ?_
  obtain ⟨k13, h⟩ := h
  refine zc_4_221 (x0 := (13 : Int32)) hB rfl k13 d_4113_216 (Nat.le_of_ble_eq_true rfl) h (fun S14 h => ?_)
  refine zu_aload_n d_4113_219 rfl (zs_ra _) ?_
  refine zu_bipush d_4113_220 zj_39 ?_
  refine zu_iload_n d_4113_222 rfl ?_
  refine zu_aload_n d_4113_223 rfl (zs_rr _) ?_
  obtain ⟨b16, e17, h⟩ := h
  refine zs_stk0 (zs_rfe e17) ?_
  obtain ⟨k18, h⟩ := h
  refine zg_4_104 rfl d_4113_224 k18 ?_
  obtain ⟨k19, h⟩ := h
  refine zc_4_712 (x0 := (39 : Int32)) (x1 := p1) (x2 := (zs_I S14 7008 b16)) hB rfl k19 d_4113_227 (Nat.le_of_ble_eq_true rfl) h (fun S20 h => ?_)
  exact (u_X5_counted_230 hB h).weak ⟨rfl, rfl, rfl, rfl, trivial⟩
def w_X5_counted_174 (X : zs_X) (d : Nat) (p0 : Nat) (p1 : Int32) (p2 : Option Nat) (p5 : Int32) (S : zs_T) (Q : zs_Q) : Prop :=
  (((¬ p5 = 0 → w_X5_counted_197 X d p0 p1 p2 p5 S Q) ∧ (¬ (¬ p5 = 0) → (zs_K S p0 = some (.inl 4) ∧ ∃ b3, (zs_R S 4000 p0) = some b3 ∧ zs_K S b3 = some (.inl 5) ∧ zs_C X d 5015 [.ref b3, .int (17 : Int32)] S (zs_kI (fun v7 S6 => (((¬ v7 = 0 → w_X5_counted_197 X d p0 p1 p2 p5 S6 Q) ∧ (¬ (¬ v7 = 0) → (zs_K S6 p0 = some (.inl 4) ∧ zs_C X d 4006 [.ref p0, .int (2 : Int32)] S6 (zs_kR (fun v11 S10 => (∃ b12, v11 = some b12 ∧ Q (.threw b12) S10)) Q)))))) Q)))))
theorem u_X5_counted_174 {σ : Nat → Nat} {n0 : Nat} {bf : ab_B} {d : Nat} {p0 : Nat} {p1 : Int32} {p2 : Option Nat} {p5 : Int32} {S : zs_T} {Q : zs_Q} (hB : zt_B bf) (h : w_X5_counted_174 (zx σ n0 bf) d p0 p1 p2 p5 S Q) : zs_U (zx σ n0 bf) d 4113 174 [(0, .ref p0), (1, .int p1), (2, va_rf p2), (5, .int p5)] [] S Q := by
  unfold w_X5_counted_174 at h
  refine zu_iload d_4113_174 rfl ?_
  refine zu_ifne (t := 197) d_4113_176 rfl (fun c1 => ?_) (fun c1 => ?_)
  · have h := h.1 c1
    exact (u_X5_counted_197 hB h).weak ⟨rfl, rfl, rfl, rfl, trivial⟩
  · have h := h.2 c1
    refine zu_aload_n d_4113_179 rfl (zs_ra _) ?_
    obtain ⟨k2, h⟩ := h
    refine zg_4_5 rfl d_4113_180 k2 ?_
    refine zu_bipush d_4113_183 zj_17 ?_
    obtain ⟨b3, e4, h⟩ := h
    refine zs_stk1 (zs_rfe e4) ?_
    obtain ⟨k5, h⟩ := h
    refine zc_4_33 (x0 := (17 : Int32)) hB rfl k5 d_4113_185 (Nat.le_of_ble_eq_true rfl) h (fun v7 S6 h => ?_)
    refine zu_ifne (t := 197) d_4113_188 rfl (fun c8 => ?_) (fun c8 => ?_)
    · have h := h.1 c8
      exact (u_X5_counted_197 hB h).weak ⟨rfl, rfl, rfl, rfl, trivial⟩
    · have h := h.2 c8
      refine zu_aload_n d_4113_191 rfl (zs_ra _) ?_
      refine zu_iconst d_4113_192 zi_2 ?_
      obtain ⟨k9, h⟩ := h
      refine zc_4_25 (x0 := (2 : Int32)) hB rfl k9 d_4113_193 (Nat.le_of_ble_eq_true rfl) h (fun v11 S10 h => ?_)
      obtain ⟨b12, e13, h⟩ := h
      refine zs_stk0 (zs_rfe e13) ?_
      exact zu_throw d_4113_196 h
def w_X5_counted_134 (X : zs_X) (d : Nat) (p0 : Nat) (p1 : Int32) (p2 : Option Nat) (p4 : Option Nat) (S : zs_T) (Q : zs_Q) : Prop :=
  (∃ b1, p4 = some b1 ∧ zs_K S b1 = some (.inl 11) ∧ ab_n0 X.1 ≤ b1 ∧ ∀ S5, S5 = zs_sR S 11009 b1 p2 → zs_K S p0 = some (.inl 4) ∧ ∃ b9, (zs_R S5 4000 p0) = some b9 ∧ zs_K S b9 = some (.inl 5) ∧ zs_C X d 5004 [.ref b9] S5 (zs_kV (fun S12 => (zs_K S12 p0 = some (.inl 4) ∧ zs_C X d 4008 [.ref p0, .int (259 : Int32)] S12 (zs_kV (fun S15 => (zs_K S15 p0 = some (.inl 4) ∧ zs_C X d 4114 [.ref p0, va_rf p2] S15 (zs_kR (fun v19 S18 => (zs_K S18 p0 = some (.inl 4) ∧ zs_C X d 4096 [.ref p0, va_rf v19] S18 (zs_kV (fun S21 => (zs_K S21 p0 = some (.inl 4) ∧ ∃ b24, (zs_R S21 4000 p0) = some b24 ∧ zs_K S21 b24 = some (.inl 5) ∧ zs_C X d 5015 [.ref b24, .int (18 : Int32)] S21 (zs_kI (fun v28 S27 => (w_X5_counted_174 X d p0 p1 p2 v28 S27 Q)) Q))) Q))) Q))) Q))) Q))
theorem u_X5_counted_134 {σ : Nat → Nat} {n0 : Nat} {bf : ab_B} {d : Nat} {p0 : Nat} {p1 : Int32} {p2 : Option Nat} {p4 : Option Nat} {S : zs_T} {Q : zs_Q} (hB : zt_B bf) (h : w_X5_counted_134 (zx σ n0 bf) d p0 p1 p2 p4 S Q) : zs_U (zx σ n0 bf) d 4113 134 [(0, .ref p0), (1, .int p1), (2, va_rf p2), (4, va_rf p4)] [] S Q := by
  unfold w_X5_counted_134 at h
  refine zu_aload d_4113_134 rfl (zs_rr _) ?_
  refine zu_aload_n d_4113_136 rfl (zs_rr _) ?_
  obtain ⟨b1, e2, h⟩ := h
  refine zs_stk1 (zs_rfe e2) ?_
  obtain ⟨k3, h⟩ := h
  obtain ⟨k4, h⟩ := h
  refine zp_4_664 (v := p2) rfl d_4113_137 k3 k4 ?_
  generalize e6 : zs_sR S 11009 b1 p2 = S5
  have h := h S5 e6.symm
  have K7 : ∀ b, zs_K S5 b = zs_K S b := zs_Kt e6 (zs_KsR _ _ _ _) (fun _ => rfl)
  refine zu_aload_n d_4113_140 rfl (zs_ra _) ?_
  obtain ⟨k8, h⟩ := h
  refine zg_4_5 rfl d_4113_141 ((K7 _).trans k8) ?_
  obtain ⟨b9, e10, h⟩ := h
  refine zs_stk0 (zs_rfe e10) ?_
  obtain ⟨k11, h⟩ := h
  refine zc_4_29  hB rfl ((K7 _).trans k11) d_4113_144 (Nat.le_of_ble_eq_true rfl) h (fun S12 h => ?_)
  refine zu_aload_n d_4113_147 rfl (zs_ra _) ?_
  refine zu_sipush d_4113_148 zh_259 ?_
  obtain ⟨k14, h⟩ := h
  refine zc_4_224 (x0 := (259 : Int32)) hB rfl k14 d_4113_151 (Nat.le_of_ble_eq_true rfl) h (fun S15 h => ?_)
  refine zu_aload_n d_4113_154 rfl (zs_ra _) ?_
  refine zu_aload_n d_4113_155 rfl (zs_ra _) ?_
  refine zu_aload_n d_4113_156 rfl (zs_rr _) ?_
  obtain ⟨k17, h⟩ := h
  refine zc_4_781 (x0 := p2) hB rfl k17 d_4113_157 (Nat.le_of_ble_eq_true rfl) h (fun v19 S18 h => ?_)
  obtain ⟨k20, h⟩ := h
  refine zc_4_721 (x0 := v19) hB rfl k20 d_4113_160 (Nat.le_of_ble_eq_true rfl) h (fun S21 h => ?_)
  refine zu_aload_n d_4113_163 rfl (zs_ra _) ?_
  obtain ⟨k23, h⟩ := h
  refine zg_4_5 rfl d_4113_164 k23 ?_
  refine zu_bipush d_4113_167 zj_18 ?_
  obtain ⟨b24, e25, h⟩ := h
  refine zs_stk1 (zs_rfe e25) ?_
  obtain ⟨k26, h⟩ := h
  refine zc_4_33 (x0 := (18 : Int32)) hB rfl k26 d_4113_169 (Nat.le_of_ble_eq_true rfl) h (fun v28 S27 h => ?_)
  refine zu_istore d_4113_172 (zs_lt zq_4113 rfl) ?_
  refine zs_U.weak (L1 := [(5, .int v28), (0, .ref p0), (1, .int p1), (2, va_rf p2), (4, va_rf p4)]) ?_ ⟨rfl, zs_gp1 rfl (Or.inl rfl) rfl, zs_gp1 rfl (Or.inl rfl) rfl, zs_gp1 rfl (Or.inl (zs_cat _)) rfl, zs_gp1 rfl (Or.inl (zs_cat _)) rfl, trivial⟩
  exact (u_X5_counted_174 hB h).weak ⟨rfl, rfl, rfl, rfl, trivial⟩
def w_X5_counted_95 (X : zs_X) (d : Nat) (p0 : Nat) (p1 : Int32) (p2 : Option Nat) (q0 : Int32) (S : zs_T) (Q : zs_Q) : Prop :=
  (((q0 = 0 → w_X5_counted_110 X d p0 S Q) ∧ (¬ (q0 = 0) → (∃ b2, p2 = some b2 ∧ zs_K S b2 = some (.inl 7) ∧ ∃ b5, (zs_R S 7002 b2) = some b5 ∧ zs_K S b5 = some (.inl 6) ∧ zs_C X d 6002 [.ref b5] S (zs_kI (fun v9 S8 => (((¬ v9 = 0 → (zs_K S8 p0 = some (.inl 4) ∧ ∃ b12, (zs_R S8 4000 p0) = some b12 ∧ zs_K S8 b12 = some (.inl 5) ∧ zs_K S8 b2 = some (.inl 7) ∧ zs_C X d 4016 [.ref p0, .int (2 : Int32), .int (zs_I S8 5005 b12), va_rf (zs_R S8 7002 b2)] S8 (zs_kR (fun v17 S16 => (w_X5_counted_134 X d p0 p1 p2 v17 S16 Q)) Q))) ∧ (¬ (¬ v9 = 0) → w_X5_counted_110 X d p0 S8 Q)))) Q)))))
theorem u_X5_counted_95 {σ : Nat → Nat} {n0 : Nat} {bf : ab_B} {d : Nat} {p0 : Nat} {p1 : Int32} {p2 : Option Nat} {q0 : Int32} {S : zs_T} {Q : zs_Q} (hB : zt_B bf) (h : w_X5_counted_95 (zx σ n0 bf) d p0 p1 p2 q0 S Q) : zs_U (zx σ n0 bf) d 4113 95 [(0, .ref p0), (1, .int p1), (2, va_rf p2)] [.int q0] S Q := by
  unfold w_X5_counted_95 at h
  refine zu_istore_n d_4113_95 (zs_lt zq_4113 rfl) ?_
  refine zs_U.weak (L1 := [(3, .int q0), (0, .ref p0), (1, .int p1), (2, va_rf p2)]) ?_ ⟨rfl, zs_gp1 rfl (Or.inl rfl) rfl, zs_gp1 rfl (Or.inl rfl) rfl, zs_gp1 rfl (Or.inl (zs_cat _)) rfl, trivial⟩
  refine zu_iload_n d_4113_96 rfl ?_
  refine zu_ifeq (t := 110) d_4113_97 rfl (fun c1 => ?_) (fun c1 => ?_)
  · have h := h.1 c1
    exact (u_X5_counted_110 hB h).weak ⟨rfl, trivial⟩
  · have h := h.2 c1
    refine zu_aload_n d_4113_100 rfl (zs_rr _) ?_
    obtain ⟨b2, e3, h⟩ := h
    refine zs_stk0 (zs_rfe e3) ?_
    obtain ⟨k4, h⟩ := h
    refine zg_4_65 rfl d_4113_101 k4 ?_
    obtain ⟨b5, e6, h⟩ := h
    refine zs_stk0 (zs_rfe e6) ?_
    obtain ⟨k7, h⟩ := h
    refine zc_4_335  hB rfl k7 d_4113_104 (Nat.le_of_ble_eq_true rfl) h (fun v9 S8 h => ?_)
    refine zu_ifne (t := 116) d_4113_107 rfl (fun c10 => ?_) (fun c10 => ?_)
    · have h := h.1 c10
      refine zu_aload_n d_4113_116 rfl (zs_ra _) ?_
      refine zu_iconst d_4113_117 zi_2 ?_
      refine zu_aload_n d_4113_118 rfl (zs_ra _) ?_
      obtain ⟨k11, h⟩ := h
      refine zg_4_5 rfl d_4113_119 k11 ?_
      obtain ⟨b12, e13, h⟩ := h
      refine zs_stk0 (zs_rfe e13) ?_
      obtain ⟨k14, h⟩ := h
      refine zg_4_11 rfl d_4113_122 k14 ?_
      refine zu_aload_n d_4113_125 rfl (zs_rr _) ?_
      refine zs_stk0 (zs_rfe e3) ?_
      obtain ⟨k15, h⟩ := h
      refine zg_4_65 rfl d_4113_126 k15 ?_
      refine zc_4_572 (x0 := (2 : Int32)) (x1 := (zs_I S8 5005 b12)) (x2 := (zs_R S8 7002 b2)) hB rfl k11 d_4113_129 (Nat.le_of_ble_eq_true rfl) h (fun v17 S16 h => ?_)
      refine zu_astore d_4113_132 (zs_rr _) (zs_lt zq_4113 rfl) ?_
      exact (u_X5_counted_134 hB h).weak ⟨rfl, rfl, rfl, rfl, trivial⟩
    · have h := h.2 c10
      exact (u_X5_counted_110 hB h).weak ⟨rfl, trivial⟩
def w_X5_counted_94 (X : zs_X) (d : Nat) (p0 : Nat) (p1 : Int32) (p2 : Option Nat) (S : zs_T) (Q : zs_Q) : Prop :=
  (w_X5_counted_95 X d p0 p1 p2 (0 : Int32) S Q)
theorem u_X5_counted_94 {σ : Nat → Nat} {n0 : Nat} {bf : ab_B} {d : Nat} {p0 : Nat} {p1 : Int32} {p2 : Option Nat} {S : zs_T} {Q : zs_Q} (hB : zt_B bf) (h : w_X5_counted_94 (zx σ n0 bf) d p0 p1 p2 S Q) : zs_U (zx σ n0 bf) d 4113 94 [(0, .ref p0), (1, .int p1), (2, va_rf p2)] [] S Q := by
  unfold w_X5_counted_94 at h
  refine zu_iconst d_4113_94 zi_0 ?_
  exact (u_X5_counted_95 hB h).weak ⟨rfl, rfl, rfl, trivial⟩
def w_X5_counted_73 (X : zs_X) (d : Nat) (p0 : Nat) (p1 : Int32) (p2 : Option Nat) (S : zs_T) (Q : zs_Q) : Prop :=
  (∃ b1, p2 = some b1 ∧ zs_K S b1 = some (.inl 7) ∧ zs_K S p0 = some (.inl 4) ∧ ∃ b5, (zs_R S 4010 p0) = some b5 ∧ zs_K S b5 = some (.inl 10) ∧ ∃ b8, (zs_R S 10004 b5) = some b8 ∧ zs_K S b8 = some (.inl 16) ∧ zs_C X d 16001 [.ref b8] S (zs_kI (fun v12 S11 => ((((zs_I S 7008 b1) < v12 → w_X5_counted_94 X d p0 p1 p2 S11 Q) ∧ (¬ ((zs_I S 7008 b1) < v12) → (w_X5_counted_95 X d p0 p1 p2 (1 : Int32) S11 Q))))) Q))
theorem u_X5_counted_73 {σ : Nat → Nat} {n0 : Nat} {bf : ab_B} {d : Nat} {p0 : Nat} {p1 : Int32} {p2 : Option Nat} {S : zs_T} {Q : zs_Q} (hB : zt_B bf) (h : w_X5_counted_73 (zx σ n0 bf) d p0 p1 p2 S Q) : zs_U (zx σ n0 bf) d 4113 73 [(0, .ref p0), (1, .int p1), (2, va_rf p2)] [] S Q := by
  unfold w_X5_counted_73 at h
  refine zu_aload_n d_4113_73 rfl (zs_rr _) ?_
  obtain ⟨b1, e2, h⟩ := h
  refine zs_stk0 (zs_rfe e2) ?_
  obtain ⟨k3, h⟩ := h
  refine zg_4_104 rfl d_4113_74 k3 ?_
  refine zu_aload_n d_4113_77 rfl (zs_ra _) ?_
  obtain ⟨k4, h⟩ := h
  refine zg_4_218 rfl d_4113_78 k4 ?_
  obtain ⟨b5, e6, h⟩ := h
  refine zs_stk0 (zs_rfe e6) ?_
  obtain ⟨k7, h⟩ := h
  refine zg_4_247 rfl d_4113_81 k7 ?_
  obtain ⟨b8, e9, h⟩ := h
  refine zs_stk0 (zs_rfe e9) ?_
  obtain ⟨k10, h⟩ := h
  refine zc_4_50  hB rfl k10 d_4113_84 (Nat.le_of_ble_eq_true rfl) h (fun v12 S11 h => ?_)
  refine zu_cmplt (t := 94) d_4113_87 rfl (fun c13 => ?_) (fun c13 => ?_)
  · have h := h.1 c13
    exact (u_X5_counted_94 hB h).weak ⟨rfl, rfl, rfl, trivial⟩
  · have h := h.2 c13
    refine zu_iconst d_4113_90 zi_1 ?_
    refine zu_goto (t := 95) d_4113_91 rfl ?_
    exact (u_X5_counted_95 hB h).weak ⟨rfl, rfl, rfl, trivial⟩
def w_X5_counted_38 (X : zs_X) (d : Nat) (p0 : Nat) (p1 : Int32) (S : zs_T) (Q : zs_Q) : Prop :=
  (zs_K S p0 = some (.inl 4) ∧ ∃ b2, (zs_R S 4000 p0) = some b2 ∧ zs_K S b2 = some (.inl 5) ∧ zs_C X d 4028 [.ref p0, .int (zs_I S 5004 b2)] S (zs_kR (fun v6 S5 => (((v6 = none → w_X5_counted_94 X d p0 p1 v6 S5 Q) ∧ (∀ b7, v6 = some b7 → (zs_K S5 b7 = some (.inl 7) ∧ ((¬ (zs_I S5 7001 b7) = (2 : Int32) → w_X5_counted_94 X d p0 p1 v6 S5 Q) ∧ (¬ (¬ (zs_I S5 7001 b7) = (2 : Int32)) → (zs_K S5 p0 = some (.inl 4) ∧ ((¬ (zs_R S5 7007 b7) = (zs_R S5 4010 p0) → w_X5_counted_94 X d p0 p1 v6 S5 Q) ∧ (¬ (¬ (zs_R S5 7007 b7) = (zs_R S5 4010 p0)) → w_X5_counted_73 X d p0 p1 v6 S5 Q)))))))))) Q))
theorem u_X5_counted_38 {σ : Nat → Nat} {n0 : Nat} {bf : ab_B} {d : Nat} {p0 : Nat} {p1 : Int32} {S : zs_T} {Q : zs_Q} (hB : zt_B bf) (h : w_X5_counted_38 (zx σ n0 bf) d p0 p1 S Q) : zs_U (zx σ n0 bf) d 4113 38 [(0, .ref p0), (1, .int p1)] [] S Q := by
  unfold w_X5_counted_38 at h
  refine zu_aload_n d_4113_38 rfl (zs_ra _) ?_
  refine zu_aload_n d_4113_39 rfl (zs_ra _) ?_
  obtain ⟨k1, h⟩ := h
  refine zg_4_5 rfl d_4113_40 k1 ?_
  obtain ⟨b2, e3, h⟩ := h
  refine zs_stk0 (zs_rfe e3) ?_
  obtain ⟨k4, h⟩ := h
  refine zg_4_40 rfl d_4113_43 k4 ?_
  refine zc_4_318 (x0 := (zs_I S 5004 b2)) hB rfl k1 d_4113_46 (Nat.le_of_ble_eq_true rfl) h (fun v6 S5 h => ?_)
  refine zu_astore_n d_4113_49 (zs_rr _) (zs_lt zq_4113 rfl) ?_
  refine zu_aload_n d_4113_50 rfl (zs_rr _) ?_
  refine zu_ifnull (u := v6) (t := 94) d_4113_51 rfl rfl (fun e8 => ?_) (fun b7 e8 => ?_)
  · have h := h.1 e8
    exact (u_X5_counted_94 hB h).weak ⟨rfl, rfl, rfl, trivial⟩
  · have h := h.2 b7 e8
    refine zu_aload_n d_4113_54 rfl (zs_rr _) ?_
    refine zs_stk0 (zs_rfe e8) ?_
    obtain ⟨k9, h⟩ := h
    refine zg_4_62 rfl d_4113_55 k9 ?_
    refine zu_iconst d_4113_58 zi_2 ?_
    refine zu_cmpne (t := 94) d_4113_59 rfl (fun c10 => ?_) (fun c10 => ?_)
    · have h := h.1 c10
      exact (u_X5_counted_94 hB h).weak ⟨rfl, rfl, rfl, trivial⟩
    · have h := h.2 c10
      refine zu_aload_n d_4113_62 rfl (zs_rr _) ?_
      refine zs_stk0 (zs_rfe e8) ?_
      refine zg_4_107 rfl d_4113_63 k9 ?_
      refine zu_aload_n d_4113_66 rfl (zs_ra _) ?_
      obtain ⟨k11, h⟩ := h
      refine zg_4_218 rfl d_4113_67 k11 ?_
      refine zu_acmpne (u := (zs_R S5 7007 b7)) (w := (zs_R S5 4010 p0)) (t := 94) d_4113_70 rfl rfl rfl (fun c12 => ?_) (fun c12 => ?_)
      · have h := h.1 c12
        exact (u_X5_counted_94 hB h).weak ⟨rfl, rfl, rfl, trivial⟩
      · have h := h.2 c12
        exact (u_X5_counted_73 hB h).weak ⟨rfl, rfl, rfl, trivial⟩
def w_X5_counted (X : zs_X) (d : Nat) (p0 : Nat) (S : zs_T) (Q : zs_Q) : Prop :=
  (zs_K S p0 = some (.inl 4) ∧ ∃ b2, (zs_R S 4000 p0) = some b2 ∧ zs_K S b2 = some (.inl 5) ∧ zs_C X d 4094 [.ref p0, .int (0 : Int32), .int (zs_I S 5005 b2)] S (zs_kI (fun v6 S5 => (zs_K S5 p0 = some (.inl 4) ∧ ∃ b8, (zs_R S5 4000 p0) = some b8 ∧ zs_K S5 b8 = some (.inl 5) ∧ zs_C X d 5004 [.ref b8] S5 (zs_kV (fun S11 => (zs_K S11 p0 = some (.inl 4) ∧ ∃ b14, (zs_R S11 4000 p0) = some b14 ∧ zs_K S11 b14 = some (.inl 5) ∧ zs_C X d 5016 [.ref b14] S11 (zs_kI (fun v18 S17 => (((¬ v18 = 0 → w_X5_counted_38 X d p0 (zs_I S 5005 b2) S17 Q) ∧ (¬ (¬ v18 = 0) → w_X5_counted_32 X d p0 S17 Q)))) Q))) Q))) Q))
theorem u_X5_counted {σ : Nat → Nat} {n0 : Nat} {bf : ab_B} {d : Nat} {p0 : Nat} {S : zs_T} {Q : zs_Q} (hB : zt_B bf) (hd : 1 ≤ d) (h : w_X5_counted (zx σ n0 bf) (d - 1) p0 S Q) : zs_C (zx σ n0 bf) d 4113 [.ref p0] S Q := by
  have hL : lv_args 0 [.ref p0] = [(0, .ref p0)] := rfl
  refine zs_C.of1 (hB.2 4113 (by decide) (by decide)) hd (by rw [hL]; exact zs_sub_self _ (by exact ⟨rfl, trivial⟩)) ?_
  rw [hL]
  clear hL
  unfold w_X5_counted at h
  refine zu_aload_n d_4113_0 rfl (zs_ra _) ?_
  obtain ⟨k1, h⟩ := h
  refine zg_4_5 rfl d_4113_1 k1 ?_
  obtain ⟨b2, e3, h⟩ := h
  refine zs_stk0 (zs_rfe e3) ?_
  obtain ⟨k4, h⟩ := h
  refine zg_4_11 rfl d_4113_4 k4 ?_
  refine zu_istore_n d_4113_7 (zs_lt zq_4113 rfl) ?_
  refine zu_aload_n d_4113_8 rfl (zs_ra _) ?_
  refine zu_iconst d_4113_9 zi_0 ?_
  refine zu_iload_n d_4113_10 rfl ?_
  refine zc_4_273 (x0 := (0 : Int32)) (x1 := (zs_I S 5005 b2)) hB rfl k1 d_4113_11 (Nat.le_of_ble_eq_true rfl) h (fun v6 S5 h => ?_)
  refine zu_pop d_4113_14 rfl ?_
  refine zu_aload_n d_4113_15 rfl (zs_ra _) ?_
  obtain ⟨k7, h⟩ := h
  refine zg_4_5 rfl d_4113_16 k7 ?_
  obtain ⟨b8, e9, h⟩ := h
  refine zs_stk0 (zs_rfe e9) ?_
  obtain ⟨k10, h⟩ := h
  refine zc_4_29  hB rfl k10 d_4113_19 (Nat.le_of_ble_eq_true rfl) h (fun S11 h => ?_)
  refine zu_aload_n d_4113_22 rfl (zs_ra _) ?_
  obtain ⟨k13, h⟩ := h
  refine zg_4_5 rfl d_4113_23 k13 ?_
  obtain ⟨b14, e15, h⟩ := h
  refine zs_stk0 (zs_rfe e15) ?_
  obtain ⟨k16, h⟩ := h
  refine zc_4_36  hB rfl k16 d_4113_26 (Nat.le_of_ble_eq_true rfl) h (fun v18 S17 h => ?_)
  refine zu_ifne (t := 38) d_4113_29 rfl (fun c19 => ?_) (fun c19 => ?_)
  · have h := h.1 c19
    exact (u_X5_counted_38 hB h).weak ⟨rfl, rfl, trivial⟩
  · have h := h.2 c19
    exact (u_X5_counted_32 hB h).weak ⟨rfl, trivial⟩
/-! SchemaPascal$Reader.end(LSchemaPascal$Symbol;)LSchemaPascal$Node; -/
theorem zm_4114 {σ : Nat → Nat} {n0 : Nat} {bf : ab_B} : ab_code (zx σ n0 bf).1 4114 = prog_9_method_106_code := rfl
theorem zq_4114 {σ : Nat → Nat} {n0 : Nat} {bf : ab_B} : ab_maxL (zx σ n0 bf).1 4114 = 3 := rfl
theorem zr_4114 {σ : Nat → Nat} {n0 : Nat} {bf : ab_B} : ab_ret (zx σ n0 bf).1 4114 = (Option.some (Jvm.ClassFile.FieldType.object "SchemaPascal$Node")) := rfl
theorem d_4114_0 {σ : Nat → Nat} {n0 : Nat} {bf : ab_B} : decode (ab_code (zx σ n0 bf).1 4114) 0 = .ok (.aload_n 0, 1) := zd zm_4114 (by decide +kernel)
theorem d_4114_1 {σ : Nat → Nat} {n0 : Nat} {bf : ab_B} : decode (ab_code (zx σ n0 bf).1 4114) 1 = .ok (.invokevirtual 569, 3) := zd zm_4114 (by decide +kernel)
theorem d_4114_4 {σ : Nat → Nat} {n0 : Nat} {bf : ab_B} : decode (ab_code (zx σ n0 bf).1 4114) 4 = .ok (.astore_n 2, 1) := zd zm_4114 (by decide +kernel)
theorem d_4114_5 {σ : Nat → Nat} {n0 : Nat} {bf : ab_B} : decode (ab_code (zx σ n0 bf).1 4114) 5 = .ok (.aload_n 2, 1) := zd zm_4114 (by decide +kernel)
theorem d_4114_6 {σ : Nat → Nat} {n0 : Nat} {bf : ab_B} : decode (ab_code (zx σ n0 bf).1 4114) 6 = .ok (.getfield 297, 3) := zd zm_4114 (by decide +kernel)
theorem d_4114_9 {σ : Nat → Nat} {n0 : Nat} {bf : ab_B} : decode (ab_code (zx σ n0 bf).1 4114) 9 = .ok (.invokevirtual 335, 3) := zd zm_4114 (by decide +kernel)
theorem d_4114_12 {σ : Nat → Nat} {n0 : Nat} {bf : ab_B} : decode (ab_code (zx σ n0 bf).1 4114) 12 = .ok (.ifCond .eq 20, 3) := zd zm_4114 (by decide +kernel)
theorem d_4114_15 {σ : Nat → Nat} {n0 : Nat} {bf : ab_B} : decode (ab_code (zx σ n0 bf).1 4114) 15 = .ok (.aload_n 2, 1) := zd zm_4114 (by decide +kernel)
theorem d_4114_16 {σ : Nat → Nat} {n0 : Nat} {bf : ab_B} : decode (ab_code (zx σ n0 bf).1 4114) 16 = .ok (.getfield 297, 3) := zd zm_4114 (by decide +kernel)
theorem d_4114_19 {σ : Nat → Nat} {n0 : Nat} {bf : ab_B} : decode (ab_code (zx σ n0 bf).1 4114) 19 = .ok (.invokevirtual 450, 3) := zd zm_4114 (by decide +kernel)
theorem d_4114_22 {σ : Nat → Nat} {n0 : Nat} {bf : ab_B} : decode (ab_code (zx σ n0 bf).1 4114) 22 = .ok (.aload_n 1, 1) := zd zm_4114 (by decide +kernel)
theorem d_4114_23 {σ : Nat → Nat} {n0 : Nat} {bf : ab_B} : decode (ab_code (zx σ n0 bf).1 4114) 23 = .ok (.getfield 65, 3) := zd zm_4114 (by decide +kernel)
theorem d_4114_26 {σ : Nat → Nat} {n0 : Nat} {bf : ab_B} : decode (ab_code (zx σ n0 bf).1 4114) 26 = .ok (.invokevirtual 450, 3) := zd zm_4114 (by decide +kernel)
theorem d_4114_29 {σ : Nat → Nat} {n0 : Nat} {bf : ab_B} : decode (ab_code (zx σ n0 bf).1 4114) 29 = .ok (.if_acmp .eq 9, 3) := zd zm_4114 (by decide +kernel)
theorem d_4114_32 {σ : Nat → Nat} {n0 : Nat} {bf : ab_B} : decode (ab_code (zx σ n0 bf).1 4114) 32 = .ok (.aload_n 0, 1) := zd zm_4114 (by decide +kernel)
theorem d_4114_33 {σ : Nat → Nat} {n0 : Nat} {bf : ab_B} : decode (ab_code (zx σ n0 bf).1 4114) 33 = .ok (.iconst 5, 1) := zd zm_4114 (by decide +kernel)
theorem d_4114_34 {σ : Nat → Nat} {n0 : Nat} {bf : ab_B} : decode (ab_code (zx σ n0 bf).1 4114) 34 = .ok (.invokevirtual 25, 3) := zd zm_4114 (by decide +kernel)
theorem d_4114_37 {σ : Nat → Nat} {n0 : Nat} {bf : ab_B} : decode (ab_code (zx σ n0 bf).1 4114) 37 = .ok (.athrow, 1) := zd zm_4114 (by decide +kernel)
theorem d_4114_38 {σ : Nat → Nat} {n0 : Nat} {bf : ab_B} : decode (ab_code (zx σ n0 bf).1 4114) 38 = .ok (.aload_n 2, 1) := zd zm_4114 (by decide +kernel)
theorem d_4114_39 {σ : Nat → Nat} {n0 : Nat} {bf : ab_B} : decode (ab_code (zx σ n0 bf).1 4114) 39 = .ok (.areturn, 1) := zd zm_4114 (by decide +kernel)
def w_X5_end_32 (X : zs_X) (d : Nat) (p0 : Nat) (S : zs_T) (Q : zs_Q) : Prop :=
  (zs_K S p0 = some (.inl 4) ∧ zs_C X d 4006 [.ref p0, .int (5 : Int32)] S (zs_kR (fun v3 S2 => (∃ b4, v3 = some b4 ∧ Q (.threw b4) S2)) Q))
theorem u_X5_end_32 {σ : Nat → Nat} {n0 : Nat} {bf : ab_B} {d : Nat} {p0 : Nat} {S : zs_T} {Q : zs_Q} (hB : zt_B bf) (h : w_X5_end_32 (zx σ n0 bf) d p0 S Q) : zs_U (zx σ n0 bf) d 4114 32 [(0, .ref p0)] [] S Q := by
  unfold w_X5_end_32 at h
  refine zu_aload_n d_4114_32 rfl (zs_ra _) ?_
  refine zu_iconst d_4114_33 zi_5 ?_
  obtain ⟨k1, h⟩ := h
  refine zc_4_25 (x0 := (5 : Int32)) hB rfl k1 d_4114_34 (Nat.le_of_ble_eq_true rfl) h (fun v3 S2 h => ?_)
  obtain ⟨b4, e5, h⟩ := h
  refine zs_stk0 (zs_rfe e5) ?_
  exact zu_throw d_4114_37 h
def w_X5_end (X : zs_X) (d : Nat) (p0 : Nat) (p1 : Option Nat) (S : zs_T) (Q : zs_Q) : Prop :=
  (zs_K S p0 = some (.inl 4) ∧ zs_C X d 4014 [.ref p0] S (zs_kR (fun v3 S2 => (∃ b4, v3 = some b4 ∧ zs_K S2 b4 = some (.inl 11) ∧ ∃ b7, (zs_R S2 11002 b4) = some b7 ∧ zs_K S2 b7 = some (.inl 6) ∧ zs_C X d 6002 [.ref b7] S2 (zs_kI (fun v11 S10 => (((v11 = 0 → w_X5_end_32 X d p0 S10 Q) ∧ (¬ (v11 = 0) → (zs_K S10 b4 = some (.inl 11) ∧ ∃ b14, (zs_R S10 11002 b4) = some b14 ∧ zs_K S10 b14 = some (.inl 6) ∧ zs_C X d 6001 [.ref b14] S10 (zs_kR (fun v18 S17 => (∃ b19, p1 = some b19 ∧ zs_K S17 b19 = some (.inl 7) ∧ ∃ b22, (zs_R S17 7002 b19) = some b22 ∧ zs_K S17 b22 = some (.inl 6) ∧ zs_C X d 6001 [.ref b22] S17 (zs_kR (fun v26 S25 => (((v18 = v26 → (Q (.returned (some (va_rf v3))) S25)) ∧ (¬ (v18 = v26) → w_X5_end_32 X d p0 S25 Q)))) Q))) Q)))))) Q))) Q))
theorem u_X5_end {σ : Nat → Nat} {n0 : Nat} {bf : ab_B} {d : Nat} {p0 : Nat} {p1 : Option Nat} {S : zs_T} {Q : zs_Q} (hB : zt_B bf) (hd : 1 ≤ d) (h : w_X5_end (zx σ n0 bf) (d - 1) p0 p1 S Q) : zs_C (zx σ n0 bf) d 4114 [.ref p0, va_rf p1] S Q := by
  have hL : lv_args 0 [.ref p0, va_rf p1] = [(0, .ref p0), (1, va_rf p1)] := by simp [lv_args, zs_cat, zs_cI, zs_cJ, zs_cA]
  refine zs_C.of1 (hB.2 4114 (by decide) (by decide)) hd (by rw [hL]; exact zs_sub_self _ (by exact ⟨rfl, rfl, trivial⟩)) ?_
  rw [hL]
  clear hL
  unfold w_X5_end at h
  refine zu_aload_n d_4114_0 rfl (zs_ra _) ?_
  obtain ⟨k1, h⟩ := h
  refine zc_4_569  hB rfl k1 d_4114_1 (Nat.le_of_ble_eq_true rfl) h (fun v3 S2 h => ?_)
  refine zu_astore_n d_4114_4 (zs_rr _) (zs_lt zq_4114 rfl) ?_
  refine zs_U.weak (L1 := [(2, va_rf v3), (0, .ref p0), (1, va_rf p1)]) ?_ ⟨rfl, zs_gp1 rfl (Or.inl rfl) rfl, zs_gp1 rfl (Or.inl (zs_cat _)) rfl, trivial⟩
  refine zu_aload_n d_4114_5 rfl (zs_rr _) ?_
  obtain ⟨b4, e5, h⟩ := h
  refine zs_stk0 (zs_rfe e5) ?_
  obtain ⟨k6, h⟩ := h
  refine zg_4_297 rfl d_4114_6 k6 ?_
  obtain ⟨b7, e8, h⟩ := h
  refine zs_stk0 (zs_rfe e8) ?_
  obtain ⟨k9, h⟩ := h
  refine zc_4_335  hB rfl k9 d_4114_9 (Nat.le_of_ble_eq_true rfl) h (fun v11 S10 h => ?_)
  refine zu_ifeq (t := 32) d_4114_12 rfl (fun c12 => ?_) (fun c12 => ?_)
  · have h := h.1 c12
    exact (u_X5_end_32 hB h).weak ⟨rfl, trivial⟩
  · have h := h.2 c12
    refine zu_aload_n d_4114_15 rfl (zs_rr _) ?_
    refine zs_stk0 (zs_rfe e5) ?_
    obtain ⟨k13, h⟩ := h
    refine zg_4_297 rfl d_4114_16 k13 ?_
    obtain ⟨b14, e15, h⟩ := h
    refine zs_stk0 (zs_rfe e15) ?_
    obtain ⟨k16, h⟩ := h
    refine zc_4_450  hB rfl k16 d_4114_19 (Nat.le_of_ble_eq_true rfl) h (fun v18 S17 h => ?_)
    refine zu_aload_n d_4114_22 rfl (zs_rr _) ?_
    obtain ⟨b19, e20, h⟩ := h
    refine zs_stk0 (zs_rfe e20) ?_
    obtain ⟨k21, h⟩ := h
    refine zg_4_65 rfl d_4114_23 k21 ?_
    obtain ⟨b22, e23, h⟩ := h
    refine zs_stk0 (zs_rfe e23) ?_
    obtain ⟨k24, h⟩ := h
    refine zc_4_450  hB rfl k24 d_4114_26 (by simp only [List.map_cons, List.map_nil, List.sum_cons, List.sum_nil, zs_cat, zs_cI, zs_cJ, zs_cA]; exact Nat.le_of_ble_eq_true rfl) h (fun v26 S25 h => ?_)
    refine zu_acmpeq (u := v18) (w := v26) (t := 38) d_4114_29 rfl rfl rfl (fun c27 => ?_) (fun c27 => ?_)
    · have h := h.1 c27
      refine zu_aload_n d_4114_38 rfl (zs_rr _) ?_
      exact zu_aret d_4114_39 zr_4114 (zs_rr _) h
    · have h := h.2 c27
      exact (u_X5_end_32 hB h).weak ⟨rfl, trivial⟩
/-! SchemaPascal$Reader.cases()V -/
theorem zm_4115 {σ : Nat → Nat} {n0 : Nat} {bf : ab_B} : ab_code (zx σ n0 bf).1 4115 = prog_9_method_107_code := rfl
theorem zq_4115 {σ : Nat → Nat} {n0 : Nat} {bf : ab_B} : ab_maxL (zx σ n0 bf).1 4115 = 9 := rfl
theorem zr_4115 {σ : Nat → Nat} {n0 : Nat} {bf : ab_B} : ab_ret (zx σ n0 bf).1 4115 = (Option.none : Option Jvm.ClassFile.FieldType) := rfl
theorem d_4115_0 {σ : Nat → Nat} {n0 : Nat} {bf : ab_B} : decode (ab_code (zx σ n0 bf).1 4115) 0 = .ok (.aload_n 0, 1) := zd zm_4115 (by decide +kernel)
theorem d_4115_1 {σ : Nat → Nat} {n0 : Nat} {bf : ab_B} : decode (ab_code (zx σ n0 bf).1 4115) 1 = .ok (.getfield 5, 3) := zd zm_4115 (by decide +kernel)
theorem d_4115_4 {σ : Nat → Nat} {n0 : Nat} {bf : ab_B} : decode (ab_code (zx σ n0 bf).1 4115) 4 = .ok (.getfield 11, 3) := zd zm_4115 (by decide +kernel)
theorem d_4115_7 {σ : Nat → Nat} {n0 : Nat} {bf : ab_B} : decode (ab_code (zx σ n0 bf).1 4115) 7 = .ok (.istore_n 1, 1) := zd zm_4115 (by decide +kernel)
theorem d_4115_8 {σ : Nat → Nat} {n0 : Nat} {bf : ab_B} : decode (ab_code (zx σ n0 bf).1 4115) 8 = .ok (.aload_n 0, 1) := zd zm_4115 (by decide +kernel)
theorem d_4115_9 {σ : Nat → Nat} {n0 : Nat} {bf : ab_B} : decode (ab_code (zx σ n0 bf).1 4115) 9 = .ok (.iconst 0, 1) := zd zm_4115 (by decide +kernel)
theorem d_4115_10 {σ : Nat → Nat} {n0 : Nat} {bf : ab_B} : decode (ab_code (zx σ n0 bf).1 4115) 10 = .ok (.iload_n 1, 1) := zd zm_4115 (by decide +kernel)
theorem d_4115_11 {σ : Nat → Nat} {n0 : Nat} {bf : ab_B} : decode (ab_code (zx σ n0 bf).1 4115) 11 = .ok (.invokevirtual 273, 3) := zd zm_4115 (by decide +kernel)
theorem d_4115_14 {σ : Nat → Nat} {n0 : Nat} {bf : ab_B} : decode (ab_code (zx σ n0 bf).1 4115) 14 = .ok (.pop, 1) := zd zm_4115 (by decide +kernel)
theorem d_4115_15 {σ : Nat → Nat} {n0 : Nat} {bf : ab_B} : decode (ab_code (zx σ n0 bf).1 4115) 15 = .ok (.aload_n 0, 1) := zd zm_4115 (by decide +kernel)
theorem d_4115_16 {σ : Nat → Nat} {n0 : Nat} {bf : ab_B} : decode (ab_code (zx σ n0 bf).1 4115) 16 = .ok (.getfield 5, 3) := zd zm_4115 (by decide +kernel)
theorem d_4115_19 {σ : Nat → Nat} {n0 : Nat} {bf : ab_B} : decode (ab_code (zx σ n0 bf).1 4115) 19 = .ok (.invokevirtual 29, 3) := zd zm_4115 (by decide +kernel)
theorem d_4115_22 {σ : Nat → Nat} {n0 : Nat} {bf : ab_B} : decode (ab_code (zx σ n0 bf).1 4115) 22 = .ok (.aload_n 0, 1) := zd zm_4115 (by decide +kernel)
theorem d_4115_23 {σ : Nat → Nat} {n0 : Nat} {bf : ab_B} : decode (ab_code (zx σ n0 bf).1 4115) 23 = .ok (.invokevirtual 569, 3) := zd zm_4115 (by decide +kernel)
theorem d_4115_26 {σ : Nat → Nat} {n0 : Nat} {bf : ab_B} : decode (ab_code (zx σ n0 bf).1 4115) 26 = .ok (.astore_n 2, 1) := zd zm_4115 (by decide +kernel)
theorem d_4115_27 {σ : Nat → Nat} {n0 : Nat} {bf : ab_B} : decode (ab_code (zx σ n0 bf).1 4115) 27 = .ok (.aload_n 2, 1) := zd zm_4115 (by decide +kernel)
theorem d_4115_28 {σ : Nat → Nat} {n0 : Nat} {bf : ab_B} : decode (ab_code (zx σ n0 bf).1 4115) 28 = .ok (.getfield 297, 3) := zd zm_4115 (by decide +kernel)
theorem d_4115_31 {σ : Nat → Nat} {n0 : Nat} {bf : ab_B} : decode (ab_code (zx σ n0 bf).1 4115) 31 = .ok (.invokevirtual 335, 3) := zd zm_4115 (by decide +kernel)
theorem d_4115_34 {σ : Nat → Nat} {n0 : Nat} {bf : ab_B} : decode (ab_code (zx σ n0 bf).1 4115) 34 = .ok (.ifCond .ne 9, 3) := zd zm_4115 (by decide +kernel)
theorem d_4115_37 {σ : Nat → Nat} {n0 : Nat} {bf : ab_B} : decode (ab_code (zx σ n0 bf).1 4115) 37 = .ok (.aload_n 0, 1) := zd zm_4115 (by decide +kernel)
theorem d_4115_38 {σ : Nat → Nat} {n0 : Nat} {bf : ab_B} : decode (ab_code (zx σ n0 bf).1 4115) 38 = .ok (.iconst 5, 1) := zd zm_4115 (by decide +kernel)
theorem d_4115_39 {σ : Nat → Nat} {n0 : Nat} {bf : ab_B} : decode (ab_code (zx σ n0 bf).1 4115) 39 = .ok (.invokevirtual 25, 3) := zd zm_4115 (by decide +kernel)
theorem d_4115_42 {σ : Nat → Nat} {n0 : Nat} {bf : ab_B} : decode (ab_code (zx σ n0 bf).1 4115) 42 = .ok (.athrow, 1) := zd zm_4115 (by decide +kernel)
theorem d_4115_43 {σ : Nat → Nat} {n0 : Nat} {bf : ab_B} : decode (ab_code (zx σ n0 bf).1 4115) 43 = .ok (.aload_n 0, 1) := zd zm_4115 (by decide +kernel)
theorem d_4115_44 {σ : Nat → Nat} {n0 : Nat} {bf : ab_B} : decode (ab_code (zx σ n0 bf).1 4115) 44 = .ok (.aload_n 2, 1) := zd zm_4115 (by decide +kernel)
theorem d_4115_45 {σ : Nat → Nat} {n0 : Nat} {bf : ab_B} : decode (ab_code (zx σ n0 bf).1 4115) 45 = .ok (.invokevirtual 721, 3) := zd zm_4115 (by decide +kernel)
theorem d_4115_48 {σ : Nat → Nat} {n0 : Nat} {bf : ab_B} : decode (ab_code (zx σ n0 bf).1 4115) 48 = .ok (.aload_n 0, 1) := zd zm_4115 (by decide +kernel)
theorem d_4115_49 {σ : Nat → Nat} {n0 : Nat} {bf : ab_B} : decode (ab_code (zx σ n0 bf).1 4115) 49 = .ok (.bipush 20, 2) := zd zm_4115 (by decide +kernel)
theorem d_4115_51 {σ : Nat → Nat} {n0 : Nat} {bf : ab_B} : decode (ab_code (zx σ n0 bf).1 4115) 51 = .ok (.invokevirtual 221, 3) := zd zm_4115 (by decide +kernel)
theorem d_4115_54 {σ : Nat → Nat} {n0 : Nat} {bf : ab_B} : decode (ab_code (zx σ n0 bf).1 4115) 54 = .ok (.new 51, 3) := zd zm_4115 (by decide +kernel)
theorem d_4115_57 {σ : Nat → Nat} {n0 : Nat} {bf : ab_B} : decode (ab_code (zx σ n0 bf).1 4115) 57 = .ok (.dup, 1) := zd zm_4115 (by decide +kernel)
theorem d_4115_58 {σ : Nat → Nat} {n0 : Nat} {bf : ab_B} : decode (ab_code (zx σ n0 bf).1 4115) 58 = .ok (.invokespecial 326, 3) := zd zm_4115 (by decide +kernel)
theorem d_4115_61 {σ : Nat → Nat} {n0 : Nat} {bf : ab_B} : decode (ab_code (zx σ n0 bf).1 4115) 61 = .ok (.astore_n 3, 1) := zd zm_4115 (by decide +kernel)
theorem d_4115_62 {σ : Nat → Nat} {n0 : Nat} {bf : ab_B} : decode (ab_code (zx σ n0 bf).1 4115) 62 = .ok (.new 424, 3) := zd zm_4115 (by decide +kernel)
theorem d_4115_65 {σ : Nat → Nat} {n0 : Nat} {bf : ab_B} : decode (ab_code (zx σ n0 bf).1 4115) 65 = .ok (.dup, 1) := zd zm_4115 (by decide +kernel)
theorem d_4115_66 {σ : Nat → Nat} {n0 : Nat} {bf : ab_B} : decode (ab_code (zx σ n0 bf).1 4115) 66 = .ok (.aconst_null, 1) := zd zm_4115 (by decide +kernel)
theorem d_4115_67 {σ : Nat → Nat} {n0 : Nat} {bf : ab_B} : decode (ab_code (zx σ n0 bf).1 4115) 67 = .ok (.invokespecial 505, 3) := zd zm_4115 (by decide +kernel)
theorem d_4115_70 {σ : Nat → Nat} {n0 : Nat} {bf : ab_B} : decode (ab_code (zx σ n0 bf).1 4115) 70 = .ok (.astore 4, 2) := zd zm_4115 (by decide +kernel)
theorem d_4115_72 {σ : Nat → Nat} {n0 : Nat} {bf : ab_B} : decode (ab_code (zx σ n0 bf).1 4115) 72 = .ok (.aload_n 2, 1) := zd zm_4115 (by decide +kernel)
theorem d_4115_73 {σ : Nat → Nat} {n0 : Nat} {bf : ab_B} : decode (ab_code (zx σ n0 bf).1 4115) 73 = .ok (.getfield 297, 3) := zd zm_4115 (by decide +kernel)
theorem d_4115_76 {σ : Nat → Nat} {n0 : Nat} {bf : ab_B} : decode (ab_code (zx σ n0 bf).1 4115) 76 = .ok (.invokevirtual 450, 3) := zd zm_4115 (by decide +kernel)
theorem d_4115_79 {σ : Nat → Nat} {n0 : Nat} {bf : ab_B} : decode (ab_code (zx σ n0 bf).1 4115) 79 = .ok (.astore 5, 2) := zd zm_4115 (by decide +kernel)
theorem d_4115_81 {σ : Nat → Nat} {n0 : Nat} {bf : ab_B} : decode (ab_code (zx σ n0 bf).1 4115) 81 = .ok (.iconst 1, 1) := zd zm_4115 (by decide +kernel)
theorem d_4115_82 {σ : Nat → Nat} {n0 : Nat} {bf : ab_B} : decode (ab_code (zx σ n0 bf).1 4115) 82 = .ok (.istore 6, 2) := zd zm_4115 (by decide +kernel)
theorem d_4115_84 {σ : Nat → Nat} {n0 : Nat} {bf : ab_B} : decode (ab_code (zx σ n0 bf).1 4115) 84 = .ok (.iload 6, 2) := zd zm_4115 (by decide +kernel)
theorem d_4115_86 {σ : Nat → Nat} {n0 : Nat} {bf : ab_B} : decode (ab_code (zx σ n0 bf).1 4115) 86 = .ok (.ifCond .eq 192, 3) := zd zm_4115 (by decide +kernel)
theorem d_4115_89 {σ : Nat → Nat} {n0 : Nat} {bf : ab_B} : decode (ab_code (zx σ n0 bf).1 4115) 89 = .ok (.aload 4, 2) := zd zm_4115 (by decide +kernel)
theorem d_4115_91 {σ : Nat → Nat} {n0 : Nat} {bf : ab_B} : decode (ab_code (zx σ n0 bf).1 4115) 91 = .ok (.getfield 517, 3) := zd zm_4115 (by decide +kernel)
theorem d_4115_94 {σ : Nat → Nat} {n0 : Nat} {bf : ab_B} : decode (ab_code (zx σ n0 bf).1 4115) 94 = .ok (.invokevirtual 50, 3) := zd zm_4115 (by decide +kernel)
theorem d_4115_97 {σ : Nat → Nat} {n0 : Nat} {bf : ab_B} : decode (ab_code (zx σ n0 bf).1 4115) 97 = .ok (.istore 7, 2) := zd zm_4115 (by decide +kernel)
theorem d_4115_99 {σ : Nat → Nat} {n0 : Nat} {bf : ab_B} : decode (ab_code (zx σ n0 bf).1 4115) 99 = .ok (.aload_n 0, 1) := zd zm_4115 (by decide +kernel)
theorem d_4115_100 {σ : Nat → Nat} {n0 : Nat} {bf : ab_B} : decode (ab_code (zx σ n0 bf).1 4115) 100 = .ok (.aload 5, 2) := zd zm_4115 (by decide +kernel)
theorem d_4115_102 {σ : Nat → Nat} {n0 : Nat} {bf : ab_B} : decode (ab_code (zx σ n0 bf).1 4115) 102 = .ok (.aconst_null, 1) := zd zm_4115 (by decide +kernel)
theorem d_4115_103 {σ : Nat → Nat} {n0 : Nat} {bf : ab_B} : decode (ab_code (zx σ n0 bf).1 4115) 103 = .ok (.aload 4, 2) := zd zm_4115 (by decide +kernel)
theorem d_4115_105 {σ : Nat → Nat} {n0 : Nat} {bf : ab_B} : decode (ab_code (zx σ n0 bf).1 4115) 105 = .ok (.invokevirtual 508, 3) := zd zm_4115 (by decide +kernel)
theorem d_4115_108 {σ : Nat → Nat} {n0 : Nat} {bf : ab_B} : decode (ab_code (zx σ n0 bf).1 4115) 108 = .ok (.aload_n 0, 1) := zd zm_4115 (by decide +kernel)
theorem d_4115_109 {σ : Nat → Nat} {n0 : Nat} {bf : ab_B} : decode (ab_code (zx σ n0 bf).1 4115) 109 = .ok (.bipush 58, 2) := zd zm_4115 (by decide +kernel)
theorem d_4115_111 {σ : Nat → Nat} {n0 : Nat} {bf : ab_B} : decode (ab_code (zx σ n0 bf).1 4115) 111 = .ok (.invokevirtual 224, 3) := zd zm_4115 (by decide +kernel)
theorem d_4115_114 {σ : Nat → Nat} {n0 : Nat} {bf : ab_B} : decode (ab_code (zx σ n0 bf).1 4115) 114 = .ok (.aload_n 0, 1) := zd zm_4115 (by decide +kernel)
theorem d_4115_115 {σ : Nat → Nat} {n0 : Nat} {bf : ab_B} : decode (ab_code (zx σ n0 bf).1 4115) 115 = .ok (.bipush 41, 2) := zd zm_4115 (by decide +kernel)
theorem d_4115_117 {σ : Nat → Nat} {n0 : Nat} {bf : ab_B} : decode (ab_code (zx σ n0 bf).1 4115) 117 = .ok (.iload_n 1, 1) := zd zm_4115 (by decide +kernel)
theorem d_4115_118 {σ : Nat → Nat} {n0 : Nat} {bf : ab_B} : decode (ab_code (zx σ n0 bf).1 4115) 118 = .ok (.aload 4, 2) := zd zm_4115 (by decide +kernel)
theorem d_4115_120 {σ : Nat → Nat} {n0 : Nat} {bf : ab_B} : decode (ab_code (zx σ n0 bf).1 4115) 120 = .ok (.getfield 517, 3) := zd zm_4115 (by decide +kernel)
theorem d_4115_123 {σ : Nat → Nat} {n0 : Nat} {bf : ab_B} : decode (ab_code (zx σ n0 bf).1 4115) 123 = .ok (.invokevirtual 50, 3) := zd zm_4115 (by decide +kernel)
theorem d_4115_126 {σ : Nat → Nat} {n0 : Nat} {bf : ab_B} : decode (ab_code (zx σ n0 bf).1 4115) 126 = .ok (.iload 7, 2) := zd zm_4115 (by decide +kernel)
theorem d_4115_128 {σ : Nat → Nat} {n0 : Nat} {bf : ab_B} : decode (ab_code (zx σ n0 bf).1 4115) 128 = .ok (.isub, 1) := zd zm_4115 (by decide +kernel)
theorem d_4115_129 {σ : Nat → Nat} {n0 : Nat} {bf : ab_B} : decode (ab_code (zx σ n0 bf).1 4115) 129 = .ok (.invokevirtual 712, 3) := zd zm_4115 (by decide +kernel)
theorem d_4115_132 {σ : Nat → Nat} {n0 : Nat} {bf : ab_B} : decode (ab_code (zx σ n0 bf).1 4115) 132 = .ok (.iload 7, 2) := zd zm_4115 (by decide +kernel)
theorem d_4115_134 {σ : Nat → Nat} {n0 : Nat} {bf : ab_B} : decode (ab_code (zx σ n0 bf).1 4115) 134 = .ok (.istore 8, 2) := zd zm_4115 (by decide +kernel)
theorem d_4115_136 {σ : Nat → Nat} {n0 : Nat} {bf : ab_B} : decode (ab_code (zx σ n0 bf).1 4115) 136 = .ok (.iload 8, 2) := zd zm_4115 (by decide +kernel)
theorem d_4115_138 {σ : Nat → Nat} {n0 : Nat} {bf : ab_B} : decode (ab_code (zx σ n0 bf).1 4115) 138 = .ok (.aload 4, 2) := zd zm_4115 (by decide +kernel)
theorem d_4115_140 {σ : Nat → Nat} {n0 : Nat} {bf : ab_B} : decode (ab_code (zx σ n0 bf).1 4115) 140 = .ok (.getfield 517, 3) := zd zm_4115 (by decide +kernel)
theorem d_4115_143 {σ : Nat → Nat} {n0 : Nat} {bf : ab_B} : decode (ab_code (zx σ n0 bf).1 4115) 143 = .ok (.invokevirtual 50, 3) := zd zm_4115 (by decide +kernel)
theorem d_4115_146 {σ : Nat → Nat} {n0 : Nat} {bf : ab_B} : decode (ab_code (zx σ n0 bf).1 4115) 146 = .ok (.if_icmp .ge 34, 3) := zd zm_4115 (by decide +kernel)
theorem d_4115_149 {σ : Nat → Nat} {n0 : Nat} {bf : ab_B} : decode (ab_code (zx σ n0 bf).1 4115) 149 = .ok (.aload_n 0, 1) := zd zm_4115 (by decide +kernel)
theorem d_4115_150 {σ : Nat → Nat} {n0 : Nat} {bf : ab_B} : decode (ab_code (zx σ n0 bf).1 4115) 150 = .ok (.getfield 128, 3) := zd zm_4115 (by decide +kernel)
theorem d_4115_153 {σ : Nat → Nat} {n0 : Nat} {bf : ab_B} : decode (ab_code (zx σ n0 bf).1 4115) 153 = .ok (.aload 4, 2) := zd zm_4115 (by decide +kernel)
theorem d_4115_155 {σ : Nat → Nat} {n0 : Nat} {bf : ab_B} : decode (ab_code (zx σ n0 bf).1 4115) 155 = .ok (.getfield 517, 3) := zd zm_4115 (by decide +kernel)
theorem d_4115_158 {σ : Nat → Nat} {n0 : Nat} {bf : ab_B} : decode (ab_code (zx σ n0 bf).1 4115) 158 = .ok (.iload 8, 2) := zd zm_4115 (by decide +kernel)
theorem d_4115_160 {σ : Nat → Nat} {n0 : Nat} {bf : ab_B} : decode (ab_code (zx σ n0 bf).1 4115) 160 = .ok (.invokevirtual 56, 3) := zd zm_4115 (by decide +kernel)
theorem d_4115_163 {σ : Nat → Nat} {n0 : Nat} {bf : ab_B} : decode (ab_code (zx σ n0 bf).1 4115) 163 = .ok (.checkcast 521, 3) := zd zm_4115 (by decide +kernel)
theorem d_4115_166 {σ : Nat → Nat} {n0 : Nat} {bf : ab_B} : decode (ab_code (zx σ n0 bf).1 4115) 166 = .ok (.invokevirtual 525, 3) := zd zm_4115 (by decide +kernel)
theorem d_4115_169 {σ : Nat → Nat} {n0 : Nat} {bf : ab_B} : decode (ab_code (zx σ n0 bf).1 4115) 169 = .ok (.l2i, 1) := zd zm_4115 (by decide +kernel)
theorem d_4115_170 {σ : Nat → Nat} {n0 : Nat} {bf : ab_B} : decode (ab_code (zx σ n0 bf).1 4115) 170 = .ok (.invokevirtual 709, 3) := zd zm_4115 (by decide +kernel)
theorem d_4115_173 {σ : Nat → Nat} {n0 : Nat} {bf : ab_B} : decode (ab_code (zx σ n0 bf).1 4115) 173 = .ok (.pop, 1) := zd zm_4115 (by decide +kernel)
theorem d_4115_174 {σ : Nat → Nat} {n0 : Nat} {bf : ab_B} : decode (ab_code (zx σ n0 bf).1 4115) 174 = .ok (.iinc 8 1, 3) := zd zm_4115 (by decide +kernel)
theorem d_4115_177 {σ : Nat → Nat} {n0 : Nat} {bf : ab_B} : decode (ab_code (zx σ n0 bf).1 4115) 177 = .ok (.goto (-41), 3) := zd zm_4115 (by decide +kernel)
theorem d_4115_180 {σ : Nat → Nat} {n0 : Nat} {bf : ab_B} : decode (ab_code (zx σ n0 bf).1 4115) 180 = .ok (.aload_n 0, 1) := zd zm_4115 (by decide +kernel)
theorem d_4115_181 {σ : Nat → Nat} {n0 : Nat} {bf : ab_B} : decode (ab_code (zx σ n0 bf).1 4115) 181 = .ok (.getfield 128, 3) := zd zm_4115 (by decide +kernel)
theorem d_4115_184 {σ : Nat → Nat} {n0 : Nat} {bf : ab_B} : decode (ab_code (zx σ n0 bf).1 4115) 184 = .ok (.iconst 0, 1) := zd zm_4115 (by decide +kernel)
theorem d_4115_185 {σ : Nat → Nat} {n0 : Nat} {bf : ab_B} : decode (ab_code (zx σ n0 bf).1 4115) 185 = .ok (.invokevirtual 709, 3) := zd zm_4115 (by decide +kernel)
theorem d_4115_188 {σ : Nat → Nat} {n0 : Nat} {bf : ab_B} : decode (ab_code (zx σ n0 bf).1 4115) 188 = .ok (.istore 8, 2) := zd zm_4115 (by decide +kernel)
theorem d_4115_190 {σ : Nat → Nat} {n0 : Nat} {bf : ab_B} : decode (ab_code (zx σ n0 bf).1 4115) 190 = .ok (.aload_n 0, 1) := zd zm_4115 (by decide +kernel)
theorem d_4115_191 {σ : Nat → Nat} {n0 : Nat} {bf : ab_B} : decode (ab_code (zx σ n0 bf).1 4115) 191 = .ok (.invokevirtual 744, 3) := zd zm_4115 (by decide +kernel)
theorem d_4115_194 {σ : Nat → Nat} {n0 : Nat} {bf : ab_B} : decode (ab_code (zx σ n0 bf).1 4115) 194 = .ok (.aload_n 3, 1) := zd zm_4115 (by decide +kernel)
theorem d_4115_195 {σ : Nat → Nat} {n0 : Nat} {bf : ab_B} : decode (ab_code (zx σ n0 bf).1 4115) 195 = .ok (.aload_n 0, 1) := zd zm_4115 (by decide +kernel)
theorem d_4115_196 {σ : Nat → Nat} {n0 : Nat} {bf : ab_B} : decode (ab_code (zx σ n0 bf).1 4115) 196 = .ok (.bipush 37, 2) := zd zm_4115 (by decide +kernel)
theorem d_4115_198 {σ : Nat → Nat} {n0 : Nat} {bf : ab_B} : decode (ab_code (zx σ n0 bf).1 4115) 198 = .ok (.iload_n 1, 1) := zd zm_4115 (by decide +kernel)
theorem d_4115_199 {σ : Nat → Nat} {n0 : Nat} {bf : ab_B} : decode (ab_code (zx σ n0 bf).1 4115) 199 = .ok (.invokevirtual 775, 3) := zd zm_4115 (by decide +kernel)
theorem d_4115_202 {σ : Nat → Nat} {n0 : Nat} {bf : ab_B} : decode (ab_code (zx σ n0 bf).1 4115) 202 = .ok (.invokestatic 350, 3) := zd zm_4115 (by decide +kernel)
theorem d_4115_205 {σ : Nat → Nat} {n0 : Nat} {bf : ab_B} : decode (ab_code (zx σ n0 bf).1 4115) 205 = .ok (.invokevirtual 140, 3) := zd zm_4115 (by decide +kernel)
theorem d_4115_208 {σ : Nat → Nat} {n0 : Nat} {bf : ab_B} : decode (ab_code (zx σ n0 bf).1 4115) 208 = .ok (.pop, 1) := zd zm_4115 (by decide +kernel)
theorem d_4115_209 {σ : Nat → Nat} {n0 : Nat} {bf : ab_B} : decode (ab_code (zx σ n0 bf).1 4115) 209 = .ok (.aload_n 0, 1) := zd zm_4115 (by decide +kernel)
theorem d_4115_210 {σ : Nat → Nat} {n0 : Nat} {bf : ab_B} : decode (ab_code (zx σ n0 bf).1 4115) 210 = .ok (.iload 8, 2) := zd zm_4115 (by decide +kernel)
theorem d_4115_212 {σ : Nat → Nat} {n0 : Nat} {bf : ab_B} : decode (ab_code (zx σ n0 bf).1 4115) 212 = .ok (.iconst 1, 1) := zd zm_4115 (by decide +kernel)
theorem d_4115_213 {σ : Nat → Nat} {n0 : Nat} {bf : ab_B} : decode (ab_code (zx σ n0 bf).1 4115) 213 = .ok (.invokevirtual 778, 3) := zd zm_4115 (by decide +kernel)
theorem d_4115_216 {σ : Nat → Nat} {n0 : Nat} {bf : ab_B} : decode (ab_code (zx σ n0 bf).1 4115) 216 = .ok (.aload_n 0, 1) := zd zm_4115 (by decide +kernel)
theorem d_4115_217 {σ : Nat → Nat} {n0 : Nat} {bf : ab_B} : decode (ab_code (zx σ n0 bf).1 4115) 217 = .ok (.getfield 5, 3) := zd zm_4115 (by decide +kernel)
theorem d_4115_220 {σ : Nat → Nat} {n0 : Nat} {bf : ab_B} : decode (ab_code (zx σ n0 bf).1 4115) 220 = .ok (.bipush 59, 2) := zd zm_4115 (by decide +kernel)
theorem d_4115_222 {σ : Nat → Nat} {n0 : Nat} {bf : ab_B} : decode (ab_code (zx σ n0 bf).1 4115) 222 = .ok (.invokevirtual 21, 3) := zd zm_4115 (by decide +kernel)
theorem d_4115_225 {σ : Nat → Nat} {n0 : Nat} {bf : ab_B} : decode (ab_code (zx σ n0 bf).1 4115) 225 = .ok (.istore 6, 2) := zd zm_4115 (by decide +kernel)
theorem d_4115_227 {σ : Nat → Nat} {n0 : Nat} {bf : ab_B} : decode (ab_code (zx σ n0 bf).1 4115) 227 = .ok (.iload 6, 2) := zd zm_4115 (by decide +kernel)
theorem d_4115_229 {σ : Nat → Nat} {n0 : Nat} {bf : ab_B} : decode (ab_code (zx σ n0 bf).1 4115) 229 = .ok (.ifCond .eq 10, 3) := zd zm_4115 (by decide +kernel)
theorem d_4115_232 {σ : Nat → Nat} {n0 : Nat} {bf : ab_B} : decode (ab_code (zx σ n0 bf).1 4115) 232 = .ok (.aload_n 0, 1) := zd zm_4115 (by decide +kernel)
theorem d_4115_233 {σ : Nat → Nat} {n0 : Nat} {bf : ab_B} : decode (ab_code (zx σ n0 bf).1 4115) 233 = .ok (.getfield 5, 3) := zd zm_4115 (by decide +kernel)
theorem d_4115_236 {σ : Nat → Nat} {n0 : Nat} {bf : ab_B} : decode (ab_code (zx σ n0 bf).1 4115) 236 = .ok (.invokevirtual 29, 3) := zd zm_4115 (by decide +kernel)
theorem d_4115_239 {σ : Nat → Nat} {n0 : Nat} {bf : ab_B} : decode (ab_code (zx σ n0 bf).1 4115) 239 = .ok (.iload 6, 2) := zd zm_4115 (by decide +kernel)
theorem d_4115_241 {σ : Nat → Nat} {n0 : Nat} {bf : ab_B} : decode (ab_code (zx σ n0 bf).1 4115) 241 = .ok (.ifCond .eq 31, 3) := zd zm_4115 (by decide +kernel)
theorem d_4115_244 {σ : Nat → Nat} {n0 : Nat} {bf : ab_B} : decode (ab_code (zx σ n0 bf).1 4115) 244 = .ok (.aload_n 0, 1) := zd zm_4115 (by decide +kernel)
theorem d_4115_245 {σ : Nat → Nat} {n0 : Nat} {bf : ab_B} : decode (ab_code (zx σ n0 bf).1 4115) 245 = .ok (.getfield 5, 3) := zd zm_4115 (by decide +kernel)
theorem d_4115_248 {σ : Nat → Nat} {n0 : Nat} {bf : ab_B} : decode (ab_code (zx σ n0 bf).1 4115) 248 = .ok (.bipush 8, 2) := zd zm_4115 (by decide +kernel)
theorem d_4115_250 {σ : Nat → Nat} {n0 : Nat} {bf : ab_B} : decode (ab_code (zx σ n0 bf).1 4115) 250 = .ok (.invokevirtual 33, 3) := zd zm_4115 (by decide +kernel)
theorem d_4115_253 {σ : Nat → Nat} {n0 : Nat} {bf : ab_B} : decode (ab_code (zx σ n0 bf).1 4115) 253 = .ok (.ifCond .ne 19, 3) := zd zm_4115 (by decide +kernel)
theorem d_4115_256 {σ : Nat → Nat} {n0 : Nat} {bf : ab_B} : decode (ab_code (zx σ n0 bf).1 4115) 256 = .ok (.aload_n 0, 1) := zd zm_4115 (by decide +kernel)
theorem d_4115_257 {σ : Nat → Nat} {n0 : Nat} {bf : ab_B} : decode (ab_code (zx σ n0 bf).1 4115) 257 = .ok (.getfield 5, 3) := zd zm_4115 (by decide +kernel)
theorem d_4115_260 {σ : Nat → Nat} {n0 : Nat} {bf : ab_B} : decode (ab_code (zx σ n0 bf).1 4115) 260 = .ok (.bipush 21, 2) := zd zm_4115 (by decide +kernel)
theorem d_4115_262 {σ : Nat → Nat} {n0 : Nat} {bf : ab_B} : decode (ab_code (zx σ n0 bf).1 4115) 262 = .ok (.invokevirtual 33, 3) := zd zm_4115 (by decide +kernel)
theorem d_4115_265 {σ : Nat → Nat} {n0 : Nat} {bf : ab_B} : decode (ab_code (zx σ n0 bf).1 4115) 265 = .ok (.ifCond .ne 7, 3) := zd zm_4115 (by decide +kernel)
theorem d_4115_268 {σ : Nat → Nat} {n0 : Nat} {bf : ab_B} : decode (ab_code (zx σ n0 bf).1 4115) 268 = .ok (.iconst 1, 1) := zd zm_4115 (by decide +kernel)
theorem d_4115_269 {σ : Nat → Nat} {n0 : Nat} {bf : ab_B} : decode (ab_code (zx σ n0 bf).1 4115) 269 = .ok (.goto 4, 3) := zd zm_4115 (by decide +kernel)
theorem d_4115_272 {σ : Nat → Nat} {n0 : Nat} {bf : ab_B} : decode (ab_code (zx σ n0 bf).1 4115) 272 = .ok (.iconst 0, 1) := zd zm_4115 (by decide +kernel)
theorem d_4115_273 {σ : Nat → Nat} {n0 : Nat} {bf : ab_B} : decode (ab_code (zx σ n0 bf).1 4115) 273 = .ok (.istore 6, 2) := zd zm_4115 (by decide +kernel)
theorem d_4115_275 {σ : Nat → Nat} {n0 : Nat} {bf : ab_B} : decode (ab_code (zx σ n0 bf).1 4115) 275 = .ok (.goto (-191), 3) := zd zm_4115 (by decide +kernel)
theorem d_4115_278 {σ : Nat → Nat} {n0 : Nat} {bf : ab_B} : decode (ab_code (zx σ n0 bf).1 4115) 278 = .ok (.aload_n 0, 1) := zd zm_4115 (by decide +kernel)
theorem d_4115_279 {σ : Nat → Nat} {n0 : Nat} {bf : ab_B} : decode (ab_code (zx σ n0 bf).1 4115) 279 = .ok (.getfield 5, 3) := zd zm_4115 (by decide +kernel)
theorem d_4115_282 {σ : Nat → Nat} {n0 : Nat} {bf : ab_B} : decode (ab_code (zx σ n0 bf).1 4115) 282 = .ok (.bipush 21, 2) := zd zm_4115 (by decide +kernel)
theorem d_4115_284 {σ : Nat → Nat} {n0 : Nat} {bf : ab_B} : decode (ab_code (zx σ n0 bf).1 4115) 284 = .ok (.invokevirtual 33, 3) := zd zm_4115 (by decide +kernel)
theorem d_4115_287 {σ : Nat → Nat} {n0 : Nat} {bf : ab_B} : decode (ab_code (zx σ n0 bf).1 4115) 287 = .ok (.ifCond .eq 27, 3) := zd zm_4115 (by decide +kernel)
theorem d_4115_290 {σ : Nat → Nat} {n0 : Nat} {bf : ab_B} : decode (ab_code (zx σ n0 bf).1 4115) 290 = .ok (.aload_n 0, 1) := zd zm_4115 (by decide +kernel)
theorem d_4115_291 {σ : Nat → Nat} {n0 : Nat} {bf : ab_B} : decode (ab_code (zx σ n0 bf).1 4115) 291 = .ok (.getfield 5, 3) := zd zm_4115 (by decide +kernel)
theorem d_4115_294 {σ : Nat → Nat} {n0 : Nat} {bf : ab_B} : decode (ab_code (zx σ n0 bf).1 4115) 294 = .ok (.invokevirtual 29, 3) := zd zm_4115 (by decide +kernel)
theorem d_4115_297 {σ : Nat → Nat} {n0 : Nat} {bf : ab_B} : decode (ab_code (zx σ n0 bf).1 4115) 297 = .ok (.aload_n 0, 1) := zd zm_4115 (by decide +kernel)
theorem d_4115_298 {σ : Nat → Nat} {n0 : Nat} {bf : ab_B} : decode (ab_code (zx σ n0 bf).1 4115) 298 = .ok (.bipush 55, 2) := zd zm_4115 (by decide +kernel)
theorem d_4115_300 {σ : Nat → Nat} {n0 : Nat} {bf : ab_B} : decode (ab_code (zx σ n0 bf).1 4115) 300 = .ok (.iload_n 1, 1) := zd zm_4115 (by decide +kernel)
theorem d_4115_301 {σ : Nat → Nat} {n0 : Nat} {bf : ab_B} : decode (ab_code (zx σ n0 bf).1 4115) 301 = .ok (.invokevirtual 273, 3) := zd zm_4115 (by decide +kernel)
theorem d_4115_304 {σ : Nat → Nat} {n0 : Nat} {bf : ab_B} : decode (ab_code (zx σ n0 bf).1 4115) 304 = .ok (.pop, 1) := zd zm_4115 (by decide +kernel)
theorem d_4115_305 {σ : Nat → Nat} {n0 : Nat} {bf : ab_B} : decode (ab_code (zx σ n0 bf).1 4115) 305 = .ok (.aload_n 0, 1) := zd zm_4115 (by decide +kernel)
theorem d_4115_306 {σ : Nat → Nat} {n0 : Nat} {bf : ab_B} : decode (ab_code (zx σ n0 bf).1 4115) 306 = .ok (.bipush 8, 2) := zd zm_4115 (by decide +kernel)
theorem d_4115_308 {σ : Nat → Nat} {n0 : Nat} {bf : ab_B} : decode (ab_code (zx σ n0 bf).1 4115) 308 = .ok (.invokevirtual 287, 3) := zd zm_4115 (by decide +kernel)
theorem d_4115_311 {σ : Nat → Nat} {n0 : Nat} {bf : ab_B} : decode (ab_code (zx σ n0 bf).1 4115) 311 = .ok (.goto 29, 3) := zd zm_4115 (by decide +kernel)
theorem d_4115_314 {σ : Nat → Nat} {n0 : Nat} {bf : ab_B} : decode (ab_code (zx σ n0 bf).1 4115) 314 = .ok (.aload_n 0, 1) := zd zm_4115 (by decide +kernel)
theorem d_4115_315 {σ : Nat → Nat} {n0 : Nat} {bf : ab_B} : decode (ab_code (zx σ n0 bf).1 4115) 315 = .ok (.getfield 5, 3) := zd zm_4115 (by decide +kernel)
theorem d_4115_318 {σ : Nat → Nat} {n0 : Nat} {bf : ab_B} : decode (ab_code (zx σ n0 bf).1 4115) 318 = .ok (.bipush 8, 2) := zd zm_4115 (by decide +kernel)
theorem d_4115_320 {σ : Nat → Nat} {n0 : Nat} {bf : ab_B} : decode (ab_code (zx σ n0 bf).1 4115) 320 = .ok (.invokevirtual 33, 3) := zd zm_4115 (by decide +kernel)
theorem d_4115_323 {σ : Nat → Nat} {n0 : Nat} {bf : ab_B} : decode (ab_code (zx σ n0 bf).1 4115) 323 = .ok (.ifCond .ne 9, 3) := zd zm_4115 (by decide +kernel)
theorem d_4115_326 {σ : Nat → Nat} {n0 : Nat} {bf : ab_B} : decode (ab_code (zx σ n0 bf).1 4115) 326 = .ok (.aload_n 0, 1) := zd zm_4115 (by decide +kernel)
theorem d_4115_327 {σ : Nat → Nat} {n0 : Nat} {bf : ab_B} : decode (ab_code (zx σ n0 bf).1 4115) 327 = .ok (.iconst 2, 1) := zd zm_4115 (by decide +kernel)
theorem d_4115_328 {σ : Nat → Nat} {n0 : Nat} {bf : ab_B} : decode (ab_code (zx σ n0 bf).1 4115) 328 = .ok (.invokevirtual 25, 3) := zd zm_4115 (by decide +kernel)
theorem d_4115_331 {σ : Nat → Nat} {n0 : Nat} {bf : ab_B} : decode (ab_code (zx σ n0 bf).1 4115) 331 = .ok (.athrow, 1) := zd zm_4115 (by decide +kernel)
theorem d_4115_332 {σ : Nat → Nat} {n0 : Nat} {bf : ab_B} : decode (ab_code (zx σ n0 bf).1 4115) 332 = .ok (.aload_n 0, 1) := zd zm_4115 (by decide +kernel)
theorem d_4115_333 {σ : Nat → Nat} {n0 : Nat} {bf : ab_B} : decode (ab_code (zx σ n0 bf).1 4115) 333 = .ok (.bipush 42, 2) := zd zm_4115 (by decide +kernel)
theorem d_4115_335 {σ : Nat → Nat} {n0 : Nat} {bf : ab_B} : decode (ab_code (zx σ n0 bf).1 4115) 335 = .ok (.iload_n 1, 1) := zd zm_4115 (by decide +kernel)
theorem d_4115_336 {σ : Nat → Nat} {n0 : Nat} {bf : ab_B} : decode (ab_code (zx σ n0 bf).1 4115) 336 = .ok (.invokevirtual 273, 3) := zd zm_4115 (by decide +kernel)
theorem d_4115_339 {σ : Nat → Nat} {n0 : Nat} {bf : ab_B} : decode (ab_code (zx σ n0 bf).1 4115) 339 = .ok (.pop, 1) := zd zm_4115 (by decide +kernel)
theorem d_4115_340 {σ : Nat → Nat} {n0 : Nat} {bf : ab_B} : decode (ab_code (zx σ n0 bf).1 4115) 340 = .ok (.aload_n 0, 1) := zd zm_4115 (by decide +kernel)
theorem d_4115_341 {σ : Nat → Nat} {n0 : Nat} {bf : ab_B} : decode (ab_code (zx σ n0 bf).1 4115) 341 = .ok (.getfield 5, 3) := zd zm_4115 (by decide +kernel)
theorem d_4115_344 {σ : Nat → Nat} {n0 : Nat} {bf : ab_B} : decode (ab_code (zx σ n0 bf).1 4115) 344 = .ok (.invokevirtual 29, 3) := zd zm_4115 (by decide +kernel)
theorem d_4115_347 {σ : Nat → Nat} {n0 : Nat} {bf : ab_B} : decode (ab_code (zx σ n0 bf).1 4115) 347 = .ok (.iconst 0, 1) := zd zm_4115 (by decide +kernel)
theorem d_4115_348 {σ : Nat → Nat} {n0 : Nat} {bf : ab_B} : decode (ab_code (zx σ n0 bf).1 4115) 348 = .ok (.istore 7, 2) := zd zm_4115 (by decide +kernel)
theorem d_4115_350 {σ : Nat → Nat} {n0 : Nat} {bf : ab_B} : decode (ab_code (zx σ n0 bf).1 4115) 350 = .ok (.iload 7, 2) := zd zm_4115 (by decide +kernel)
theorem d_4115_352 {σ : Nat → Nat} {n0 : Nat} {bf : ab_B} : decode (ab_code (zx σ n0 bf).1 4115) 352 = .ok (.aload_n 3, 1) := zd zm_4115 (by decide +kernel)
theorem d_4115_353 {σ : Nat → Nat} {n0 : Nat} {bf : ab_B} : decode (ab_code (zx σ n0 bf).1 4115) 353 = .ok (.invokevirtual 50, 3) := zd zm_4115 (by decide +kernel)
theorem d_4115_356 {σ : Nat → Nat} {n0 : Nat} {bf : ab_B} : decode (ab_code (zx σ n0 bf).1 4115) 356 = .ok (.if_icmp .ge 26, 3) := zd zm_4115 (by decide +kernel)
theorem d_4115_359 {σ : Nat → Nat} {n0 : Nat} {bf : ab_B} : decode (ab_code (zx σ n0 bf).1 4115) 359 = .ok (.aload_n 0, 1) := zd zm_4115 (by decide +kernel)
theorem d_4115_360 {σ : Nat → Nat} {n0 : Nat} {bf : ab_B} : decode (ab_code (zx σ n0 bf).1 4115) 360 = .ok (.aload_n 3, 1) := zd zm_4115 (by decide +kernel)
theorem d_4115_361 {σ : Nat → Nat} {n0 : Nat} {bf : ab_B} : decode (ab_code (zx σ n0 bf).1 4115) 361 = .ok (.iload 7, 2) := zd zm_4115 (by decide +kernel)
theorem d_4115_363 {σ : Nat → Nat} {n0 : Nat} {bf : ab_B} : decode (ab_code (zx σ n0 bf).1 4115) 363 = .ok (.invokevirtual 56, 3) := zd zm_4115 (by decide +kernel)
theorem d_4115_366 {σ : Nat → Nat} {n0 : Nat} {bf : ab_B} : decode (ab_code (zx σ n0 bf).1 4115) 366 = .ok (.checkcast 313, 3) := zd zm_4115 (by decide +kernel)
theorem d_4115_369 {σ : Nat → Nat} {n0 : Nat} {bf : ab_B} : decode (ab_code (zx σ n0 bf).1 4115) 369 = .ok (.invokevirtual 315, 3) := zd zm_4115 (by decide +kernel)
theorem d_4115_372 {σ : Nat → Nat} {n0 : Nat} {bf : ab_B} : decode (ab_code (zx σ n0 bf).1 4115) 372 = .ok (.iconst 1, 1) := zd zm_4115 (by decide +kernel)
theorem d_4115_373 {σ : Nat → Nat} {n0 : Nat} {bf : ab_B} : decode (ab_code (zx σ n0 bf).1 4115) 373 = .ok (.invokevirtual 778, 3) := zd zm_4115 (by decide +kernel)
theorem d_4115_376 {σ : Nat → Nat} {n0 : Nat} {bf : ab_B} : decode (ab_code (zx σ n0 bf).1 4115) 376 = .ok (.iinc 7 1, 3) := zd zm_4115 (by decide +kernel)
theorem d_4115_379 {σ : Nat → Nat} {n0 : Nat} {bf : ab_B} : decode (ab_code (zx σ n0 bf).1 4115) 379 = .ok (.goto (-29), 3) := zd zm_4115 (by decide +kernel)
theorem d_4115_382 {σ : Nat → Nat} {n0 : Nat} {bf : ab_B} : decode (ab_code (zx σ n0 bf).1 4115) 382 = .ok (.return_, 1) := zd zm_4115 (by decide +kernel)
def w_X5_cases_37 (X : zs_X) (d : Nat) (p0 : Nat) (S : zs_T) (Q : zs_Q) : Prop :=
  (zs_K S p0 = some (.inl 4) ∧ zs_C X d 4006 [.ref p0, .int (5 : Int32)] S (zs_kR (fun v3 S2 => (∃ b4, v3 = some b4 ∧ Q (.threw b4) S2)) Q))
theorem u_X5_cases_37 {σ : Nat → Nat} {n0 : Nat} {bf : ab_B} {d : Nat} {p0 : Nat} {S : zs_T} {Q : zs_Q} (hB : zt_B bf) (h : w_X5_cases_37 (zx σ n0 bf) d p0 S Q) : zs_U (zx σ n0 bf) d 4115 37 [(0, .ref p0)] [] S Q := by
  unfold w_X5_cases_37 at h
  refine zu_aload_n d_4115_37 rfl (zs_ra _) ?_
  refine zu_iconst d_4115_38 zi_5 ?_
  obtain ⟨k1, h⟩ := h
  refine zc_4_25 (x0 := (5 : Int32)) hB rfl k1 d_4115_39 (Nat.le_of_ble_eq_true rfl) h (fun v3 S2 h => ?_)
  obtain ⟨b4, e5, h⟩ := h
  refine zs_stk0 (zs_rfe e5) ?_
  exact zu_throw d_4115_42 h
def w_X5_cases_81 (X : zs_X) (d : Nat) (p0 : Nat) (p1 : Int32) (p3 : Option Nat) (p4 : Option Nat) (p5 : Option Nat) (S : zs_T) (Q : zs_Q) : Prop :=
  (zs_U X d 4115 84 [(0, .ref p0), (1, .int p1), (3, va_rf p3), (4, va_rf p4), (5, va_rf p5), (6, .int (1 : Int32))] [] S Q)
theorem u_X5_cases_81 {σ : Nat → Nat} {n0 : Nat} {bf : ab_B} {d : Nat} {p0 : Nat} {p1 : Int32} {p3 : Option Nat} {p4 : Option Nat} {p5 : Option Nat} {S : zs_T} {Q : zs_Q} (hB : zt_B bf) (h : w_X5_cases_81 (zx σ n0 bf) d p0 p1 p3 p4 p5 S Q) : zs_U (zx σ n0 bf) d 4115 81 [(0, .ref p0), (1, .int p1), (3, va_rf p3), (4, va_rf p4), (5, va_rf p5)] [] S Q := by
  unfold w_X5_cases_81 at h
  refine zu_iconst d_4115_81 zi_1 ?_
  refine zu_istore d_4115_82 (zs_lt zq_4115 rfl) ?_
  refine zs_U.weak (L1 := [(6, .int (1 : Int32)), (0, .ref p0), (1, .int p1), (3, va_rf p3), (4, va_rf p4), (5, va_rf p5)]) ?_ ⟨rfl, zs_gp1 rfl (Or.inl rfl) rfl, zs_gp1 rfl (Or.inl rfl) rfl, zs_gp1 rfl (Or.inl (zs_cat _)) rfl, zs_gp1 rfl (Or.inl (zs_cat _)) rfl, zs_gp1 rfl (Or.inl (zs_cat _)) rfl, trivial⟩
  exact h.weak ⟨rfl, rfl, rfl, rfl, rfl, rfl, trivial⟩
def w_X5_cases_43 (X : zs_X) (d : Nat) (p0 : Nat) (p1 : Int32) (p2 : Option Nat) (S : zs_T) (Q : zs_Q) : Prop :=
  (zs_K S p0 = some (.inl 4) ∧ zs_C X d 4096 [.ref p0, va_rf p2] S (zs_kV (fun S2 => (zs_K S2 p0 = some (.inl 4) ∧ zs_C X d 4005 [.ref p0, .int (20 : Int32)] S2 (zs_kV (fun S5 => (∀ a7 S8, a7 = zs_N S5 → S8 = zs_nw S5 (.inl 16) 3 → zs_C X d 16000 [.ref a7] S8 (zs_kV (fun S12 => (∀ a14 S15, a14 = zs_N S12 → S15 = zs_nw S12 (.inl 15) 3 → zs_C X d 15000 [.ref a14, va_rf none] S15 (zs_kV (fun S19 => (∃ b21, p2 = some b21 ∧ zs_K S19 b21 = some (.inl 11) ∧ ∃ b24, (zs_R S19 11002 b21) = some b24 ∧ zs_K S19 b24 = some (.inl 6) ∧ zs_C X d 6001 [.ref b24] S19 (zs_kR (fun v28 S27 => (w_X5_cases_81 X d p0 p1 (some a7) (some a14) v28 S27 Q)) Q))) Q))) Q))) Q))) Q))
theorem u_X5_cases_43 {σ : Nat → Nat} {n0 : Nat} {bf : ab_B} {d : Nat} {p0 : Nat} {p1 : Int32} {p2 : Option Nat} {S : zs_T} {Q : zs_Q} (hB : zt_B bf) (h : w_X5_cases_43 (zx σ n0 bf) d p0 p1 p2 S Q) : zs_U (zx σ n0 bf) d 4115 43 [(0, .ref p0), (1, .int p1), (2, va_rf p2)] [] S Q := by
  unfold w_X5_cases_43 at h
  refine zu_aload_n d_4115_43 rfl (zs_ra _) ?_
  refine zu_aload_n d_4115_44 rfl (zs_rr _) ?_
  obtain ⟨k1, h⟩ := h
  refine zc_4_721 (x0 := p2) hB rfl k1 d_4115_45 (Nat.le_of_ble_eq_true rfl) h (fun S2 h => ?_)
  refine zu_aload_n d_4115_48 rfl (zs_ra _) ?_
  refine zu_bipush d_4115_49 zj_20 ?_
  obtain ⟨k4, h⟩ := h
  refine zc_4_221 (x0 := (20 : Int32)) hB rfl k4 d_4115_51 (Nat.le_of_ble_eq_true rfl) h (fun S5 h => ?_)
  refine zn_4_51 rfl d_4115_54 ?_
  generalize e10 : zs_nw S5 (.inl 16) 3 = S8
  generalize e9 : zs_N S5 = a7
  have h := h a7 S8 e9.symm e10.symm
  have k11 := zs_kn e9 e10
  refine zu_dup d_4115_57 rfl ?_
  refine zc_4_326  hB rfl d_4115_58 (Nat.le_of_ble_eq_true rfl) h (fun S12 h => ?_)
  refine zu_astore_n d_4115_61 (zs_ra _) (zs_lt zq_4115 rfl) ?_
  refine zs_U.weak (L1 := [(3, .ref a7), (0, .ref p0), (1, .int p1), (2, va_rf p2)]) ?_ ⟨rfl, zs_gp1 rfl (Or.inl rfl) rfl, zs_gp1 rfl (Or.inl rfl) rfl, zs_gp1 rfl (Or.inl (zs_cat _)) rfl, trivial⟩
  refine zn_4_424 rfl d_4115_62 ?_
  generalize e17 : zs_nw S12 (.inl 15) 3 = S15
  generalize e16 : zs_N S12 = a14
  have h := h a14 S15 e16.symm e17.symm
  have k18 := zs_kn e16 e17
  refine zu_dup d_4115_65 rfl ?_
  refine zu_stk d_4115_66 rfl rfl ?_
  refine zc_4_505 (x0 := none) hB rfl d_4115_67 (Nat.le_of_ble_eq_true rfl) h (fun S19 h => ?_)
  refine zu_astore d_4115_70 (zs_ra _) (zs_lt zq_4115 rfl) ?_
  refine zu_aload_n d_4115_72 rfl (zs_rr _) ?_
  obtain ⟨b21, e22, h⟩ := h
  refine zs_stk0 (zs_rfe e22) ?_
  obtain ⟨k23, h⟩ := h
  refine zg_4_297 rfl d_4115_73 k23 ?_
  obtain ⟨b24, e25, h⟩ := h
  refine zs_stk0 (zs_rfe e25) ?_
  obtain ⟨k26, h⟩ := h
  refine zc_4_450  hB rfl k26 d_4115_76 (Nat.le_of_ble_eq_true rfl) h (fun v28 S27 h => ?_)
  refine zu_astore d_4115_79 (zs_rr _) (zs_lt zq_4115 rfl) ?_
  exact (u_X5_cases_81 hB h).weak ⟨rfl, rfl, rfl, rfl, rfl, trivial⟩
def w_X5_cases_340 (X : zs_X) (d : Nat) (p0 : Nat) (p3 : Option Nat) (S : zs_T) (Q : zs_Q) : Prop :=
  (zs_K S p0 = some (.inl 4) ∧ ∃ b2, (zs_R S 4000 p0) = some b2 ∧ zs_K S b2 = some (.inl 5) ∧ zs_C X d 5004 [.ref b2] S (zs_kV (fun S5 => (zs_U X d 4115 350 [(0, .ref p0), (3, va_rf p3), (7, .int (0 : Int32))] [] S5 Q)) Q))
theorem u_X5_cases_340 {σ : Nat → Nat} {n0 : Nat} {bf : ab_B} {d : Nat} {p0 : Nat} {p3 : Option Nat} {S : zs_T} {Q : zs_Q} (hB : zt_B bf) (h : w_X5_cases_340 (zx σ n0 bf) d p0 p3 S Q) : zs_U (zx σ n0 bf) d 4115 340 [(0, .ref p0), (3, va_rf p3)] [] S Q := by
  unfold w_X5_cases_340 at h
  refine zu_aload_n d_4115_340 rfl (zs_ra _) ?_
  obtain ⟨k1, h⟩ := h
  refine zg_4_5 rfl d_4115_341 k1 ?_
  obtain ⟨b2, e3, h⟩ := h
  refine zs_stk0 (zs_rfe e3) ?_
  obtain ⟨k4, h⟩ := h
  refine zc_4_29  hB rfl k4 d_4115_344 (Nat.le_of_ble_eq_true rfl) h (fun S5 h => ?_)
  refine zu_iconst d_4115_347 zi_0 ?_
  refine zu_istore d_4115_348 (zs_lt zq_4115 rfl) ?_
  exact h.weak ⟨rfl, rfl, rfl, trivial⟩
def w_X5_cases_311 (X : zs_X) (d : Nat) (p0 : Nat) (p3 : Option Nat) (S : zs_T) (Q : zs_Q) : Prop :=
  (w_X5_cases_340 X d p0 p3 S Q)
theorem u_X5_cases_311 {σ : Nat → Nat} {n0 : Nat} {bf : ab_B} {d : Nat} {p0 : Nat} {p3 : Option Nat} {S : zs_T} {Q : zs_Q} (hB : zt_B bf) (h : w_X5_cases_311 (zx σ n0 bf) d p0 p3 S Q) : zs_U (zx σ n0 bf) d 4115 311 [(0, .ref p0), (3, va_rf p3)] [] S Q := by
  unfold w_X5_cases_311 at h
  refine zu_goto (t := 340) d_4115_311 rfl ?_
  exact (u_X5_cases_340 hB h).weak ⟨rfl, rfl, trivial⟩
def w_X5_cases_132 (X : zs_X) (d : Nat) (p0 : Nat) (p1 : Int32) (p3 : Option Nat) (p4 : Option Nat) (p5 : Option Nat) (p7 : Int32) (S : zs_T) (Q : zs_Q) : Prop :=
  (zs_U X d 4115 136 [(0, .ref p0), (1, .int p1), (3, va_rf p3), (4, va_rf p4), (5, va_rf p5), (8, .int p7)] [] S Q)
theorem u_X5_cases_132 {σ : Nat → Nat} {n0 : Nat} {bf : ab_B} {d : Nat} {p0 : Nat} {p1 : Int32} {p3 : Option Nat} {p4 : Option Nat} {p5 : Option Nat} {p7 : Int32} {S : zs_T} {Q : zs_Q} (hB : zt_B bf) (h : w_X5_cases_132 (zx σ n0 bf) d p0 p1 p3 p4 p5 p7 S Q) : zs_U (zx σ n0 bf) d 4115 132 [(0, .ref p0), (1, .int p1), (3, va_rf p3), (4, va_rf p4), (5, va_rf p5), (7, .int p7)] [] S Q := by
  unfold w_X5_cases_132 at h
  refine zu_iload d_4115_132 rfl ?_
  refine zu_istore d_4115_134 (zs_lt zq_4115 rfl) ?_
  exact h.weak ⟨rfl, rfl, rfl, rfl, rfl, rfl, trivial⟩
def w_X5_cases_84 (X : zs_X) (d : Nat) (p0 : Nat) (p1 : Int32) (p3 : Option Nat) (p4 : Option Nat) (p5 : Option Nat) (p6 : Int32) (S : zs_T) (Q : zs_Q) : Prop :=
  (((p6 = 0 → (zs_K S p0 = some (.inl 4) ∧ ∃ b3, (zs_R S 4000 p0) = some b3 ∧ zs_K S b3 = some (.inl 5) ∧ zs_C X d 5015 [.ref b3, .int (21 : Int32)] S (zs_kI (fun v7 S6 => (((v7 = 0 → (zs_K S6 p0 = some (.inl 4) ∧ ∃ b10, (zs_R S6 4000 p0) = some b10 ∧ zs_K S6 b10 = some (.inl 5) ∧ zs_C X d 5015 [.ref b10, .int (8 : Int32)] S6 (zs_kI (fun v14 S13 => (((¬ v14 = 0 → (zs_K S13 p0 = some (.inl 4) ∧ zs_C X d 4094 [.ref p0, .int (42 : Int32), .int p1] S13 (zs_kI (fun v18 S17 => (w_X5_cases_340 X d p0 p3 S17 Q)) Q))) ∧ (¬ (¬ v14 = 0) → (zs_K S13 p0 = some (.inl 4) ∧ zs_C X d 4006 [.ref p0, .int (2 : Int32)] S13 (zs_kR (fun v21 S20 => (∃ b22, v21 = some b22 ∧ Q (.threw b22) S20)) Q)))))) Q))) ∧ (¬ (v7 = 0) → (zs_K S6 p0 = some (.inl 4) ∧ ∃ b25, (zs_R S6 4000 p0) = some b25 ∧ zs_K S6 b25 = some (.inl 5) ∧ zs_C X d 5004 [.ref b25] S6 (zs_kV (fun S28 => (zs_K S28 p0 = some (.inl 4) ∧ zs_C X d 4094 [.ref p0, .int (55 : Int32), .int p1] S28 (zs_kI (fun v32 S31 => (zs_K S31 p0 = some (.inl 4) ∧ zs_C X d 4105 [.ref p0, .int (8 : Int32)] S31 (zs_kV (fun S34 => w_X5_cases_311 X d p0 p3 S34 Q) Q))) Q))) Q)))))) Q))) ∧ (¬ (p6 = 0) → (∃ b36, p4 = some b36 ∧ zs_K S b36 = some (.inl 15) ∧ ∃ b39, (zs_R S 15001 b36) = some b39 ∧ zs_K S b39 = some (.inl 16) ∧ zs_C X d 16001 [.ref b39] S (zs_kI (fun v43 S42 => (zs_K S42 p0 = some (.inl 4) ∧ zs_C X d 4082 [.ref p0, va_rf p5, va_rf none, va_rf p4] S42 (zs_kV (fun S45 => (zs_K S45 p0 = some (.inl 4) ∧ zs_C X d 4008 [.ref p0, .int (58 : Int32)] S45 (zs_kV (fun S48 => (zs_K S48 b36 = some (.inl 15) ∧ ∃ b51, (zs_R S48 15001 b36) = some b51 ∧ zs_K S48 b51 = some (.inl 16) ∧ zs_C X d 16001 [.ref b51] S48 (zs_kI (fun v55 S54 => (zs_K S54 p0 = some (.inl 4) ∧ zs_C X d 4097 [.ref p0, .int (41 : Int32), .int p1, .int (v55 - v43)] S54 (zs_kV (fun S57 => w_X5_cases_132 X d p0 p1 p3 p4 p5 v43 S57 Q) Q))) Q))) Q))) Q))) Q)))))
theorem u_X5_cases_84 {σ : Nat → Nat} {n0 : Nat} {bf : ab_B} {d : Nat} {p0 : Nat} {p1 : Int32} {p3 : Option Nat} {p4 : Option Nat} {p5 : Option Nat} {p6 : Int32} {S : zs_T} {Q : zs_Q} (hB : zt_B bf) (h : w_X5_cases_84 (zx σ n0 bf) d p0 p1 p3 p4 p5 p6 S Q) : zs_U (zx σ n0 bf) d 4115 84 [(0, .ref p0), (1, .int p1), (3, va_rf p3), (4, va_rf p4), (5, va_rf p5), (6, .int p6)] [] S Q := by
  unfold w_X5_cases_84 at h
  refine zu_iload d_4115_84 rfl ?_
  refine zu_ifeq (t := 278) d_4115_86 rfl (fun c1 => ?_) (fun c1 => ?_)
  · have h := h.1 c1
    refine zu_aload_n d_4115_278 rfl (zs_ra _) ?_
    obtain ⟨k2, h⟩ := h
    refine zg_4_5 rfl d_4115_279 k2 ?_
    refine zu_bipush d_4115_282 zj_21 ?_
    obtain ⟨b3, e4, h⟩ := h
    refine zs_stk1 (zs_rfe e4) ?_
    obtain ⟨k5, h⟩ := h
    refine zc_4_33 (x0 := (21 : Int32)) hB rfl k5 d_4115_284 (Nat.le_of_ble_eq_true rfl) h (fun v7 S6 h => ?_)
    refine zu_ifeq (t := 314) d_4115_287 rfl (fun c8 => ?_) (fun c8 => ?_)
    · have h := h.1 c8
      refine zu_aload_n d_4115_314 rfl (zs_ra _) ?_
      obtain ⟨k9, h⟩ := h
      refine zg_4_5 rfl d_4115_315 k9 ?_
      refine zu_bipush d_4115_318 zj_8 ?_
      obtain ⟨b10, e11, h⟩ := h
      refine zs_stk1 (zs_rfe e11) ?_
      obtain ⟨k12, h⟩ := h
      refine zc_4_33 (x0 := (8 : Int32)) hB rfl k12 d_4115_320 (Nat.le_of_ble_eq_true rfl) h (fun v14 S13 h => ?_)
      refine zu_ifne (t := 332) d_4115_323 rfl (fun c15 => ?_) (fun c15 => ?_)
      · have h := h.1 c15
        refine zu_aload_n d_4115_332 rfl (zs_ra _) ?_
        refine zu_bipush d_4115_333 zj_42 ?_
        refine zu_iload_n d_4115_335 rfl ?_
        obtain ⟨k16, h⟩ := h
        refine zc_4_273 (x0 := (42 : Int32)) (x1 := p1) hB rfl k16 d_4115_336 (Nat.le_of_ble_eq_true rfl) h (fun v18 S17 h => ?_)
        refine zu_pop d_4115_339 rfl ?_
        exact (u_X5_cases_340 hB h).weak ⟨rfl, rfl, trivial⟩
      · have h := h.2 c15
        refine zu_aload_n d_4115_326 rfl (zs_ra _) ?_
        refine zu_iconst d_4115_327 zi_2 ?_
        obtain ⟨k19, h⟩ := h
        refine zc_4_25 (x0 := (2 : Int32)) hB rfl k19 d_4115_328 (Nat.le_of_ble_eq_true rfl) h (fun v21 S20 h => ?_)
        obtain ⟨b22, e23, h⟩ := h
        refine zs_stk0 (zs_rfe e23) ?_
        exact zu_throw d_4115_331 h
    · have h := h.2 c8
      refine zu_aload_n d_4115_290 rfl (zs_ra _) ?_
      obtain ⟨k24, h⟩ := h
      refine zg_4_5 rfl d_4115_291 k24 ?_
      obtain ⟨b25, e26, h⟩ := h
      refine zs_stk0 (zs_rfe e26) ?_
      obtain ⟨k27, h⟩ := h
      refine zc_4_29  hB rfl k27 d_4115_294 (Nat.le_of_ble_eq_true rfl) h (fun S28 h => ?_)
      refine zu_aload_n d_4115_297 rfl (zs_ra _) ?_
      refine zu_bipush d_4115_298 zj_55 ?_
      refine zu_iload_n d_4115_300 rfl ?_
      obtain ⟨k30, h⟩ := h
      refine zc_4_273 (x0 := (55 : Int32)) (x1 := p1) hB rfl k30 d_4115_301 (Nat.le_of_ble_eq_true rfl) h (fun v32 S31 h => ?_)
      refine zu_pop d_4115_304 rfl ?_
      refine zu_aload_n d_4115_305 rfl (zs_ra _) ?_
      refine zu_bipush d_4115_306 zj_8 ?_
      obtain ⟨k33, h⟩ := h
      refine zc_4_287 (x0 := (8 : Int32)) hB rfl k33 d_4115_308 (Nat.le_of_ble_eq_true rfl) h (fun S34 h => ?_)
      exact (u_X5_cases_311 hB h).weak ⟨rfl, rfl, trivial⟩
  · have h := h.2 c1
    refine zu_aload d_4115_89 rfl (zs_rr _) ?_
    obtain ⟨b36, e37, h⟩ := h
    refine zs_stk0 (zs_rfe e37) ?_
    obtain ⟨k38, h⟩ := h
    refine zg_4_517 rfl d_4115_91 k38 ?_
    obtain ⟨b39, e40, h⟩ := h
    refine zs_stk0 (zs_rfe e40) ?_
    obtain ⟨k41, h⟩ := h
    refine zc_4_50  hB rfl k41 d_4115_94 (Nat.le_of_ble_eq_true rfl) h (fun v43 S42 h => ?_)
    refine zu_istore d_4115_97 (zs_lt zq_4115 rfl) ?_
    refine zu_aload_n d_4115_99 rfl (zs_ra _) ?_
    refine zu_aload d_4115_100 rfl (zs_rr _) ?_
    refine zu_stk d_4115_102 rfl rfl ?_
    refine zu_aload d_4115_103 rfl (zs_rr _) ?_
    obtain ⟨k44, h⟩ := h
    refine zc_4_508 (x0 := p5) (x1 := none) (x2 := p4) hB rfl k44 d_4115_105 (Nat.le_of_ble_eq_true rfl) h (fun S45 h => ?_)
    refine zu_aload_n d_4115_108 rfl (zs_ra _) ?_
    refine zu_bipush d_4115_109 zj_58 ?_
    obtain ⟨k47, h⟩ := h
    refine zc_4_224 (x0 := (58 : Int32)) hB rfl k47 d_4115_111 (Nat.le_of_ble_eq_true rfl) h (fun S48 h => ?_)
    refine zu_aload_n d_4115_114 rfl (zs_ra _) ?_
    refine zu_bipush d_4115_115 zj_41 ?_
    refine zu_iload_n d_4115_117 rfl ?_
    refine zu_aload d_4115_118 rfl (zs_rr _) ?_
    refine zs_stk0 (zs_rfe e37) ?_
    obtain ⟨k50, h⟩ := h
    refine zg_4_517 rfl d_4115_120 k50 ?_
    obtain ⟨b51, e52, h⟩ := h
    refine zs_stk0 (zs_rfe e52) ?_
    obtain ⟨k53, h⟩ := h
    refine zc_4_50  hB rfl k53 d_4115_123 (Nat.le_of_ble_eq_true rfl) h (fun v55 S54 h => ?_)
    refine zu_iload d_4115_126 rfl ?_
    refine zu_stk d_4115_128 rfl rfl ?_
    obtain ⟨k56, h⟩ := h
    refine zc_4_712 (x0 := (41 : Int32)) (x1 := p1) (x2 := (v55 - v43)) hB rfl k56 d_4115_129 (Nat.le_of_ble_eq_true rfl) h (fun S57 h => ?_)
    exact (u_X5_cases_132 hB h).weak ⟨rfl, rfl, rfl, rfl, rfl, rfl, trivial⟩
def w_X5_cases_239 (X : zs_X) (d : Nat) (p0 : Nat) (p1 : Int32) (p3 : Option Nat) (p4 : Option Nat) (p5 : Option Nat) (p6 : Int32) (S : zs_T) (Q : zs_Q) : Prop :=
  (((p6 = 0 → (zs_U X d 4115 84 [(0, .ref p0), (1, .int p1), (3, va_rf p3), (4, va_rf p4), (5, va_rf p5), (6, .int (0 : Int32))] [] S Q)) ∧ (¬ (p6 = 0) → (zs_K S p0 = some (.inl 4) ∧ ∃ b3, (zs_R S 4000 p0) = some b3 ∧ zs_K S b3 = some (.inl 5) ∧ zs_C X d 5015 [.ref b3, .int (8 : Int32)] S (zs_kI (fun v7 S6 => (((¬ v7 = 0 → (zs_U X d 4115 84 [(0, .ref p0), (1, .int p1), (3, va_rf p3), (4, va_rf p4), (5, va_rf p5), (6, .int (0 : Int32))] [] S6 Q)) ∧ (¬ (¬ v7 = 0) → (zs_K S6 p0 = some (.inl 4) ∧ ∃ b10, (zs_R S6 4000 p0) = some b10 ∧ zs_K S6 b10 = some (.inl 5) ∧ zs_C X d 5015 [.ref b10, .int (21 : Int32)] S6 (zs_kI (fun v14 S13 => (((¬ v14 = 0 → (zs_U X d 4115 84 [(0, .ref p0), (1, .int p1), (3, va_rf p3), (4, va_rf p4), (5, va_rf p5), (6, .int (0 : Int32))] [] S13 Q)) ∧ (¬ (¬ v14 = 0) → (zs_U X d 4115 84 [(0, .ref p0), (1, .int p1), (3, va_rf p3), (4, va_rf p4), (5, va_rf p5), (6, .int (1 : Int32))] [] S13 Q))))) Q)))))) Q)))))
theorem u_X5_cases_239 {σ : Nat → Nat} {n0 : Nat} {bf : ab_B} {d : Nat} {p0 : Nat} {p1 : Int32} {p3 : Option Nat} {p4 : Option Nat} {p5 : Option Nat} {p6 : Int32} {S : zs_T} {Q : zs_Q} (hB : zt_B bf) (h : w_X5_cases_239 (zx σ n0 bf) d p0 p1 p3 p4 p5 p6 S Q) : zs_U (zx σ n0 bf) d 4115 239 [(0, .ref p0), (1, .int p1), (3, va_rf p3), (4, va_rf p4), (5, va_rf p5), (6, .int p6)] [] S Q := by
  unfold w_X5_cases_239 at h
  refine zu_iload d_4115_239 rfl ?_
  refine zu_ifeq (t := 272) d_4115_241 rfl (fun c1 => ?_) (fun c1 => ?_)
  · have h := h.1 c1
    refine zu_iconst d_4115_272 zi_0 ?_
    refine zu_istore d_4115_273 (zs_lt zq_4115 rfl) ?_
    refine zs_U.weak (L1 := [(6, .int (0 : Int32)), (0, .ref p0), (1, .int p1), (3, va_rf p3), (4, va_rf p4), (5, va_rf p5)]) ?_ ⟨rfl, zs_gp1 rfl (Or.inl rfl) rfl, zs_gp1 rfl (Or.inl rfl) rfl, zs_gp1 rfl (Or.inl (zs_cat _)) rfl, zs_gp1 rfl (Or.inl (zs_cat _)) rfl, zs_gp1 rfl (Or.inl (zs_cat _)) rfl, trivial⟩
    refine zu_goto (t := 84) d_4115_275 rfl ?_
    exact h.weak ⟨rfl, rfl, rfl, rfl, rfl, rfl, trivial⟩
  · have h := h.2 c1
    refine zu_aload_n d_4115_244 rfl (zs_ra _) ?_
    obtain ⟨k2, h⟩ := h
    refine zg_4_5 rfl d_4115_245 k2 ?_
    refine zu_bipush d_4115_248 zj_8 ?_
    obtain ⟨b3, e4, h⟩ := h
    refine zs_stk1 (zs_rfe e4) ?_
    obtain ⟨k5, h⟩ := h
    refine zc_4_33 (x0 := (8 : Int32)) hB rfl k5 d_4115_250 (Nat.le_of_ble_eq_true rfl) h (fun v7 S6 h => ?_)
    refine zu_ifne (t := 272) d_4115_253 rfl (fun c8 => ?_) (fun c8 => ?_)
    · have h := h.1 c8
      refine zu_iconst d_4115_272 zi_0 ?_
      refine zu_istore d_4115_273 (zs_lt zq_4115 rfl) ?_
      refine zs_U.weak (L1 := [(6, .int (0 : Int32)), (0, .ref p0), (1, .int p1), (3, va_rf p3), (4, va_rf p4), (5, va_rf p5)]) ?_ ⟨rfl, zs_gp1 rfl (Or.inl rfl) rfl, zs_gp1 rfl (Or.inl rfl) rfl, zs_gp1 rfl (Or.inl (zs_cat _)) rfl, zs_gp1 rfl (Or.inl (zs_cat _)) rfl, zs_gp1 rfl (Or.inl (zs_cat _)) rfl, trivial⟩
      refine zu_goto (t := 84) d_4115_275 rfl ?_
      exact h.weak ⟨rfl, rfl, rfl, rfl, rfl, rfl, trivial⟩
    · have h := h.2 c8
      refine zu_aload_n d_4115_256 rfl (zs_ra _) ?_
      obtain ⟨k9, h⟩ := h
      refine zg_4_5 rfl d_4115_257 k9 ?_
      refine zu_bipush d_4115_260 zj_21 ?_
      obtain ⟨b10, e11, h⟩ := h
      refine zs_stk1 (zs_rfe e11) ?_
      obtain ⟨k12, h⟩ := h
      refine zc_4_33 (x0 := (21 : Int32)) hB rfl k12 d_4115_262 (Nat.le_of_ble_eq_true rfl) h (fun v14 S13 h => ?_)
      refine zu_ifne (t := 272) d_4115_265 rfl (fun c15 => ?_) (fun c15 => ?_)
      · have h := h.1 c15
        refine zu_iconst d_4115_272 zi_0 ?_
        refine zu_istore d_4115_273 (zs_lt zq_4115 rfl) ?_
        refine zs_U.weak (L1 := [(6, .int (0 : Int32)), (0, .ref p0), (1, .int p1), (3, va_rf p3), (4, va_rf p4), (5, va_rf p5)]) ?_ ⟨rfl, zs_gp1 rfl (Or.inl rfl) rfl, zs_gp1 rfl (Or.inl rfl) rfl, zs_gp1 rfl (Or.inl (zs_cat _)) rfl, zs_gp1 rfl (Or.inl (zs_cat _)) rfl, zs_gp1 rfl (Or.inl (zs_cat _)) rfl, trivial⟩
        refine zu_goto (t := 84) d_4115_275 rfl ?_
        exact h.weak ⟨rfl, rfl, rfl, rfl, rfl, rfl, trivial⟩
      · have h := h.2 c15
        refine zu_iconst d_4115_268 zi_1 ?_
        refine zu_goto (t := 273) d_4115_269 rfl ?_
        refine zu_istore d_4115_273 (zs_lt zq_4115 rfl) ?_
        refine zs_U.weak (L1 := [(6, .int (1 : Int32)), (0, .ref p0), (1, .int p1), (3, va_rf p3), (4, va_rf p4), (5, va_rf p5)]) ?_ ⟨rfl, zs_gp1 rfl (Or.inl rfl) rfl, zs_gp1 rfl (Or.inl rfl) rfl, zs_gp1 rfl (Or.inl (zs_cat _)) rfl, zs_gp1 rfl (Or.inl (zs_cat _)) rfl, zs_gp1 rfl (Or.inl (zs_cat _)) rfl, trivial⟩
        refine zu_goto (t := 84) d_4115_275 rfl ?_
        exact h.weak ⟨rfl, rfl, rfl, rfl, rfl, rfl, trivial⟩
def w_X5_cases_209 (X : zs_X) (d : Nat) (p0 : Nat) (p1 : Int32) (p3 : Option Nat) (p4 : Option Nat) (p5 : Option Nat) (p8 : Int32) (S : zs_T) (Q : zs_Q) : Prop :=
  (zs_K S p0 = some (.inl 4) ∧ zs_C X d 4110 [.ref p0, .int p8, .int (1 : Int32)] S (zs_kV (fun S2 => (zs_K S2 p0 = some (.inl 4) ∧ ∃ b5, (zs_R S2 4000 p0) = some b5 ∧ zs_K S2 b5 = some (.inl 5) ∧ zs_C X d 5017 [.ref b5, .int (59 : Int32)] S2 (zs_kI (fun v9 S8 => (((v9 = 0 → w_X5_cases_239 X d p0 p1 p3 p4 p5 v9 S8 Q) ∧ (¬ (v9 = 0) → (zs_K S8 p0 = some (.inl 4) ∧ ∃ b12, (zs_R S8 4000 p0) = some b12 ∧ zs_K S8 b12 = some (.inl 5) ∧ zs_C X d 5004 [.ref b12] S8 (zs_kV (fun S15 => w_X5_cases_239 X d p0 p1 p3 p4 p5 v9 S15 Q) Q)))))) Q))) Q))
theorem u_X5_cases_209 {σ : Nat → Nat} {n0 : Nat} {bf : ab_B} {d : Nat} {p0 : Nat} {p1 : Int32} {p3 : Option Nat} {p4 : Option Nat} {p5 : Option Nat} {p8 : Int32} {S : zs_T} {Q : zs_Q} (hB : zt_B bf) (h : w_X5_cases_209 (zx σ n0 bf) d p0 p1 p3 p4 p5 p8 S Q) : zs_U (zx σ n0 bf) d 4115 209 [(0, .ref p0), (1, .int p1), (3, va_rf p3), (4, va_rf p4), (5, va_rf p5), (8, .int p8)] [] S Q := by
  unfold w_X5_cases_209 at h
  refine zu_aload_n d_4115_209 rfl (zs_ra _) ?_
  refine zu_iload d_4115_210 rfl ?_
  refine zu_iconst d_4115_212 zi_1 ?_
  obtain ⟨k1, h⟩ := h
  refine zc_4_778 (x0 := p8) (x1 := (1 : Int32)) hB rfl k1 d_4115_213 (Nat.le_of_ble_eq_true rfl) h (fun S2 h => ?_)
  refine zu_aload_n d_4115_216 rfl (zs_ra _) ?_
  obtain ⟨k4, h⟩ := h
  refine zg_4_5 rfl d_4115_217 k4 ?_
  refine zu_bipush d_4115_220 zj_59 ?_
  obtain ⟨b5, e6, h⟩ := h
  refine zs_stk1 (zs_rfe e6) ?_
  obtain ⟨k7, h⟩ := h
  refine zc_4_21 (x0 := (59 : Int32)) hB rfl k7 d_4115_222 (Nat.le_of_ble_eq_true rfl) h (fun v9 S8 h => ?_)
  refine zu_istore d_4115_225 (zs_lt zq_4115 rfl) ?_
  refine zs_U.weak (L1 := [(6, .int v9), (0, .ref p0), (1, .int p1), (3, va_rf p3), (4, va_rf p4), (5, va_rf p5), (8, .int p8)]) ?_ ⟨rfl, zs_gp1 rfl (Or.inl rfl) rfl, zs_gp1 rfl (Or.inl rfl) rfl, zs_gp1 rfl (Or.inl (zs_cat _)) rfl, zs_gp1 rfl (Or.inl (zs_cat _)) rfl, zs_gp1 rfl (Or.inl (zs_cat _)) rfl, zs_gp1 rfl (Or.inl rfl) rfl, trivial⟩
  refine zu_iload d_4115_227 rfl ?_
  refine zu_ifeq (t := 239) d_4115_229 rfl (fun c10 => ?_) (fun c10 => ?_)
  · have h := h.1 c10
    exact (u_X5_cases_239 hB h).weak ⟨rfl, rfl, rfl, rfl, rfl, rfl, trivial⟩
  · have h := h.2 c10
    refine zu_aload_n d_4115_232 rfl (zs_ra _) ?_
    obtain ⟨k11, h⟩ := h
    refine zg_4_5 rfl d_4115_233 k11 ?_
    obtain ⟨b12, e13, h⟩ := h
    refine zs_stk0 (zs_rfe e13) ?_
    obtain ⟨k14, h⟩ := h
    refine zc_4_29  hB rfl k14 d_4115_236 (Nat.le_of_ble_eq_true rfl) h (fun S15 h => ?_)
    exact (u_X5_cases_239 hB h).weak ⟨rfl, rfl, rfl, rfl, rfl, rfl, trivial⟩
def w_X5_cases_174 (X : zs_X) (d : Nat) (p0 : Nat) (p1 : Int32) (p3 : Option Nat) (p4 : Option Nat) (p5 : Option Nat) (p8 : Int32) (S : zs_T) (Q : zs_Q) : Prop :=
  (zs_U X d 4115 136 [(0, .ref p0), (1, .int p1), (3, va_rf p3), (4, va_rf p4), (5, va_rf p5), (8, .int (p8 + (1 : Int32)))] [] S Q)
theorem u_X5_cases_174 {σ : Nat → Nat} {n0 : Nat} {bf : ab_B} {d : Nat} {p0 : Nat} {p1 : Int32} {p3 : Option Nat} {p4 : Option Nat} {p5 : Option Nat} {p8 : Int32} {S : zs_T} {Q : zs_Q} (hB : zt_B bf) (h : w_X5_cases_174 (zx σ n0 bf) d p0 p1 p3 p4 p5 p8 S Q) : zs_U (zx σ n0 bf) d 4115 174 [(0, .ref p0), (1, .int p1), (3, va_rf p3), (4, va_rf p4), (5, va_rf p5), (8, .int p8)] [] S Q := by
  unfold w_X5_cases_174 at h
  refine zu_iinc d_4115_174 rfl zi_1 (zs_lt zq_4115 rfl) ?_
  refine zu_goto (t := 136) d_4115_177 rfl ?_
  exact h.weak ⟨rfl, rfl, rfl, rfl, rfl, rfl, trivial⟩
def w_X5_cases_136 (X : zs_X) (d : Nat) (p0 : Nat) (p1 : Int32) (p3 : Option Nat) (p4 : Option Nat) (p5 : Option Nat) (p8 : Int32) (S : zs_T) (Q : zs_Q) : Prop :=
  (∃ b1, p4 = some b1 ∧ zs_K S b1 = some (.inl 15) ∧ ∃ b4, (zs_R S 15001 b1) = some b4 ∧ zs_K S b4 = some (.inl 16) ∧ zs_C X d 16001 [.ref b4] S (zs_kI (fun v8 S7 => (((v8 ≤ p8 → (zs_K S7 p0 = some (.inl 4) ∧ ∃ b11, (zs_R S7 4001 p0) = some b11 ∧ zs_K S7 b11 = some (.inl 3) ∧ zs_C X d 3002 [.ref b11, .int (0 : Int32)] S7 (zs_kI (fun v15 S14 => (zs_K S14 p0 = some (.inl 4) ∧ zs_C X d 4106 [.ref p0] S14 (zs_kV (fun S17 => (zs_K S17 p0 = some (.inl 4) ∧ zs_C X d 4109 [.ref p0, .int (37 : Int32), .int p1] S17 (zs_kI (fun v21 S20 => (zs_C X d 21001 [.int v21] S20 (zs_kR (fun v23 S22 => (∃ b24, p3 = some b24 ∧ zs_K S22 b24 = some (.inl 16) ∧ zs_C X d 16002 [.ref b24, va_rf v23] S22 (zs_kI (fun v28 S27 => (w_X5_cases_209 X d p0 p1 p3 p4 p5 v15 S27 Q)) Q))) Q))) Q))) Q))) Q))) ∧ (¬ (v8 ≤ p8) → (zs_K S7 p0 = some (.inl 4) ∧ zs_K S7 b1 = some (.inl 15) ∧ ∃ b31, (zs_R S7 15001 b1) = some b31 ∧ zs_K S7 b31 = some (.inl 16) ∧ zs_C X d 16009 [.ref b31, .int p8] S7 (zs_kR (fun v35 S34 => ((∀ a, v35 = some a → zs_K S34 a = some (.inl 22)) ∧ ∃ b37, v35 = some b37 ∧ zs_K S34 b37 = some (.inl 22) ∧ zs_C X d 22000 [.ref b37] S34 (zs_kJ (fun v41 S40 => (∃ b42, (zs_R S7 4001 p0) = some b42 ∧ zs_K S40 b42 = some (.inl 3) ∧ zs_C X d 3002 [.ref b42, .int ((v41).toInt32)] S40 (zs_kI (fun v46 S45 => (w_X5_cases_174 X d p0 p1 p3 p4 p5 p8 S45 Q)) Q))) Q))) Q)))))) Q))
theorem u_X5_cases_136 {σ : Nat → Nat} {n0 : Nat} {bf : ab_B} {d : Nat} {p0 : Nat} {p1 : Int32} {p3 : Option Nat} {p4 : Option Nat} {p5 : Option Nat} {p8 : Int32} {S : zs_T} {Q : zs_Q} (hB : zt_B bf) (h : w_X5_cases_136 (zx σ n0 bf) d p0 p1 p3 p4 p5 p8 S Q) : zs_U (zx σ n0 bf) d 4115 136 [(0, .ref p0), (1, .int p1), (3, va_rf p3), (4, va_rf p4), (5, va_rf p5), (8, .int p8)] [] S Q := by
  unfold w_X5_cases_136 at h
  refine zu_iload d_4115_136 rfl ?_
  refine zu_aload d_4115_138 rfl (zs_rr _) ?_
  obtain ⟨b1, e2, h⟩ := h
  refine zs_stk0 (zs_rfe e2) ?_
  obtain ⟨k3, h⟩ := h
  refine zg_4_517 rfl d_4115_140 k3 ?_
  obtain ⟨b4, e5, h⟩ := h
  refine zs_stk0 (zs_rfe e5) ?_
  obtain ⟨k6, h⟩ := h
  refine zc_4_50  hB rfl k6 d_4115_143 (Nat.le_of_ble_eq_true rfl) h (fun v8 S7 h => ?_)
  refine zu_cmpge (t := 180) d_4115_146 rfl (fun c9 => ?_) (fun c9 => ?_)
  · have h := h.1 c9
    refine zu_aload_n d_4115_180 rfl (zs_ra _) ?_
    obtain ⟨k10, h⟩ := h
    refine zg_4_128 rfl d_4115_181 k10 ?_
    refine zu_iconst d_4115_184 zi_0 ?_
    obtain ⟨b11, e12, h⟩ := h
    refine zs_stk1 (zs_rfe e12) ?_
    obtain ⟨k13, h⟩ := h
    refine zc_4_709 (x0 := (0 : Int32)) hB rfl k13 d_4115_185 (Nat.le_of_ble_eq_true rfl) h (fun v15 S14 h => ?_)
    refine zu_istore d_4115_188 (zs_lt zq_4115 rfl) ?_
    refine zu_aload_n d_4115_190 rfl (zs_ra _) ?_
    obtain ⟨k16, h⟩ := h
    refine zc_4_744  hB rfl k16 d_4115_191 (Nat.le_of_ble_eq_true rfl) h (fun S17 h => ?_)
    refine zu_aload_n d_4115_194 rfl (zs_rr _) ?_
    refine zu_aload_n d_4115_195 rfl (zs_ra _) ?_
    refine zu_bipush d_4115_196 zj_37 ?_
    refine zu_iload_n d_4115_198 rfl ?_
    obtain ⟨k19, h⟩ := h
    refine zc_4_775 (x0 := (37 : Int32)) (x1 := p1) hB rfl k19 d_4115_199 (by simp only [List.map_cons, List.map_nil, List.sum_cons, List.sum_nil, zs_cat, zs_cI, zs_cJ, zs_cA]; exact Nat.le_of_ble_eq_true rfl) h (fun v21 S20 h => ?_)
    refine zc_4_350 (x0 := v21) hB rfl d_4115_202 (by simp only [List.map_cons, List.map_nil, List.sum_cons, List.sum_nil, zs_cat, zs_cI, zs_cJ, zs_cA]; exact Nat.le_of_ble_eq_true rfl) h (fun v23 S22 h => ?_)
    obtain ⟨b24, e25, h⟩ := h
    refine zs_stk1 (zs_rfe e25) ?_
    obtain ⟨k26, h⟩ := h
    refine zc_4_140 (x0 := v23) hB rfl k26 d_4115_205 (Nat.le_of_ble_eq_true rfl) h (fun v28 S27 h => ?_)
    refine zu_pop d_4115_208 rfl ?_
    exact (u_X5_cases_209 hB h).weak ⟨rfl, rfl, rfl, rfl, rfl, rfl, trivial⟩
  · have h := h.2 c9
    refine zu_aload_n d_4115_149 rfl (zs_ra _) ?_
    obtain ⟨k29, h⟩ := h
    refine zg_4_128 rfl d_4115_150 k29 ?_
    refine zu_aload d_4115_153 rfl (zs_rr _) ?_
    refine zs_stk0 (zs_rfe e2) ?_
    obtain ⟨k30, h⟩ := h
    refine zg_4_517 rfl d_4115_155 k30 ?_
    refine zu_iload d_4115_158 rfl ?_
    obtain ⟨b31, e32, h⟩ := h
    refine zs_stk1 (zs_rfe e32) ?_
    obtain ⟨k33, h⟩ := h
    refine zc_4_56 (x0 := p8) hB rfl k33 d_4115_160 (by simp only [List.map_cons, List.map_nil, List.sum_cons, List.sum_nil, zs_cat, zs_cI, zs_cJ, zs_cA]; exact Nat.le_of_ble_eq_true rfl) h (fun v35 S34 h => ?_)
    obtain ⟨k36, h⟩ := h
    refine zk_4_521 (o := v35) rfl d_4115_163 k36 ?_
    obtain ⟨b37, e38, h⟩ := h
    refine zs_stk0 (zs_rfe e38) ?_
    obtain ⟨k39, h⟩ := h
    refine zc_4_525  hB rfl k39 d_4115_166 (by simp only [List.map_cons, List.map_nil, List.sum_cons, List.sum_nil, zs_cat, zs_cI, zs_cJ, zs_cA]; exact Nat.le_of_ble_eq_true rfl) h (fun v41 S40 h => ?_)
    refine zu_stk d_4115_169 rfl rfl ?_
    obtain ⟨b42, e43, h⟩ := h
    refine zs_stk1 (zs_rfe e43) ?_
    obtain ⟨k44, h⟩ := h
    refine zc_4_709 (x0 := ((v41).toInt32)) hB rfl k44 d_4115_170 (Nat.le_of_ble_eq_true rfl) h (fun v46 S45 h => ?_)
    refine zu_pop d_4115_173 rfl ?_
    exact (u_X5_cases_174 hB h).weak ⟨rfl, rfl, rfl, rfl, rfl, rfl, trivial⟩
def w_X5_cases_350 (X : zs_X) (d : Nat) (p0 : Nat) (p3 : Option Nat) (p7 : Int32) (S : zs_T) (Q : zs_Q) : Prop :=
  (∃ b1, p3 = some b1 ∧ zs_K S b1 = some (.inl 16) ∧ zs_C X d 16001 [.ref b1] S (zs_kI (fun v5 S4 => (((v5 ≤ p7 → (Q (.returned none) S4)) ∧ (¬ (v5 ≤ p7) → (zs_K S4 b1 = some (.inl 16) ∧ zs_C X d 16009 [.ref b1, .int p7] S4 (zs_kR (fun v9 S8 => ((∀ a, v9 = some a → zs_K S8 a = some (.inl 21)) ∧ ∃ b11, v9 = some b11 ∧ zs_K S8 b11 = some (.inl 21) ∧ zs_C X d 21000 [.ref b11] S8 (zs_kI (fun v15 S14 => (zs_K S14 p0 = some (.inl 4) ∧ zs_C X d 4110 [.ref p0, .int v15, .int (1 : Int32)] S14 (zs_kV (fun S17 => (zs_U X d 4115 350 [(0, .ref p0), (3, va_rf p3), (7, .int (p7 + (1 : Int32)))] [] S17 Q)) Q))) Q))) Q)))))) Q))
theorem u_X5_cases_350 {σ : Nat → Nat} {n0 : Nat} {bf : ab_B} {d : Nat} {p0 : Nat} {p3 : Option Nat} {p7 : Int32} {S : zs_T} {Q : zs_Q} (hB : zt_B bf) (h : w_X5_cases_350 (zx σ n0 bf) d p0 p3 p7 S Q) : zs_U (zx σ n0 bf) d 4115 350 [(0, .ref p0), (3, va_rf p3), (7, .int p7)] [] S Q := by
  unfold w_X5_cases_350 at h
  refine zu_iload d_4115_350 rfl ?_
  refine zu_aload_n d_4115_352 rfl (zs_rr _) ?_
  obtain ⟨b1, e2, h⟩ := h
  refine zs_stk0 (zs_rfe e2) ?_
  obtain ⟨k3, h⟩ := h
  refine zc_4_50  hB rfl k3 d_4115_353 (Nat.le_of_ble_eq_true rfl) h (fun v5 S4 h => ?_)
  refine zu_cmpge (t := 382) d_4115_356 rfl (fun c6 => ?_) (fun c6 => ?_)
  · have h := h.1 c6
    exact zu_vret d_4115_382 zr_4115 h
  · have h := h.2 c6
    refine zu_aload_n d_4115_359 rfl (zs_ra _) ?_
    refine zu_aload_n d_4115_360 rfl (zs_rr _) ?_
    refine zu_iload d_4115_361 rfl ?_
    refine zs_stk1 (zs_rfe e2) ?_
    obtain ⟨k7, h⟩ := h
    refine zc_4_56 (x0 := p7) hB rfl k7 d_4115_363 (Nat.le_of_ble_eq_true rfl) h (fun v9 S8 h => ?_)
    obtain ⟨k10, h⟩ := h
    refine zk_4_313 (o := v9) rfl d_4115_366 k10 ?_
    obtain ⟨b11, e12, h⟩ := h
    refine zs_stk0 (zs_rfe e12) ?_
    obtain ⟨k13, h⟩ := h
    refine zc_4_315  hB rfl k13 d_4115_369 (Nat.le_of_ble_eq_true rfl) h (fun v15 S14 h => ?_)
    refine zu_iconst d_4115_372 zi_1 ?_
    obtain ⟨k16, h⟩ := h
    refine zc_4_778 (x0 := v15) (x1 := (1 : Int32)) hB rfl k16 d_4115_373 (Nat.le_of_ble_eq_true rfl) h (fun S17 h => ?_)
    refine zu_iinc d_4115_376 rfl zi_1 (zs_lt zq_4115 rfl) ?_
    refine zu_goto (t := 350) d_4115_379 rfl ?_
    exact h.weak ⟨rfl, rfl, rfl, trivial⟩
def w_X5_cases (X : zs_X) (d : Nat) (p0 : Nat) (S : zs_T) (Q : zs_Q) : Prop :=
  (zs_K S p0 = some (.inl 4) ∧ ∃ b2, (zs_R S 4000 p0) = some b2 ∧ zs_K S b2 = some (.inl 5) ∧ zs_C X d 4094 [.ref p0, .int (0 : Int32), .int (zs_I S 5005 b2)] S (zs_kI (fun v6 S5 => (zs_K S5 p0 = some (.inl 4) ∧ ∃ b8, (zs_R S5 4000 p0) = some b8 ∧ zs_K S5 b8 = some (.inl 5) ∧ zs_C X d 5004 [.ref b8] S5 (zs_kV (fun S11 => (zs_K S11 p0 = some (.inl 4) ∧ zs_C X d 4014 [.ref p0] S11 (zs_kR (fun v15 S14 => (∃ b16, v15 = some b16 ∧ zs_K S14 b16 = some (.inl 11) ∧ ∃ b19, (zs_R S14 11002 b16) = some b19 ∧ zs_K S14 b19 = some (.inl 6) ∧ zs_C X d 6002 [.ref b19] S14 (zs_kI (fun v23 S22 => (((¬ v23 = 0 → w_X5_cases_43 X d p0 (zs_I S 5005 b2) v15 S22 Q) ∧ (¬ (¬ v23 = 0) → w_X5_cases_37 X d p0 S22 Q)))) Q))) Q))) Q))) Q))
theorem u_X5_cases {σ : Nat → Nat} {n0 : Nat} {bf : ab_B} {d : Nat} {p0 : Nat} {S : zs_T} {Q : zs_Q} (hB : zt_B bf) (hd : 1 ≤ d) (h : w_X5_cases (zx σ n0 bf) (d - 1) p0 S Q) : zs_C (zx σ n0 bf) d 4115 [.ref p0] S Q := by
  have hL : lv_args 0 [.ref p0] = [(0, .ref p0)] := rfl
  refine zs_C.of1 (hB.2 4115 (by decide) (by decide)) hd (by rw [hL]; exact zs_sub_self _ (by exact ⟨rfl, trivial⟩)) ?_
  rw [hL]
  clear hL
  unfold w_X5_cases at h
  refine zu_aload_n d_4115_0 rfl (zs_ra _) ?_
  obtain ⟨k1, h⟩ := h
  refine zg_4_5 rfl d_4115_1 k1 ?_
  obtain ⟨b2, e3, h⟩ := h
  refine zs_stk0 (zs_rfe e3) ?_
  obtain ⟨k4, h⟩ := h
  refine zg_4_11 rfl d_4115_4 k4 ?_
  refine zu_istore_n d_4115_7 (zs_lt zq_4115 rfl) ?_
  refine zu_aload_n d_4115_8 rfl (zs_ra _) ?_
  refine zu_iconst d_4115_9 zi_0 ?_
  refine zu_iload_n d_4115_10 rfl ?_
  refine zc_4_273 (x0 := (0 : Int32)) (x1 := (zs_I S 5005 b2)) hB rfl k1 d_4115_11 (Nat.le_of_ble_eq_true rfl) h (fun v6 S5 h => ?_)
  refine zu_pop d_4115_14 rfl ?_
  refine zu_aload_n d_4115_15 rfl (zs_ra _) ?_
  obtain ⟨k7, h⟩ := h
  refine zg_4_5 rfl d_4115_16 k7 ?_
  obtain ⟨b8, e9, h⟩ := h
  refine zs_stk0 (zs_rfe e9) ?_
  obtain ⟨k10, h⟩ := h
  refine zc_4_29  hB rfl k10 d_4115_19 (Nat.le_of_ble_eq_true rfl) h (fun S11 h => ?_)
  refine zu_aload_n d_4115_22 rfl (zs_ra _) ?_
  obtain ⟨k13, h⟩ := h
  refine zc_4_569  hB rfl k13 d_4115_23 (Nat.le_of_ble_eq_true rfl) h (fun v15 S14 h => ?_)
  refine zu_astore_n d_4115_26 (zs_rr _) (zs_lt zq_4115 rfl) ?_
  refine zu_aload_n d_4115_27 rfl (zs_rr _) ?_
  obtain ⟨b16, e17, h⟩ := h
  refine zs_stk0 (zs_rfe e17) ?_
  obtain ⟨k18, h⟩ := h
  refine zg_4_297 rfl d_4115_28 k18 ?_
  obtain ⟨b19, e20, h⟩ := h
  refine zs_stk0 (zs_rfe e20) ?_
  obtain ⟨k21, h⟩ := h
  refine zc_4_335  hB rfl k21 d_4115_31 (Nat.le_of_ble_eq_true rfl) h (fun v23 S22 h => ?_)
  refine zu_ifne (t := 43) d_4115_34 rfl (fun c24 => ?_) (fun c24 => ?_)
  · have h := h.1 c24
    exact (u_X5_cases_43 hB h).weak ⟨rfl, rfl, rfl, trivial⟩
  · have h := h.2 c24
    exact (u_X5_cases_37 hB h).weak ⟨rfl, trivial⟩
/-! SchemaPascal$Reader.with()V -/
theorem zm_4116 {σ : Nat → Nat} {n0 : Nat} {bf : ab_B} : ab_code (zx σ n0 bf).1 4116 = prog_9_method_108_code := rfl
theorem zq_4116 {σ : Nat → Nat} {n0 : Nat} {bf : ab_B} : ab_maxL (zx σ n0 bf).1 4116 = 9 := rfl
theorem zr_4116 {σ : Nat → Nat} {n0 : Nat} {bf : ab_B} : ab_ret (zx σ n0 bf).1 4116 = (Option.none : Option Jvm.ClassFile.FieldType) := rfl
theorem d_4116_0 {σ : Nat → Nat} {n0 : Nat} {bf : ab_B} : decode (ab_code (zx σ n0 bf).1 4116) 0 = .ok (.aload_n 0, 1) := zd zm_4116 (by decide +kernel)
theorem d_4116_1 {σ : Nat → Nat} {n0 : Nat} {bf : ab_B} : decode (ab_code (zx σ n0 bf).1 4116) 1 = .ok (.getfield 46, 3) := zd zm_4116 (by decide +kernel)
theorem d_4116_4 {σ : Nat → Nat} {n0 : Nat} {bf : ab_B} : decode (ab_code (zx σ n0 bf).1 4116) 4 = .ok (.invokevirtual 50, 3) := zd zm_4116 (by decide +kernel)
theorem d_4116_7 {σ : Nat → Nat} {n0 : Nat} {bf : ab_B} : decode (ab_code (zx σ n0 bf).1 4116) 7 = .ok (.istore_n 1, 1) := zd zm_4116 (by decide +kernel)
theorem d_4116_8 {σ : Nat → Nat} {n0 : Nat} {bf : ab_B} : decode (ab_code (zx σ n0 bf).1 4116) 8 = .ok (.aload_n 0, 1) := zd zm_4116 (by decide +kernel)
theorem d_4116_9 {σ : Nat → Nat} {n0 : Nat} {bf : ab_B} : decode (ab_code (zx σ n0 bf).1 4116) 9 = .ok (.getfield 43, 3) := zd zm_4116 (by decide +kernel)
theorem d_4116_12 {σ : Nat → Nat} {n0 : Nat} {bf : ab_B} : decode (ab_code (zx σ n0 bf).1 4116) 12 = .ok (.istore_n 2, 1) := zd zm_4116 (by decide +kernel)
theorem d_4116_13 {σ : Nat → Nat} {n0 : Nat} {bf : ab_B} : decode (ab_code (zx σ n0 bf).1 4116) 13 = .ok (.aload_n 0, 1) := zd zm_4116 (by decide +kernel)
theorem d_4116_14 {σ : Nat → Nat} {n0 : Nat} {bf : ab_B} : decode (ab_code (zx σ n0 bf).1 4116) 14 = .ok (.getfield 197, 3) := zd zm_4116 (by decide +kernel)
theorem d_4116_17 {σ : Nat → Nat} {n0 : Nat} {bf : ab_B} : decode (ab_code (zx σ n0 bf).1 4116) 17 = .ok (.istore_n 3, 1) := zd zm_4116 (by decide +kernel)
theorem d_4116_18 {σ : Nat → Nat} {n0 : Nat} {bf : ab_B} : decode (ab_code (zx σ n0 bf).1 4116) 18 = .ok (.iconst 1, 1) := zd zm_4116 (by decide +kernel)
theorem d_4116_19 {σ : Nat → Nat} {n0 : Nat} {bf : ab_B} : decode (ab_code (zx σ n0 bf).1 4116) 19 = .ok (.istore 4, 2) := zd zm_4116 (by decide +kernel)
theorem d_4116_21 {σ : Nat → Nat} {n0 : Nat} {bf : ab_B} : decode (ab_code (zx σ n0 bf).1 4116) 21 = .ok (.iload 4, 2) := zd zm_4116 (by decide +kernel)
theorem d_4116_23 {σ : Nat → Nat} {n0 : Nat} {bf : ab_B} : decode (ab_code (zx σ n0 bf).1 4116) 23 = .ok (.ifCond .eq 174, 3) := zd zm_4116 (by decide +kernel)
theorem d_4116_26 {σ : Nat → Nat} {n0 : Nat} {bf : ab_B} : decode (ab_code (zx σ n0 bf).1 4116) 26 = .ok (.aload_n 0, 1) := zd zm_4116 (by decide +kernel)
theorem d_4116_27 {σ : Nat → Nat} {n0 : Nat} {bf : ab_B} : decode (ab_code (zx σ n0 bf).1 4116) 27 = .ok (.getfield 5, 3) := zd zm_4116 (by decide +kernel)
theorem d_4116_30 {σ : Nat → Nat} {n0 : Nat} {bf : ab_B} : decode (ab_code (zx σ n0 bf).1 4116) 30 = .ok (.invokevirtual 29, 3) := zd zm_4116 (by decide +kernel)
theorem d_4116_33 {σ : Nat → Nat} {n0 : Nat} {bf : ab_B} : decode (ab_code (zx σ n0 bf).1 4116) 33 = .ok (.aload_n 0, 1) := zd zm_4116 (by decide +kernel)
theorem d_4116_34 {σ : Nat → Nat} {n0 : Nat} {bf : ab_B} : decode (ab_code (zx σ n0 bf).1 4116) 34 = .ok (.invokevirtual 357, 3) := zd zm_4116 (by decide +kernel)
theorem d_4116_37 {σ : Nat → Nat} {n0 : Nat} {bf : ab_B} : decode (ab_code (zx σ n0 bf).1 4116) 37 = .ok (.aload_n 0, 1) := zd zm_4116 (by decide +kernel)
theorem d_4116_38 {σ : Nat → Nat} {n0 : Nat} {bf : ab_B} : decode (ab_code (zx σ n0 bf).1 4116) 38 = .ok (.getfield 5, 3) := zd zm_4116 (by decide +kernel)
theorem d_4116_41 {σ : Nat → Nat} {n0 : Nat} {bf : ab_B} : decode (ab_code (zx σ n0 bf).1 4116) 41 = .ok (.getfield 11, 3) := zd zm_4116 (by decide +kernel)
theorem d_4116_44 {σ : Nat → Nat} {n0 : Nat} {bf : ab_B} : decode (ab_code (zx σ n0 bf).1 4116) 44 = .ok (.istore 5, 2) := zd zm_4116 (by decide +kernel)
theorem d_4116_46 {σ : Nat → Nat} {n0 : Nat} {bf : ab_B} : decode (ab_code (zx σ n0 bf).1 4116) 46 = .ok (.aload_n 0, 1) := zd zm_4116 (by decide +kernel)
theorem d_4116_47 {σ : Nat → Nat} {n0 : Nat} {bf : ab_B} : decode (ab_code (zx σ n0 bf).1 4116) 47 = .ok (.invokevirtual 785, 3) := zd zm_4116 (by decide +kernel)
theorem d_4116_50 {σ : Nat → Nat} {n0 : Nat} {bf : ab_B} : decode (ab_code (zx σ n0 bf).1 4116) 50 = .ok (.astore 6, 2) := zd zm_4116 (by decide +kernel)
theorem d_4116_52 {σ : Nat → Nat} {n0 : Nat} {bf : ab_B} : decode (ab_code (zx σ n0 bf).1 4116) 52 = .ok (.aload 6, 2) := zd zm_4116 (by decide +kernel)
theorem d_4116_54 {σ : Nat → Nat} {n0 : Nat} {bf : ab_B} : decode (ab_code (zx σ n0 bf).1 4116) 54 = .ok (.getfield 297, 3) := zd zm_4116 (by decide +kernel)
theorem d_4116_57 {σ : Nat → Nat} {n0 : Nat} {bf : ab_B} : decode (ab_code (zx σ n0 bf).1 4116) 57 = .ok (.invokevirtual 69, 3) := zd zm_4116 (by decide +kernel)
theorem d_4116_60 {σ : Nat → Nat} {n0 : Nat} {bf : ab_B} : decode (ab_code (zx σ n0 bf).1 4116) 60 = .ok (.astore 7, 2) := zd zm_4116 (by decide +kernel)
theorem d_4116_62 {σ : Nat → Nat} {n0 : Nat} {bf : ab_B} : decode (ab_code (zx σ n0 bf).1 4116) 62 = .ok (.aload 7, 2) := zd zm_4116 (by decide +kernel)
theorem d_4116_64 {σ : Nat → Nat} {n0 : Nat} {bf : ab_B} : decode (ab_code (zx σ n0 bf).1 4116) 64 = .ok (.getfield 369, 3) := zd zm_4116 (by decide +kernel)
theorem d_4116_67 {σ : Nat → Nat} {n0 : Nat} {bf : ab_B} : decode (ab_code (zx σ n0 bf).1 4116) 67 = .ok (.bipush 8, 2) := zd zm_4116 (by decide +kernel)
theorem d_4116_69 {σ : Nat → Nat} {n0 : Nat} {bf : ab_B} : decode (ab_code (zx σ n0 bf).1 4116) 69 = .ok (.if_icmp .eq 9, 3) := zd zm_4116 (by decide +kernel)
theorem d_4116_72 {σ : Nat → Nat} {n0 : Nat} {bf : ab_B} : decode (ab_code (zx σ n0 bf).1 4116) 72 = .ok (.aload_n 0, 1) := zd zm_4116 (by decide +kernel)
theorem d_4116_73 {σ : Nat → Nat} {n0 : Nat} {bf : ab_B} : decode (ab_code (zx σ n0 bf).1 4116) 73 = .ok (.iconst 5, 1) := zd zm_4116 (by decide +kernel)
theorem d_4116_74 {σ : Nat → Nat} {n0 : Nat} {bf : ab_B} : decode (ab_code (zx σ n0 bf).1 4116) 74 = .ok (.invokevirtual 25, 3) := zd zm_4116 (by decide +kernel)
theorem d_4116_77 {σ : Nat → Nat} {n0 : Nat} {bf : ab_B} : decode (ab_code (zx σ n0 bf).1 4116) 77 = .ok (.athrow, 1) := zd zm_4116 (by decide +kernel)
theorem d_4116_78 {σ : Nat → Nat} {n0 : Nat} {bf : ab_B} : decode (ab_code (zx σ n0 bf).1 4116) 78 = .ok (.aload_n 0, 1) := zd zm_4116 (by decide +kernel)
theorem d_4116_79 {σ : Nat → Nat} {n0 : Nat} {bf : ab_B} : decode (ab_code (zx σ n0 bf).1 4116) 79 = .ok (.dup, 1) := zd zm_4116 (by decide +kernel)
theorem d_4116_80 {σ : Nat → Nat} {n0 : Nat} {bf : ab_B} : decode (ab_code (zx σ n0 bf).1 4116) 80 = .ok (.getfield 197, 3) := zd zm_4116 (by decide +kernel)
theorem d_4116_83 {σ : Nat → Nat} {n0 : Nat} {bf : ab_B} : decode (ab_code (zx σ n0 bf).1 4116) 83 = .ok (.aload 7, 2) := zd zm_4116 (by decide +kernel)
theorem d_4116_85 {σ : Nat → Nat} {n0 : Nat} {bf : ab_B} : decode (ab_code (zx σ n0 bf).1 4116) 85 = .ok (.getfield 75, 3) := zd zm_4116 (by decide +kernel)
theorem d_4116_88 {σ : Nat → Nat} {n0 : Nat} {bf : ab_B} : decode (ab_code (zx σ n0 bf).1 4116) 88 = .ok (.invokestatic 788, 3) := zd zm_4116 (by decide +kernel)
theorem d_4116_91 {σ : Nat → Nat} {n0 : Nat} {bf : ab_B} : decode (ab_code (zx σ n0 bf).1 4116) 91 = .ok (.iadd, 1) := zd zm_4116 (by decide +kernel)
theorem d_4116_92 {σ : Nat → Nat} {n0 : Nat} {bf : ab_B} : decode (ab_code (zx σ n0 bf).1 4116) 92 = .ok (.putfield 197, 3) := zd zm_4116 (by decide +kernel)
theorem d_4116_95 {σ : Nat → Nat} {n0 : Nat} {bf : ab_B} : decode (ab_code (zx σ n0 bf).1 4116) 95 = .ok (.aload_n 0, 1) := zd zm_4116 (by decide +kernel)
theorem d_4116_96 {σ : Nat → Nat} {n0 : Nat} {bf : ab_B} : decode (ab_code (zx σ n0 bf).1 4116) 96 = .ok (.getfield 197, 3) := zd zm_4116 (by decide +kernel)
theorem d_4116_99 {σ : Nat → Nat} {n0 : Nat} {bf : ab_B} : decode (ab_code (zx σ n0 bf).1 4116) 99 = .ok (.sipush 4000, 3) := zd zm_4116 (by decide +kernel)
theorem d_4116_102 {σ : Nat → Nat} {n0 : Nat} {bf : ab_B} : decode (ab_code (zx σ n0 bf).1 4116) 102 = .ok (.if_icmp .le 10, 3) := zd zm_4116 (by decide +kernel)
theorem d_4116_105 {σ : Nat → Nat} {n0 : Nat} {bf : ab_B} : decode (ab_code (zx σ n0 bf).1 4116) 105 = .ok (.aload_n 0, 1) := zd zm_4116 (by decide +kernel)
theorem d_4116_106 {σ : Nat → Nat} {n0 : Nat} {bf : ab_B} : decode (ab_code (zx σ n0 bf).1 4116) 106 = .ok (.bipush 8, 2) := zd zm_4116 (by decide +kernel)
theorem d_4116_108 {σ : Nat → Nat} {n0 : Nat} {bf : ab_B} : decode (ab_code (zx σ n0 bf).1 4116) 108 = .ok (.invokevirtual 25, 3) := zd zm_4116 (by decide +kernel)
theorem d_4116_111 {σ : Nat → Nat} {n0 : Nat} {bf : ab_B} : decode (ab_code (zx σ n0 bf).1 4116) 111 = .ok (.athrow, 1) := zd zm_4116 (by decide +kernel)
theorem d_4116_112 {σ : Nat → Nat} {n0 : Nat} {bf : ab_B} : decode (ab_code (zx σ n0 bf).1 4116) 112 = .ok (.aload_n 0, 1) := zd zm_4116 (by decide +kernel)
theorem d_4116_113 {σ : Nat → Nat} {n0 : Nat} {bf : ab_B} : decode (ab_code (zx σ n0 bf).1 4116) 113 = .ok (.aload 6, 2) := zd zm_4116 (by decide +kernel)
theorem d_4116_115 {σ : Nat → Nat} {n0 : Nat} {bf : ab_B} : decode (ab_code (zx σ n0 bf).1 4116) 115 = .ok (.invokevirtual 715, 3) := zd zm_4116 (by decide +kernel)
theorem d_4116_118 {σ : Nat → Nat} {n0 : Nat} {bf : ab_B} : decode (ab_code (zx σ n0 bf).1 4116) 118 = .ok (.aload_n 0, 1) := zd zm_4116 (by decide +kernel)
theorem d_4116_119 {σ : Nat → Nat} {n0 : Nat} {bf : ab_B} : decode (ab_code (zx σ n0 bf).1 4116) 119 = .ok (.iconst (-1), 1) := zd zm_4116 (by decide +kernel)
theorem d_4116_120 {σ : Nat → Nat} {n0 : Nat} {bf : ab_B} : decode (ab_code (zx σ n0 bf).1 4116) 120 = .ok (.bipush 6, 2) := zd zm_4116 (by decide +kernel)
theorem d_4116_122 {σ : Nat → Nat} {n0 : Nat} {bf : ab_B} : decode (ab_code (zx σ n0 bf).1 4116) 122 = .ok (.aload 6, 2) := zd zm_4116 (by decide +kernel)
theorem d_4116_124 {σ : Nat → Nat} {n0 : Nat} {bf : ab_B} : decode (ab_code (zx σ n0 bf).1 4116) 124 = .ok (.getfield 297, 3) := zd zm_4116 (by decide +kernel)
theorem d_4116_127 {σ : Nat → Nat} {n0 : Nat} {bf : ab_B} : decode (ab_code (zx σ n0 bf).1 4116) 127 = .ok (.invokevirtual 165, 3) := zd zm_4116 (by decide +kernel)
theorem d_4116_130 {σ : Nat → Nat} {n0 : Nat} {bf : ab_B} : decode (ab_code (zx σ n0 bf).1 4116) 130 = .ok (.astore 8, 2) := zd zm_4116 (by decide +kernel)
theorem d_4116_132 {σ : Nat → Nat} {n0 : Nat} {bf : ab_B} : decode (ab_code (zx σ n0 bf).1 4116) 132 = .ok (.aload 8, 2) := zd zm_4116 (by decide +kernel)
theorem d_4116_134 {σ : Nat → Nat} {n0 : Nat} {bf : ab_B} : decode (ab_code (zx σ n0 bf).1 4116) 134 = .ok (.aload_n 0, 1) := zd zm_4116 (by decide +kernel)
theorem d_4116_135 {σ : Nat → Nat} {n0 : Nat} {bf : ab_B} : decode (ab_code (zx σ n0 bf).1 4116) 135 = .ok (.getfield 218, 3) := zd zm_4116 (by decide +kernel)
theorem d_4116_138 {σ : Nat → Nat} {n0 : Nat} {bf : ab_B} : decode (ab_code (zx σ n0 bf).1 4116) 138 = .ok (.putfield 107, 3) := zd zm_4116 (by decide +kernel)
theorem d_4116_141 {σ : Nat → Nat} {n0 : Nat} {bf : ab_B} : decode (ab_code (zx σ n0 bf).1 4116) 141 = .ok (.aload 8, 2) := zd zm_4116 (by decide +kernel)
theorem d_4116_143 {σ : Nat → Nat} {n0 : Nat} {bf : ab_B} : decode (ab_code (zx σ n0 bf).1 4116) 143 = .ok (.aload_n 0, 1) := zd zm_4116 (by decide +kernel)
theorem d_4116_144 {σ : Nat → Nat} {n0 : Nat} {bf : ab_B} : decode (ab_code (zx σ n0 bf).1 4116) 144 = .ok (.getfield 218, 3) := zd zm_4116 (by decide +kernel)
theorem d_4116_147 {σ : Nat → Nat} {n0 : Nat} {bf : ab_B} : decode (ab_code (zx σ n0 bf).1 4116) 147 = .ok (.dup, 1) := zd zm_4116 (by decide +kernel)
theorem d_4116_148 {σ : Nat → Nat} {n0 : Nat} {bf : ab_B} : decode (ab_code (zx σ n0 bf).1 4116) 148 = .ok (.getfield 262, 3) := zd zm_4116 (by decide +kernel)
theorem d_4116_151 {σ : Nat → Nat} {n0 : Nat} {bf : ab_B} : decode (ab_code (zx σ n0 bf).1 4116) 151 = .ok (.dup_x1, 1) := zd zm_4116 (by decide +kernel)
theorem d_4116_152 {σ : Nat → Nat} {n0 : Nat} {bf : ab_B} : decode (ab_code (zx σ n0 bf).1 4116) 152 = .ok (.iconst 1, 1) := zd zm_4116 (by decide +kernel)
theorem d_4116_153 {σ : Nat → Nat} {n0 : Nat} {bf : ab_B} : decode (ab_code (zx σ n0 bf).1 4116) 153 = .ok (.iadd, 1) := zd zm_4116 (by decide +kernel)
theorem d_4116_154 {σ : Nat → Nat} {n0 : Nat} {bf : ab_B} : decode (ab_code (zx σ n0 bf).1 4116) 154 = .ok (.putfield 262, 3) := zd zm_4116 (by decide +kernel)
theorem d_4116_157 {σ : Nat → Nat} {n0 : Nat} {bf : ab_B} : decode (ab_code (zx σ n0 bf).1 4116) 157 = .ok (.putfield 104, 3) := zd zm_4116 (by decide +kernel)
theorem d_4116_160 {σ : Nat → Nat} {n0 : Nat} {bf : ab_B} : decode (ab_code (zx σ n0 bf).1 4116) 160 = .ok (.aload 8, 2) := zd zm_4116 (by decide +kernel)
theorem d_4116_162 {σ : Nat → Nat} {n0 : Nat} {bf : ab_B} : decode (ab_code (zx σ n0 bf).1 4116) 162 = .ok (.aload 6, 2) := zd zm_4116 (by decide +kernel)
theorem d_4116_164 {σ : Nat → Nat} {n0 : Nat} {bf : ab_B} : decode (ab_code (zx σ n0 bf).1 4116) 164 = .ok (.invokestatic 703, 3) := zd zm_4116 (by decide +kernel)
theorem d_4116_167 {σ : Nat → Nat} {n0 : Nat} {bf : ab_B} : decode (ab_code (zx σ n0 bf).1 4116) 167 = .ok (.putfield 111, 3) := zd zm_4116 (by decide +kernel)
theorem d_4116_170 {σ : Nat → Nat} {n0 : Nat} {bf : ab_B} : decode (ab_code (zx σ n0 bf).1 4116) 170 = .ok (.aload_n 0, 1) := zd zm_4116 (by decide +kernel)
theorem d_4116_171 {σ : Nat → Nat} {n0 : Nat} {bf : ab_B} : decode (ab_code (zx σ n0 bf).1 4116) 171 = .ok (.bipush 15, 2) := zd zm_4116 (by decide +kernel)
theorem d_4116_173 {σ : Nat → Nat} {n0 : Nat} {bf : ab_B} : decode (ab_code (zx σ n0 bf).1 4116) 173 = .ok (.iload 5, 2) := zd zm_4116 (by decide +kernel)
theorem d_4116_175 {σ : Nat → Nat} {n0 : Nat} {bf : ab_B} : decode (ab_code (zx σ n0 bf).1 4116) 175 = .ok (.aload 8, 2) := zd zm_4116 (by decide +kernel)
theorem d_4116_177 {σ : Nat → Nat} {n0 : Nat} {bf : ab_B} : decode (ab_code (zx σ n0 bf).1 4116) 177 = .ok (.getfield 104, 3) := zd zm_4116 (by decide +kernel)
theorem d_4116_180 {σ : Nat → Nat} {n0 : Nat} {bf : ab_B} : decode (ab_code (zx σ n0 bf).1 4116) 180 = .ok (.invokevirtual 712, 3) := zd zm_4116 (by decide +kernel)
theorem d_4116_183 {σ : Nat → Nat} {n0 : Nat} {bf : ab_B} : decode (ab_code (zx σ n0 bf).1 4116) 183 = .ok (.aload_n 0, 1) := zd zm_4116 (by decide +kernel)
theorem d_4116_184 {σ : Nat → Nat} {n0 : Nat} {bf : ab_B} : decode (ab_code (zx σ n0 bf).1 4116) 184 = .ok (.getfield 5, 3) := zd zm_4116 (by decide +kernel)
theorem d_4116_187 {σ : Nat → Nat} {n0 : Nat} {bf : ab_B} : decode (ab_code (zx σ n0 bf).1 4116) 187 = .ok (.bipush 44, 2) := zd zm_4116 (by decide +kernel)
theorem d_4116_189 {σ : Nat → Nat} {n0 : Nat} {bf : ab_B} : decode (ab_code (zx σ n0 bf).1 4116) 189 = .ok (.invokevirtual 21, 3) := zd zm_4116 (by decide +kernel)
theorem d_4116_192 {σ : Nat → Nat} {n0 : Nat} {bf : ab_B} : decode (ab_code (zx σ n0 bf).1 4116) 192 = .ok (.istore 4, 2) := zd zm_4116 (by decide +kernel)
theorem d_4116_194 {σ : Nat → Nat} {n0 : Nat} {bf : ab_B} : decode (ab_code (zx σ n0 bf).1 4116) 194 = .ok (.goto (-173), 3) := zd zm_4116 (by decide +kernel)
theorem d_4116_197 {σ : Nat → Nat} {n0 : Nat} {bf : ab_B} : decode (ab_code (zx σ n0 bf).1 4116) 197 = .ok (.aload_n 0, 1) := zd zm_4116 (by decide +kernel)
theorem d_4116_198 {σ : Nat → Nat} {n0 : Nat} {bf : ab_B} : decode (ab_code (zx σ n0 bf).1 4116) 198 = .ok (.bipush 13, 2) := zd zm_4116 (by decide +kernel)
theorem d_4116_200 {σ : Nat → Nat} {n0 : Nat} {bf : ab_B} : decode (ab_code (zx σ n0 bf).1 4116) 200 = .ok (.invokevirtual 221, 3) := zd zm_4116 (by decide +kernel)
theorem d_4116_203 {σ : Nat → Nat} {n0 : Nat} {bf : ab_B} : decode (ab_code (zx σ n0 bf).1 4116) 203 = .ok (.aload_n 0, 1) := zd zm_4116 (by decide +kernel)
theorem d_4116_204 {σ : Nat → Nat} {n0 : Nat} {bf : ab_B} : decode (ab_code (zx σ n0 bf).1 4116) 204 = .ok (.invokevirtual 744, 3) := zd zm_4116 (by decide +kernel)
theorem d_4116_207 {σ : Nat → Nat} {n0 : Nat} {bf : ab_B} : decode (ab_code (zx σ n0 bf).1 4116) 207 = .ok (.aload_n 0, 1) := zd zm_4116 (by decide +kernel)
theorem d_4116_208 {σ : Nat → Nat} {n0 : Nat} {bf : ab_B} : decode (ab_code (zx σ n0 bf).1 4116) 208 = .ok (.getfield 46, 3) := zd zm_4116 (by decide +kernel)
theorem d_4116_211 {σ : Nat → Nat} {n0 : Nat} {bf : ab_B} : decode (ab_code (zx σ n0 bf).1 4116) 211 = .ok (.invokevirtual 50, 3) := zd zm_4116 (by decide +kernel)
theorem d_4116_214 {σ : Nat → Nat} {n0 : Nat} {bf : ab_B} : decode (ab_code (zx σ n0 bf).1 4116) 214 = .ok (.iload_n 1, 1) := zd zm_4116 (by decide +kernel)
theorem d_4116_215 {σ : Nat → Nat} {n0 : Nat} {bf : ab_B} : decode (ab_code (zx σ n0 bf).1 4116) 215 = .ok (.if_icmp .le 23, 3) := zd zm_4116 (by decide +kernel)
theorem d_4116_218 {σ : Nat → Nat} {n0 : Nat} {bf : ab_B} : decode (ab_code (zx σ n0 bf).1 4116) 218 = .ok (.aload_n 0, 1) := zd zm_4116 (by decide +kernel)
theorem d_4116_219 {σ : Nat → Nat} {n0 : Nat} {bf : ab_B} : decode (ab_code (zx σ n0 bf).1 4116) 219 = .ok (.getfield 46, 3) := zd zm_4116 (by decide +kernel)
theorem d_4116_222 {σ : Nat → Nat} {n0 : Nat} {bf : ab_B} : decode (ab_code (zx σ n0 bf).1 4116) 222 = .ok (.aload_n 0, 1) := zd zm_4116 (by decide +kernel)
theorem d_4116_223 {σ : Nat → Nat} {n0 : Nat} {bf : ab_B} : decode (ab_code (zx σ n0 bf).1 4116) 223 = .ok (.getfield 46, 3) := zd zm_4116 (by decide +kernel)
theorem d_4116_226 {σ : Nat → Nat} {n0 : Nat} {bf : ab_B} : decode (ab_code (zx σ n0 bf).1 4116) 226 = .ok (.invokevirtual 50, 3) := zd zm_4116 (by decide +kernel)
theorem d_4116_229 {σ : Nat → Nat} {n0 : Nat} {bf : ab_B} : decode (ab_code (zx σ n0 bf).1 4116) 229 = .ok (.iconst 1, 1) := zd zm_4116 (by decide +kernel)
theorem d_4116_230 {σ : Nat → Nat} {n0 : Nat} {bf : ab_B} : decode (ab_code (zx σ n0 bf).1 4116) 230 = .ok (.isub, 1) := zd zm_4116 (by decide +kernel)
theorem d_4116_231 {σ : Nat → Nat} {n0 : Nat} {bf : ab_B} : decode (ab_code (zx σ n0 bf).1 4116) 231 = .ok (.invokevirtual 183, 3) := zd zm_4116 (by decide +kernel)
theorem d_4116_234 {σ : Nat → Nat} {n0 : Nat} {bf : ab_B} : decode (ab_code (zx σ n0 bf).1 4116) 234 = .ok (.pop, 1) := zd zm_4116 (by decide +kernel)
theorem d_4116_235 {σ : Nat → Nat} {n0 : Nat} {bf : ab_B} : decode (ab_code (zx σ n0 bf).1 4116) 235 = .ok (.goto (-28), 3) := zd zm_4116 (by decide +kernel)
theorem d_4116_238 {σ : Nat → Nat} {n0 : Nat} {bf : ab_B} : decode (ab_code (zx σ n0 bf).1 4116) 238 = .ok (.aload_n 0, 1) := zd zm_4116 (by decide +kernel)
theorem d_4116_239 {σ : Nat → Nat} {n0 : Nat} {bf : ab_B} : decode (ab_code (zx σ n0 bf).1 4116) 239 = .ok (.iload_n 2, 1) := zd zm_4116 (by decide +kernel)
theorem d_4116_240 {σ : Nat → Nat} {n0 : Nat} {bf : ab_B} : decode (ab_code (zx σ n0 bf).1 4116) 240 = .ok (.putfield 43, 3) := zd zm_4116 (by decide +kernel)
theorem d_4116_243 {σ : Nat → Nat} {n0 : Nat} {bf : ab_B} : decode (ab_code (zx σ n0 bf).1 4116) 243 = .ok (.aload_n 0, 1) := zd zm_4116 (by decide +kernel)
theorem d_4116_244 {σ : Nat → Nat} {n0 : Nat} {bf : ab_B} : decode (ab_code (zx σ n0 bf).1 4116) 244 = .ok (.iload_n 3, 1) := zd zm_4116 (by decide +kernel)
theorem d_4116_245 {σ : Nat → Nat} {n0 : Nat} {bf : ab_B} : decode (ab_code (zx σ n0 bf).1 4116) 245 = .ok (.putfield 197, 3) := zd zm_4116 (by decide +kernel)
theorem d_4116_248 {σ : Nat → Nat} {n0 : Nat} {bf : ab_B} : decode (ab_code (zx σ n0 bf).1 4116) 248 = .ok (.return_, 1) := zd zm_4116 (by decide +kernel)
def w_X5_with_160 (X : zs_X) (d : Nat) (p0 : Nat) (p1 : Int32) (p2 : Int32) (p3 : Int32) (p5 : Int32) (p6 : Option Nat) (p8 : Option Nat) (S : zs_T) (Q : zs_Q) : Prop :=
  (zs_C X d 4044 [va_rf p6] S (zs_kI (fun v2 S1 => (∃ b3, p8 = some b3 ∧ zs_K S1 b3 = some (.inl 7) ∧ ab_n0 X.1 ≤ b3 ∧ zs_b v2 ∧ ∀ S8, S8 = zs_sI S1 7009 b3 v2 → zs_K S1 p0 = some (.inl 4) ∧ zs_C X d 4097 [.ref p0, .int (15 : Int32), .int p5, .int (zs_I S8 7008 b3)] S8 (zs_kV (fun S12 => (zs_K S12 p0 = some (.inl 4) ∧ ∃ b15, (zs_R S12 4000 p0) = some b15 ∧ zs_K S12 b15 = some (.inl 5) ∧ zs_C X d 5017 [.ref b15, .int (44 : Int32)] S12 (zs_kI (fun v19 S18 => (zs_U X d 4116 21 [(0, .ref p0), (1, .int p1), (2, .int p2), (3, .int p3), (4, .int v19)] [] S18 Q)) Q))) Q))) Q))
theorem u_X5_with_160 {σ : Nat → Nat} {n0 : Nat} {bf : ab_B} {d : Nat} {p0 : Nat} {p1 : Int32} {p2 : Int32} {p3 : Int32} {p5 : Int32} {p6 : Option Nat} {p8 : Option Nat} {S : zs_T} {Q : zs_Q} (hB : zt_B bf) (h : w_X5_with_160 (zx σ n0 bf) d p0 p1 p2 p3 p5 p6 p8 S Q) : zs_U (zx σ n0 bf) d 4116 160 [(0, .ref p0), (1, .int p1), (2, .int p2), (3, .int p3), (5, .int p5), (6, va_rf p6), (8, va_rf p8)] [] S Q := by
  unfold w_X5_with_160 at h
  refine zu_aload d_4116_160 rfl (zs_rr _) ?_
  refine zu_aload d_4116_162 rfl (zs_rr _) ?_
  refine zc_4_703 (x0 := p6) hB rfl d_4116_164 (by simp only [List.map_cons, List.map_nil, List.sum_cons, List.sum_nil, zs_cat, zs_cI, zs_cJ, zs_cA]; exact Nat.le_of_ble_eq_true rfl) h (fun v2 S1 h => ?_)
  obtain ⟨b3, e4, h⟩ := h
  refine zs_stk1 (zs_rfe e4) ?_
  obtain ⟨k5, h⟩ := h
  obtain ⟨k6, h⟩ := h
  obtain ⟨k7, h⟩ := h
  refine zp_4_111 (v := v2) rfl d_4116_167 k5 k6 k7 ?_
  generalize e9 : zs_sI S1 7009 b3 v2 = S8
  have h := h S8 e9.symm
  have K10 : ∀ b, zs_K S8 b = zs_K S1 b := zs_Kt e9 (zs_KsI _ _ _ _) (fun _ => rfl)
  refine zu_aload_n d_4116_170 rfl (zs_ra _) ?_
  refine zu_bipush d_4116_171 zj_15 ?_
  refine zu_iload d_4116_173 rfl ?_
  refine zu_aload d_4116_175 rfl (zs_rr _) ?_
  refine zs_stk0 (zs_rfe e4) ?_
  refine zg_4_104 rfl d_4116_177 ((K10 _).trans k5) ?_
  obtain ⟨k11, h⟩ := h
  refine zc_4_712 (x0 := (15 : Int32)) (x1 := p5) (x2 := (zs_I S8 7008 b3)) hB rfl ((K10 _).trans k11) d_4116_180 (Nat.le_of_ble_eq_true rfl) h (fun S12 h => ?_)
  refine zu_aload_n d_4116_183 rfl (zs_ra _) ?_
  obtain ⟨k14, h⟩ := h
  refine zg_4_5 rfl d_4116_184 k14 ?_
  refine zu_bipush d_4116_187 zj_44 ?_
  obtain ⟨b15, e16, h⟩ := h
  refine zs_stk1 (zs_rfe e16) ?_
  obtain ⟨k17, h⟩ := h
  refine zc_4_21 (x0 := (44 : Int32)) hB rfl k17 d_4116_189 (Nat.le_of_ble_eq_true rfl) h (fun v19 S18 h => ?_)
  refine zu_istore d_4116_192 (zs_lt zq_4116 rfl) ?_
  refine zu_goto (t := 21) d_4116_194 rfl ?_
  exact h.weak ⟨rfl, rfl, rfl, rfl, rfl, trivial⟩
def w_X5_with_112 (X : zs_X) (d : Nat) (p0 : Nat) (p1 : Int32) (p2 : Int32) (p3 : Int32) (p5 : Int32) (p6 : Option Nat) (S : zs_T) (Q : zs_Q) : Prop :=
  (zs_K S p0 = some (.inl 4) ∧ zs_C X d 4098 [.ref p0, va_rf p6] S (zs_kV (fun S2 => (∃ b4, p6 = some b4 ∧ zs_K S2 b4 = some (.inl 11) ∧ zs_K S2 p0 = some (.inl 4) ∧ zs_C X d 4003 [.ref p0, .int (-1 : Int32), .int (6 : Int32), va_rf (zs_R S2 11002 b4)] S2 (zs_kR (fun v9 S8 => (zs_K S8 p0 = some (.inl 4) ∧ ∃ b11, v9 = some b11 ∧ zs_K S8 b11 = some (.inl 7) ∧ ab_n0 X.1 ≤ b11 ∧ ∀ S15, S15 = zs_sR S8 7007 b11 (zs_R S8 4010 p0) → ∃ b18, (zs_R S15 4010 p0) = some b18 ∧ zs_K S8 b18 = some (.inl 10) ∧ ab_n0 X.1 ≤ b18 ∧ ∀ S22, S22 = zs_sI S15 10009 b18 ((zs_I S15 10009 b18) + (1 : Int32)) → ∀ S25, S25 = zs_sI S22 7008 b11 (zs_I S15 10009 b18) → w_X5_with_160 X d p0 p1 p2 p3 p5 p6 v9 S25 Q)) Q))) Q))
theorem u_X5_with_112 {σ : Nat → Nat} {n0 : Nat} {bf : ab_B} {d : Nat} {p0 : Nat} {p1 : Int32} {p2 : Int32} {p3 : Int32} {p5 : Int32} {p6 : Option Nat} {S : zs_T} {Q : zs_Q} (hB : zt_B bf) (h : w_X5_with_112 (zx σ n0 bf) d p0 p1 p2 p3 p5 p6 S Q) : zs_U (zx σ n0 bf) d 4116 112 [(0, .ref p0), (1, .int p1), (2, .int p2), (3, .int p3), (5, .int p5), (6, va_rf p6)] [] S Q := by
  unfold w_X5_with_112 at h
  refine zu_aload_n d_4116_112 rfl (zs_ra _) ?_
  refine zu_aload d_4116_113 rfl (zs_rr _) ?_
  obtain ⟨k1, h⟩ := h
  refine zc_4_715 (x0 := p6) hB rfl k1 d_4116_115 (Nat.le_of_ble_eq_true rfl) h (fun S2 h => ?_)
  refine zu_aload_n d_4116_118 rfl (zs_ra _) ?_
  refine zu_iconst d_4116_119 zi_m1 ?_
  refine zu_bipush d_4116_120 zj_6 ?_
  refine zu_aload d_4116_122 rfl (zs_rr _) ?_
  obtain ⟨b4, e5, h⟩ := h
  refine zs_stk0 (zs_rfe e5) ?_
  obtain ⟨k6, h⟩ := h
  refine zg_4_297 rfl d_4116_124 k6 ?_
  obtain ⟨k7, h⟩ := h
  refine zc_4_165 (x0 := (-1 : Int32)) (x1 := (6 : Int32)) (x2 := (zs_R S2 11002 b4)) hB rfl k7 d_4116_127 (Nat.le_of_ble_eq_true rfl) h (fun v9 S8 h => ?_)
  refine zu_astore d_4116_130 (zs_rr _) (zs_lt zq_4116 rfl) ?_
  refine zu_aload d_4116_132 rfl (zs_rr _) ?_
  refine zu_aload_n d_4116_134 rfl (zs_ra _) ?_
  obtain ⟨k10, h⟩ := h
  refine zg_4_218 rfl d_4116_135 k10 ?_
  obtain ⟨b11, e12, h⟩ := h
  refine zs_stk1 (zs_rfe e12) ?_
  obtain ⟨k13, h⟩ := h
  obtain ⟨k14, h⟩ := h
  refine zp_4_107 (v := (zs_R S8 4010 p0)) rfl d_4116_138 k13 k14 ?_
  generalize e16 : zs_sR S8 7007 b11 (zs_R S8 4010 p0) = S15
  have h := h S15 e16.symm
  have K17 : ∀ b, zs_K S15 b = zs_K S8 b := zs_Kt e16 (zs_KsR _ _ _ _) (fun _ => rfl)
  refine zu_aload d_4116_141 rfl (zs_rr _) ?_
  refine zu_aload_n d_4116_143 rfl (zs_ra _) ?_
  refine zg_4_218 rfl d_4116_144 ((K17 _).trans k10) ?_
  refine zu_dup d_4116_147 (zs_cat _) ?_
  obtain ⟨b18, e19, h⟩ := h
  refine zs_stk0 (zs_rfe e19) ?_
  obtain ⟨k20, h⟩ := h
  refine zg_4_262 rfl d_4116_148 ((K17 _).trans k20) ?_
  refine zu_dup_x1 d_4116_151 rfl (zs_cat _) ?_
  refine zu_iconst d_4116_152 zi_1 ?_
  refine zu_stk d_4116_153 rfl rfl ?_
  refine zs_stk1 (zs_rfe e19) ?_
  obtain ⟨k21, h⟩ := h
  refine zp_4_262 (v := ((zs_I S15 10009 b18) + (1 : Int32))) rfl d_4116_154 ((K17 _).trans k20) k21 ?_
  generalize e23 : zs_sI S15 10009 b18 ((zs_I S15 10009 b18) + (1 : Int32)) = S22
  have h := h S22 e23.symm
  have K24 : ∀ b, zs_K S22 b = zs_K S8 b := zs_Kt e23 (zs_KsI _ _ _ _) K17
  refine zs_stk1 (zs_rfe e12) ?_
  refine zp_4_104 (v := (zs_I S15 10009 b18)) rfl d_4116_157 ((K24 _).trans k13) k14 ?_
  generalize e26 : zs_sI S22 7008 b11 (zs_I S15 10009 b18) = S25
  have h := h S25 e26.symm
  have K27 : ∀ b, zs_K S25 b = zs_K S8 b := zs_Kt e26 (zs_KsI _ _ _ _) K24
  exact (u_X5_with_160 hB h).weak ⟨rfl, rfl, rfl, rfl, rfl, rfl, rfl, trivial⟩
def w_X5_with_105 (X : zs_X) (d : Nat) (p0 : Nat) (S : zs_T) (Q : zs_Q) : Prop :=
  (zs_K S p0 = some (.inl 4) ∧ zs_C X d 4006 [.ref p0, .int (8 : Int32)] S (zs_kR (fun v3 S2 => (∃ b4, v3 = some b4 ∧ Q (.threw b4) S2)) Q))
theorem u_X5_with_105 {σ : Nat → Nat} {n0 : Nat} {bf : ab_B} {d : Nat} {p0 : Nat} {S : zs_T} {Q : zs_Q} (hB : zt_B bf) (h : w_X5_with_105 (zx σ n0 bf) d p0 S Q) : zs_U (zx σ n0 bf) d 4116 105 [(0, .ref p0)] [] S Q := by
  unfold w_X5_with_105 at h
  refine zu_aload_n d_4116_105 rfl (zs_ra _) ?_
  refine zu_bipush d_4116_106 zj_8 ?_
  obtain ⟨k1, h⟩ := h
  refine zc_4_25 (x0 := (8 : Int32)) hB rfl k1 d_4116_108 (Nat.le_of_ble_eq_true rfl) h (fun v3 S2 h => ?_)
  obtain ⟨b4, e5, h⟩ := h
  refine zs_stk0 (zs_rfe e5) ?_
  exact zu_throw d_4116_111 h
def w_X5_with_62 (X : zs_X) (d : Nat) (p0 : Nat) (p1 : Int32) (p2 : Int32) (p3 : Int32) (p5 : Int32) (p6 : Option Nat) (p7 : Option Nat) (S : zs_T) (Q : zs_Q) : Prop :=
  (∃ b1, p7 = some b1 ∧ zs_K S b1 = some (.inl 6) ∧ (((zs_I S 6000 b1) = (8 : Int32) → (zs_K S p0 = some (.inl 4) ∧ zs_C X d 4118 [va_rf (zs_R S 6006 b1)] S (zs_kI (fun v7 S6 => (zs_K S6 p0 = some (.inl 4) ∧ ab_n0 X.1 ≤ p0 ∧ ∀ S10, S10 = zs_sI S6 4012 p0 ((zs_I S 4012 p0) + v7) → (((zs_I S10 4012 p0) ≤ (4000 : Int32) → w_X5_with_112 X d p0 p1 p2 p3 p5 p6 S10 Q) ∧ (¬ ((zs_I S10 4012 p0) ≤ (4000 : Int32)) → w_X5_with_105 X d p0 S10 Q)))) Q))) ∧ (¬ ((zs_I S 6000 b1) = (8 : Int32)) → (zs_K S p0 = some (.inl 4) ∧ zs_C X d 4006 [.ref p0, .int (5 : Int32)] S (zs_kR (fun v16 S15 => (∃ b17, v16 = some b17 ∧ Q (.threw b17) S15)) Q)))))
theorem u_X5_with_62 {σ : Nat → Nat} {n0 : Nat} {bf : ab_B} {d : Nat} {p0 : Nat} {p1 : Int32} {p2 : Int32} {p3 : Int32} {p5 : Int32} {p6 : Option Nat} {p7 : Option Nat} {S : zs_T} {Q : zs_Q} (hB : zt_B bf) (h : w_X5_with_62 (zx σ n0 bf) d p0 p1 p2 p3 p5 p6 p7 S Q) : zs_U (zx σ n0 bf) d 4116 62 [(0, .ref p0), (1, .int p1), (2, .int p2), (3, .int p3), (5, .int p5), (6, va_rf p6), (7, va_rf p7)] [] S Q := by
  unfold w_X5_with_62 at h
  refine zu_aload d_4116_62 rfl (zs_rr _) ?_
  obtain ⟨b1, e2, h⟩ := h
  refine zs_stk0 (zs_rfe e2) ?_
  obtain ⟨k3, h⟩ := h
  refine zg_4_369 rfl d_4116_64 k3 ?_
  refine zu_bipush d_4116_67 zj_8 ?_
  refine zu_cmpeq (t := 78) d_4116_69 rfl (fun c4 => ?_) (fun c4 => ?_)
  · have h := h.1 c4
    refine zu_aload_n d_4116_78 rfl (zs_ra _) ?_
    refine zu_dup d_4116_79 rfl ?_
    obtain ⟨k5, h⟩ := h
    refine zg_4_197 rfl d_4116_80 k5 ?_
    refine zu_aload d_4116_83 rfl (zs_rr _) ?_
    refine zs_stk0 (zs_rfe e2) ?_
    refine zg_4_75 rfl d_4116_85 k3 ?_
    refine zc_4_788 (x0 := (zs_R S 6006 b1)) hB rfl d_4116_88 (Nat.le_of_ble_eq_true rfl) h (fun v7 S6 h => ?_)
    refine zu_stk d_4116_91 rfl rfl ?_
    obtain ⟨k8, h⟩ := h
    obtain ⟨k9, h⟩ := h
    refine zp_4_197 (v := ((zs_I S 4012 p0) + v7)) rfl d_4116_92 k8 k9 ?_
    generalize e11 : zs_sI S6 4012 p0 ((zs_I S 4012 p0) + v7) = S10
    have h := h S10 e11.symm
    have K12 : ∀ b, zs_K S10 b = zs_K S6 b := zs_Kt e11 (zs_KsI _ _ _ _) (fun _ => rfl)
    refine zu_aload_n d_4116_95 rfl (zs_ra _) ?_
    refine zg_4_197 rfl d_4116_96 ((K12 _).trans k8) ?_
    refine zu_sipush d_4116_99 zh_4000 ?_
    refine zu_cmple (t := 112) d_4116_102 rfl (fun c13 => ?_) (fun c13 => ?_)
    · have h := h.1 c13
      exact (u_X5_with_112 hB h).weak ⟨rfl, rfl, rfl, rfl, rfl, rfl, trivial⟩
    · have h := h.2 c13
      exact (u_X5_with_105 hB h).weak ⟨rfl, trivial⟩
  · have h := h.2 c4
    refine zu_aload_n d_4116_72 rfl (zs_ra _) ?_
    refine zu_iconst d_4116_73 zi_5 ?_
    obtain ⟨k14, h⟩ := h
    refine zc_4_25 (x0 := (5 : Int32)) hB rfl k14 d_4116_74 (Nat.le_of_ble_eq_true rfl) h (fun v16 S15 h => ?_)
    obtain ⟨b17, e18, h⟩ := h
    refine zs_stk0 (zs_rfe e18) ?_
    exact zu_throw d_4116_77 h
def w_X5_with_21 (X : zs_X) (d : Nat) (p0 : Nat) (p1 : Int32) (p2 : Int32) (p3 : Int32) (p4 : Int32) (S : zs_T) (Q : zs_Q) : Prop :=
  (((p4 = 0 → (zs_K S p0 = some (.inl 4) ∧ zs_C X d 4005 [.ref p0, .int (13 : Int32)] S (zs_kV (fun S3 => (zs_K S3 p0 = some (.inl 4) ∧ zs_C X d 4106 [.ref p0] S3 (zs_kV (fun S6 => zs_U X d 4116 207 [(0, .ref p0), (1, .int p1), (2, .int p2), (3, .int p3)] [] S6 Q) Q))) Q))) ∧ (¬ (p4 = 0) → (zs_K S p0 = some (.inl 4) ∧ ∃ b9, (zs_R S 4000 p0) = some b9 ∧ zs_K S b9 = some (.inl 5) ∧ zs_C X d 5004 [.ref b9] S (zs_kV (fun S12 => (zs_K S12 p0 = some (.inl 4) ∧ zs_C X d 4021 [.ref p0] S12 (zs_kV (fun S15 => (zs_K S15 p0 = some (.inl 4) ∧ ∃ b18, (zs_R S15 4000 p0) = some b18 ∧ zs_K S15 b18 = some (.inl 5) ∧ zs_C X d 4117 [.ref p0] S15 (zs_kR (fun v22 S21 => (∃ b23, v22 = some b23 ∧ zs_K S21 b23 = some (.inl 11) ∧ ∃ b26, (zs_R S21 11002 b23) = some b26 ∧ zs_K S21 b26 = some (.inl 6) ∧ zs_C X d 6003 [.ref b26] S21 (zs_kR (fun v30 S29 => (w_X5_with_62 X d p0 p1 p2 p3 (zs_I S15 5005 b18) v22 v30 S29 Q)) Q))) Q))) Q))) Q)))))
theorem u_X5_with_21 {σ : Nat → Nat} {n0 : Nat} {bf : ab_B} {d : Nat} {p0 : Nat} {p1 : Int32} {p2 : Int32} {p3 : Int32} {p4 : Int32} {S : zs_T} {Q : zs_Q} (hB : zt_B bf) (h : w_X5_with_21 (zx σ n0 bf) d p0 p1 p2 p3 p4 S Q) : zs_U (zx σ n0 bf) d 4116 21 [(0, .ref p0), (1, .int p1), (2, .int p2), (3, .int p3), (4, .int p4)] [] S Q := by
  unfold w_X5_with_21 at h
  refine zu_iload d_4116_21 rfl ?_
  refine zu_ifeq (t := 197) d_4116_23 rfl (fun c1 => ?_) (fun c1 => ?_)
  · have h := h.1 c1
    refine zu_aload_n d_4116_197 rfl (zs_ra _) ?_
    refine zu_bipush d_4116_198 zj_13 ?_
    obtain ⟨k2, h⟩ := h
    refine zc_4_221 (x0 := (13 : Int32)) hB rfl k2 d_4116_200 (Nat.le_of_ble_eq_true rfl) h (fun S3 h => ?_)
    refine zu_aload_n d_4116_203 rfl (zs_ra _) ?_
    obtain ⟨k5, h⟩ := h
    refine zc_4_744  hB rfl k5 d_4116_204 (Nat.le_of_ble_eq_true rfl) h (fun S6 h => ?_)
    exact h.weak ⟨rfl, rfl, rfl, rfl, trivial⟩
  · have h := h.2 c1
    refine zu_aload_n d_4116_26 rfl (zs_ra _) ?_
    obtain ⟨k8, h⟩ := h
    refine zg_4_5 rfl d_4116_27 k8 ?_
    obtain ⟨b9, e10, h⟩ := h
    refine zs_stk0 (zs_rfe e10) ?_
    obtain ⟨k11, h⟩ := h
    refine zc_4_29  hB rfl k11 d_4116_30 (Nat.le_of_ble_eq_true rfl) h (fun S12 h => ?_)
    refine zu_aload_n d_4116_33 rfl (zs_ra _) ?_
    obtain ⟨k14, h⟩ := h
    refine zc_4_357  hB rfl k14 d_4116_34 (Nat.le_of_ble_eq_true rfl) h (fun S15 h => ?_)
    refine zu_aload_n d_4116_37 rfl (zs_ra _) ?_
    obtain ⟨k17, h⟩ := h
    refine zg_4_5 rfl d_4116_38 k17 ?_
    obtain ⟨b18, e19, h⟩ := h
    refine zs_stk0 (zs_rfe e19) ?_
    obtain ⟨k20, h⟩ := h
    refine zg_4_11 rfl d_4116_41 k20 ?_
    refine zu_istore d_4116_44 (zs_lt zq_4116 rfl) ?_
    refine zu_aload_n d_4116_46 rfl (zs_ra _) ?_
    refine zc_4_785  hB rfl k17 d_4116_47 (Nat.le_of_ble_eq_true rfl) h (fun v22 S21 h => ?_)
    refine zu_astore d_4116_50 (zs_rr _) (zs_lt zq_4116 rfl) ?_
    refine zu_aload d_4116_52 rfl (zs_rr _) ?_
    obtain ⟨b23, e24, h⟩ := h
    refine zs_stk0 (zs_rfe e24) ?_
    obtain ⟨k25, h⟩ := h
    refine zg_4_297 rfl d_4116_54 k25 ?_
    obtain ⟨b26, e27, h⟩ := h
    refine zs_stk0 (zs_rfe e27) ?_
    obtain ⟨k28, h⟩ := h
    refine zc_4_69  hB rfl k28 d_4116_57 (Nat.le_of_ble_eq_true rfl) h (fun v30 S29 h => ?_)
    refine zu_astore d_4116_60 (zs_rr _) (zs_lt zq_4116 rfl) ?_
    refine zs_U.weak (L1 := [(7, va_rf v30), (0, .ref p0), (1, .int p1), (2, .int p2), (3, .int p3), (4, .int p4), (5, .int (zs_I S15 5005 b18)), (6, va_rf v22)]) ?_ ⟨rfl, zs_gp1 rfl (Or.inl rfl) rfl, zs_gp1 rfl (Or.inl rfl) rfl, zs_gp1 rfl (Or.inl rfl) rfl, zs_gp1 rfl (Or.inl rfl) rfl, zs_gp1 rfl (Or.inl rfl) rfl, zs_gp1 rfl (Or.inl rfl) rfl, zs_gp1 rfl (Or.inl (zs_cat _)) rfl, trivial⟩
    exact (u_X5_with_62 hB h).weak ⟨rfl, rfl, rfl, rfl, rfl, rfl, rfl, trivial⟩
def w_X5_with_207 (X : zs_X) (d : Nat) (p0 : Nat) (p1 : Int32) (p2 : Int32) (p3 : Int32) (S : zs_T) (Q : zs_Q) : Prop :=
  (zs_K S p0 = some (.inl 4) ∧ ∃ b2, (zs_R S 4008 p0) = some b2 ∧ zs_K S b2 = some (.inl 16) ∧ zs_C X d 16001 [.ref b2] S (zs_kI (fun v6 S5 => (((v6 ≤ p1 → (zs_K S5 p0 = some (.inl 4) ∧ ab_n0 X.1 ≤ p0 ∧ ∀ S10, S10 = zs_sI S5 4011 p0 p2 → ∀ S13, S13 = zs_sI S10 4012 p0 p3 → Q (.returned none) S13)) ∧ (¬ (v6 ≤ p1) → (zs_K S5 p0 = some (.inl 4) ∧ ∃ b17, (zs_R S5 4008 p0) = some b17 ∧ zs_K S5 b17 = some (.inl 16) ∧ zs_C X d 16001 [.ref b17] S5 (zs_kI (fun v21 S20 => (zs_K S20 b17 = some (.inl 16) ∧ zs_C X d 16007 [.ref b17, .int (v21 - (1 : Int32))] S20 (zs_kR (fun v24 S23 => (zs_U X d 4116 207 [(0, .ref p0), (1, .int p1), (2, .int p2), (3, .int p3)] [] S23 Q)) Q))) Q)))))) Q))
theorem u_X5_with_207 {σ : Nat → Nat} {n0 : Nat} {bf : ab_B} {d : Nat} {p0 : Nat} {p1 : Int32} {p2 : Int32} {p3 : Int32} {S : zs_T} {Q : zs_Q} (hB : zt_B bf) (h : w_X5_with_207 (zx σ n0 bf) d p0 p1 p2 p3 S Q) : zs_U (zx σ n0 bf) d 4116 207 [(0, .ref p0), (1, .int p1), (2, .int p2), (3, .int p3)] [] S Q := by
  unfold w_X5_with_207 at h
  refine zu_aload_n d_4116_207 rfl (zs_ra _) ?_
  obtain ⟨k1, h⟩ := h
  refine zg_4_46 rfl d_4116_208 k1 ?_
  obtain ⟨b2, e3, h⟩ := h
  refine zs_stk0 (zs_rfe e3) ?_
  obtain ⟨k4, h⟩ := h
  refine zc_4_50  hB rfl k4 d_4116_211 (Nat.le_of_ble_eq_true rfl) h (fun v6 S5 h => ?_)
  refine zu_iload_n d_4116_214 rfl ?_
  refine zu_cmple (t := 238) d_4116_215 rfl (fun c7 => ?_) (fun c7 => ?_)
  · have h := h.1 c7
    refine zu_aload_n d_4116_238 rfl (zs_ra _) ?_
    refine zu_iload_n d_4116_239 rfl ?_
    obtain ⟨k8, h⟩ := h
    obtain ⟨k9, h⟩ := h
    refine zp_4_43 (v := p2) rfl d_4116_240 k8 k9 ?_
    generalize e11 : zs_sI S5 4011 p0 p2 = S10
    have h := h S10 e11.symm
    have K12 : ∀ b, zs_K S10 b = zs_K S5 b := zs_Kt e11 (zs_KsI _ _ _ _) (fun _ => rfl)
    refine zu_aload_n d_4116_243 rfl (zs_ra _) ?_
    refine zu_iload_n d_4116_244 rfl ?_
    refine zp_4_197 (v := p3) rfl d_4116_245 ((K12 _).trans k8) k9 ?_
    generalize e14 : zs_sI S10 4012 p0 p3 = S13
    have h := h S13 e14.symm
    have K15 : ∀ b, zs_K S13 b = zs_K S5 b := zs_Kt e14 (zs_KsI _ _ _ _) K12
    exact zu_vret d_4116_248 zr_4116 h
  · have h := h.2 c7
    refine zu_aload_n d_4116_218 rfl (zs_ra _) ?_
    obtain ⟨k16, h⟩ := h
    refine zg_4_46 rfl d_4116_219 k16 ?_
    refine zu_aload_n d_4116_222 rfl (zs_ra _) ?_
    refine zg_4_46 rfl d_4116_223 k16 ?_
    obtain ⟨b17, e18, h⟩ := h
    refine zs_stk0 (zs_rfe e18) ?_
    obtain ⟨k19, h⟩ := h
    refine zc_4_50  hB rfl k19 d_4116_226 (by simp only [List.map_cons, List.map_nil, List.sum_cons, List.sum_nil, zs_cat, zs_cI, zs_cJ, zs_cA]; exact Nat.le_of_ble_eq_true rfl) h (fun v21 S20 h => ?_)
    refine zu_iconst d_4116_229 zi_1 ?_
    refine zu_stk d_4116_230 rfl rfl ?_
    refine zs_stk1 (zs_rfe e18) ?_
    obtain ⟨k22, h⟩ := h
    refine zc_4_183 (x0 := (v21 - (1 : Int32))) hB rfl k22 d_4116_231 (Nat.le_of_ble_eq_true rfl) h (fun v24 S23 h => ?_)
    refine zu_pop d_4116_234 (zs_cat _) ?_
    refine zu_goto (t := 207) d_4116_235 rfl ?_
    exact h.weak ⟨rfl, rfl, rfl, rfl, trivial⟩
def w_X5_with (X : zs_X) (d : Nat) (p0 : Nat) (S : zs_T) (Q : zs_Q) : Prop :=
  (zs_K S p0 = some (.inl 4) ∧ ∃ b2, (zs_R S 4008 p0) = some b2 ∧ zs_K S b2 = some (.inl 16) ∧ zs_C X d 16001 [.ref b2] S (zs_kI (fun v6 S5 => (zs_K S5 p0 = some (.inl 4) ∧ zs_U X d 4116 21 [(0, .ref p0), (1, .int v6), (2, .int (zs_I S5 4011 p0)), (3, .int (zs_I S5 4012 p0)), (4, .int (1 : Int32))] [] S5 Q)) Q))
theorem u_X5_with {σ : Nat → Nat} {n0 : Nat} {bf : ab_B} {d : Nat} {p0 : Nat} {S : zs_T} {Q : zs_Q} (hB : zt_B bf) (hd : 1 ≤ d) (h : w_X5_with (zx σ n0 bf) (d - 1) p0 S Q) : zs_C (zx σ n0 bf) d 4116 [.ref p0] S Q := by
  have hL : lv_args 0 [.ref p0] = [(0, .ref p0)] := rfl
  refine zs_C.of1 (hB.2 4116 (by decide) (by decide)) hd (by rw [hL]; exact zs_sub_self _ (by exact ⟨rfl, trivial⟩)) ?_
  rw [hL]
  clear hL
  unfold w_X5_with at h
  refine zu_aload_n d_4116_0 rfl (zs_ra _) ?_
  obtain ⟨k1, h⟩ := h
  refine zg_4_46 rfl d_4116_1 k1 ?_
  obtain ⟨b2, e3, h⟩ := h
  refine zs_stk0 (zs_rfe e3) ?_
  obtain ⟨k4, h⟩ := h
  refine zc_4_50  hB rfl k4 d_4116_4 (Nat.le_of_ble_eq_true rfl) h (fun v6 S5 h => ?_)
  refine zu_istore_n d_4116_7 (zs_lt zq_4116 rfl) ?_
  refine zu_aload_n d_4116_8 rfl (zs_ra _) ?_
  obtain ⟨k7, h⟩ := h
  refine zg_4_43 rfl d_4116_9 k7 ?_
  refine zu_istore_n d_4116_12 (zs_lt zq_4116 rfl) ?_
  refine zu_aload_n d_4116_13 rfl (zs_ra _) ?_
  refine zg_4_197 rfl d_4116_14 k7 ?_
  refine zu_istore_n d_4116_17 (zs_lt zq_4116 rfl) ?_
  refine zu_iconst d_4116_18 zi_1 ?_
  refine zu_istore d_4116_19 (zs_lt zq_4116 rfl) ?_
  exact h.weak ⟨rfl, rfl, rfl, rfl, rfl, trivial⟩
/-! SchemaPascal$Reader.variableOnly()LSchemaPascal$Node; -/
theorem zm_4117 {σ : Nat → Nat} {n0 : Nat} {bf : ab_B} : ab_code (zx σ n0 bf).1 4117 = prog_9_method_110_code := rfl
theorem zq_4117 {σ : Nat → Nat} {n0 : Nat} {bf : ab_B} : ab_maxL (zx σ n0 bf).1 4117 = 4 := rfl
theorem zr_4117 {σ : Nat → Nat} {n0 : Nat} {bf : ab_B} : ab_ret (zx σ n0 bf).1 4117 = (Option.some (Jvm.ClassFile.FieldType.object "SchemaPascal$Node")) := rfl
theorem d_4117_0 {σ : Nat → Nat} {n0 : Nat} {bf : ab_B} : decode (ab_code (zx σ n0 bf).1 4117) 0 = .ok (.aload_n 0, 1) := zd zm_4117 (by decide +kernel)
theorem d_4117_1 {σ : Nat → Nat} {n0 : Nat} {bf : ab_B} : decode (ab_code (zx σ n0 bf).1 4117) 1 = .ok (.getfield 5, 3) := zd zm_4117 (by decide +kernel)
theorem d_4117_4 {σ : Nat → Nat} {n0 : Nat} {bf : ab_B} : decode (ab_code (zx σ n0 bf).1 4117) 4 = .ok (.invokevirtual 36, 3) := zd zm_4117 (by decide +kernel)
theorem d_4117_7 {σ : Nat → Nat} {n0 : Nat} {bf : ab_B} : decode (ab_code (zx σ n0 bf).1 4117) 7 = .ok (.ifCond .ne 9, 3) := zd zm_4117 (by decide +kernel)
theorem d_4117_10 {σ : Nat → Nat} {n0 : Nat} {bf : ab_B} : decode (ab_code (zx σ n0 bf).1 4117) 10 = .ok (.aload_n 0, 1) := zd zm_4117 (by decide +kernel)
theorem d_4117_11 {σ : Nat → Nat} {n0 : Nat} {bf : ab_B} : decode (ab_code (zx σ n0 bf).1 4117) 11 = .ok (.iconst 2, 1) := zd zm_4117 (by decide +kernel)
theorem d_4117_12 {σ : Nat → Nat} {n0 : Nat} {bf : ab_B} : decode (ab_code (zx σ n0 bf).1 4117) 12 = .ok (.invokevirtual 25, 3) := zd zm_4117 (by decide +kernel)
theorem d_4117_15 {σ : Nat → Nat} {n0 : Nat} {bf : ab_B} : decode (ab_code (zx σ n0 bf).1 4117) 15 = .ok (.athrow, 1) := zd zm_4117 (by decide +kernel)
theorem d_4117_16 {σ : Nat → Nat} {n0 : Nat} {bf : ab_B} : decode (ab_code (zx σ n0 bf).1 4117) 16 = .ok (.aload_n 0, 1) := zd zm_4117 (by decide +kernel)
theorem d_4117_17 {σ : Nat → Nat} {n0 : Nat} {bf : ab_B} : decode (ab_code (zx σ n0 bf).1 4117) 17 = .ok (.aload_n 0, 1) := zd zm_4117 (by decide +kernel)
theorem d_4117_18 {σ : Nat → Nat} {n0 : Nat} {bf : ab_B} : decode (ab_code (zx σ n0 bf).1 4117) 18 = .ok (.getfield 5, 3) := zd zm_4117 (by decide +kernel)
theorem d_4117_21 {σ : Nat → Nat} {n0 : Nat} {bf : ab_B} : decode (ab_code (zx σ n0 bf).1 4117) 21 = .ok (.getfield 40, 3) := zd zm_4117 (by decide +kernel)
theorem d_4117_24 {σ : Nat → Nat} {n0 : Nat} {bf : ab_B} : decode (ab_code (zx σ n0 bf).1 4117) 24 = .ok (.invokevirtual 318, 3) := zd zm_4117 (by decide +kernel)
theorem d_4117_27 {σ : Nat → Nat} {n0 : Nat} {bf : ab_B} : decode (ab_code (zx σ n0 bf).1 4117) 27 = .ok (.astore_n 1, 1) := zd zm_4117 (by decide +kernel)
theorem d_4117_28 {σ : Nat → Nat} {n0 : Nat} {bf : ab_B} : decode (ab_code (zx σ n0 bf).1 4117) 28 = .ok (.aload_n 1, 1) := zd zm_4117 (by decide +kernel)
theorem d_4117_29 {σ : Nat → Nat} {n0 : Nat} {bf : ab_B} : decode (ab_code (zx σ n0 bf).1 4117) 29 = .ok (.ifnull 19, 3) := zd zm_4117 (by decide +kernel)
theorem d_4117_32 {σ : Nat → Nat} {n0 : Nat} {bf : ab_B} : decode (ab_code (zx σ n0 bf).1 4117) 32 = .ok (.aload_n 1, 1) := zd zm_4117 (by decide +kernel)
theorem d_4117_33 {σ : Nat → Nat} {n0 : Nat} {bf : ab_B} : decode (ab_code (zx σ n0 bf).1 4117) 33 = .ok (.getfield 62, 3) := zd zm_4117 (by decide +kernel)
theorem d_4117_36 {σ : Nat → Nat} {n0 : Nat} {bf : ab_B} : decode (ab_code (zx σ n0 bf).1 4117) 36 = .ok (.iconst 2, 1) := zd zm_4117 (by decide +kernel)
theorem d_4117_37 {σ : Nat → Nat} {n0 : Nat} {bf : ab_B} : decode (ab_code (zx σ n0 bf).1 4117) 37 = .ok (.if_icmp .eq 17, 3) := zd zm_4117 (by decide +kernel)
theorem d_4117_40 {σ : Nat → Nat} {n0 : Nat} {bf : ab_B} : decode (ab_code (zx σ n0 bf).1 4117) 40 = .ok (.aload_n 1, 1) := zd zm_4117 (by decide +kernel)
theorem d_4117_41 {σ : Nat → Nat} {n0 : Nat} {bf : ab_B} : decode (ab_code (zx σ n0 bf).1 4117) 41 = .ok (.getfield 62, 3) := zd zm_4117 (by decide +kernel)
theorem d_4117_44 {σ : Nat → Nat} {n0 : Nat} {bf : ab_B} : decode (ab_code (zx σ n0 bf).1 4117) 44 = .ok (.iconst 5, 1) := zd zm_4117 (by decide +kernel)
theorem d_4117_45 {σ : Nat → Nat} {n0 : Nat} {bf : ab_B} : decode (ab_code (zx σ n0 bf).1 4117) 45 = .ok (.if_icmp .eq 9, 3) := zd zm_4117 (by decide +kernel)
theorem d_4117_48 {σ : Nat → Nat} {n0 : Nat} {bf : ab_B} : decode (ab_code (zx σ n0 bf).1 4117) 48 = .ok (.aload_n 0, 1) := zd zm_4117 (by decide +kernel)
theorem d_4117_49 {σ : Nat → Nat} {n0 : Nat} {bf : ab_B} : decode (ab_code (zx σ n0 bf).1 4117) 49 = .ok (.iconst 3, 1) := zd zm_4117 (by decide +kernel)
theorem d_4117_50 {σ : Nat → Nat} {n0 : Nat} {bf : ab_B} : decode (ab_code (zx σ n0 bf).1 4117) 50 = .ok (.invokevirtual 25, 3) := zd zm_4117 (by decide +kernel)
theorem d_4117_53 {σ : Nat → Nat} {n0 : Nat} {bf : ab_B} : decode (ab_code (zx σ n0 bf).1 4117) 53 = .ok (.athrow, 1) := zd zm_4117 (by decide +kernel)
theorem d_4117_54 {σ : Nat → Nat} {n0 : Nat} {bf : ab_B} : decode (ab_code (zx σ n0 bf).1 4117) 54 = .ok (.aload_n 0, 1) := zd zm_4117 (by decide +kernel)
theorem d_4117_55 {σ : Nat → Nat} {n0 : Nat} {bf : ab_B} : decode (ab_code (zx σ n0 bf).1 4117) 55 = .ok (.getfield 5, 3) := zd zm_4117 (by decide +kernel)
theorem d_4117_58 {σ : Nat → Nat} {n0 : Nat} {bf : ab_B} : decode (ab_code (zx σ n0 bf).1 4117) 58 = .ok (.getfield 11, 3) := zd zm_4117 (by decide +kernel)
theorem d_4117_61 {σ : Nat → Nat} {n0 : Nat} {bf : ab_B} : decode (ab_code (zx σ n0 bf).1 4117) 61 = .ok (.istore_n 2, 1) := zd zm_4117 (by decide +kernel)
theorem d_4117_62 {σ : Nat → Nat} {n0 : Nat} {bf : ab_B} : decode (ab_code (zx σ n0 bf).1 4117) 62 = .ok (.aload_n 0, 1) := zd zm_4117 (by decide +kernel)
theorem d_4117_63 {σ : Nat → Nat} {n0 : Nat} {bf : ab_B} : decode (ab_code (zx σ n0 bf).1 4117) 63 = .ok (.getfield 5, 3) := zd zm_4117 (by decide +kernel)
theorem d_4117_66 {σ : Nat → Nat} {n0 : Nat} {bf : ab_B} : decode (ab_code (zx σ n0 bf).1 4117) 66 = .ok (.invokevirtual 29, 3) := zd zm_4117 (by decide +kernel)
theorem d_4117_69 {σ : Nat → Nat} {n0 : Nat} {bf : ab_B} : decode (ab_code (zx σ n0 bf).1 4117) 69 = .ok (.aload_n 0, 1) := zd zm_4117 (by decide +kernel)
theorem d_4117_70 {σ : Nat → Nat} {n0 : Nat} {bf : ab_B} : decode (ab_code (zx σ n0 bf).1 4117) 70 = .ok (.aload_n 0, 1) := zd zm_4117 (by decide +kernel)
theorem d_4117_71 {σ : Nat → Nat} {n0 : Nat} {bf : ab_B} : decode (ab_code (zx σ n0 bf).1 4117) 71 = .ok (.aload_n 1, 1) := zd zm_4117 (by decide +kernel)
theorem d_4117_72 {σ : Nat → Nat} {n0 : Nat} {bf : ab_B} : decode (ab_code (zx σ n0 bf).1 4117) 72 = .ok (.iload_n 2, 1) := zd zm_4117 (by decide +kernel)
theorem d_4117_73 {σ : Nat → Nat} {n0 : Nat} {bf : ab_B} : decode (ab_code (zx σ n0 bf).1 4117) 73 = .ok (.invokevirtual 658, 3) := zd zm_4117 (by decide +kernel)
theorem d_4117_76 {σ : Nat → Nat} {n0 : Nat} {bf : ab_B} : decode (ab_code (zx σ n0 bf).1 4117) 76 = .ok (.invokevirtual 661, 3) := zd zm_4117 (by decide +kernel)
theorem d_4117_79 {σ : Nat → Nat} {n0 : Nat} {bf : ab_B} : decode (ab_code (zx σ n0 bf).1 4117) 79 = .ok (.astore_n 3, 1) := zd zm_4117 (by decide +kernel)
theorem d_4117_80 {σ : Nat → Nat} {n0 : Nat} {bf : ab_B} : decode (ab_code (zx σ n0 bf).1 4117) 80 = .ok (.aload_n 3, 1) := zd zm_4117 (by decide +kernel)
theorem d_4117_81 {σ : Nat → Nat} {n0 : Nat} {bf : ab_B} : decode (ab_code (zx σ n0 bf).1 4117) 81 = .ok (.invokevirtual 625, 3) := zd zm_4117 (by decide +kernel)
theorem d_4117_84 {σ : Nat → Nat} {n0 : Nat} {bf : ab_B} : decode (ab_code (zx σ n0 bf).1 4117) 84 = .ok (.ifCond .ne 9, 3) := zd zm_4117 (by decide +kernel)
theorem d_4117_87 {σ : Nat → Nat} {n0 : Nat} {bf : ab_B} : decode (ab_code (zx σ n0 bf).1 4117) 87 = .ok (.aload_n 0, 1) := zd zm_4117 (by decide +kernel)
theorem d_4117_88 {σ : Nat → Nat} {n0 : Nat} {bf : ab_B} : decode (ab_code (zx σ n0 bf).1 4117) 88 = .ok (.iconst 5, 1) := zd zm_4117 (by decide +kernel)
theorem d_4117_89 {σ : Nat → Nat} {n0 : Nat} {bf : ab_B} : decode (ab_code (zx σ n0 bf).1 4117) 89 = .ok (.invokevirtual 25, 3) := zd zm_4117 (by decide +kernel)
theorem d_4117_92 {σ : Nat → Nat} {n0 : Nat} {bf : ab_B} : decode (ab_code (zx σ n0 bf).1 4117) 92 = .ok (.athrow, 1) := zd zm_4117 (by decide +kernel)
theorem d_4117_93 {σ : Nat → Nat} {n0 : Nat} {bf : ab_B} : decode (ab_code (zx σ n0 bf).1 4117) 93 = .ok (.aload_n 3, 1) := zd zm_4117 (by decide +kernel)
theorem d_4117_94 {σ : Nat → Nat} {n0 : Nat} {bf : ab_B} : decode (ab_code (zx σ n0 bf).1 4117) 94 = .ok (.areturn, 1) := zd zm_4117 (by decide +kernel)
def w_X5_variableOnly_93 (X : zs_X) (d : Nat) (p3 : Option Nat) (S : zs_T) (Q : zs_Q) : Prop :=
  (Q (.returned (some (va_rf p3))) S)
theorem u_X5_variableOnly_93 {σ : Nat → Nat} {n0 : Nat} {bf : ab_B} {d : Nat} {p3 : Option Nat} {S : zs_T} {Q : zs_Q} (hB : zt_B bf) (h : w_X5_variableOnly_93 (zx σ n0 bf) d p3 S Q) : zs_U (zx σ n0 bf) d 4117 93 [(3, va_rf p3)] [] S Q := by
  unfold w_X5_variableOnly_93 at h
  refine zu_aload_n d_4117_93 rfl (zs_rr _) ?_
  exact zu_aret d_4117_94 zr_4117 (zs_rr _) h
def w_X5_variableOnly_87 (X : zs_X) (d : Nat) (p0 : Nat) (S : zs_T) (Q : zs_Q) : Prop :=
  (zs_K S p0 = some (.inl 4) ∧ zs_C X d 4006 [.ref p0, .int (5 : Int32)] S (zs_kR (fun v3 S2 => (∃ b4, v3 = some b4 ∧ Q (.threw b4) S2)) Q))
theorem u_X5_variableOnly_87 {σ : Nat → Nat} {n0 : Nat} {bf : ab_B} {d : Nat} {p0 : Nat} {S : zs_T} {Q : zs_Q} (hB : zt_B bf) (h : w_X5_variableOnly_87 (zx σ n0 bf) d p0 S Q) : zs_U (zx σ n0 bf) d 4117 87 [(0, .ref p0)] [] S Q := by
  unfold w_X5_variableOnly_87 at h
  refine zu_aload_n d_4117_87 rfl (zs_ra _) ?_
  refine zu_iconst d_4117_88 zi_5 ?_
  obtain ⟨k1, h⟩ := h
  refine zc_4_25 (x0 := (5 : Int32)) hB rfl k1 d_4117_89 (Nat.le_of_ble_eq_true rfl) h (fun v3 S2 h => ?_)
  obtain ⟨b4, e5, h⟩ := h
  refine zs_stk0 (zs_rfe e5) ?_
  exact zu_throw d_4117_92 h
def w_X5_variableOnly_54 (X : zs_X) (d : Nat) (p0 : Nat) (p1 : Option Nat) (S : zs_T) (Q : zs_Q) : Prop :=
  (zs_K S p0 = some (.inl 4) ∧ ∃ b2, (zs_R S 4000 p0) = some b2 ∧ zs_K S b2 = some (.inl 5) ∧ zs_C X d 5004 [.ref b2] S (zs_kV (fun S5 => (zs_K S5 p0 = some (.inl 4) ∧ zs_C X d 4047 [.ref p0, va_rf p1, .int (zs_I S 5005 b2)] S5 (zs_kR (fun v9 S8 => (zs_K S8 p0 = some (.inl 4) ∧ zs_C X d 4049 [.ref p0, va_rf v9] S8 (zs_kR (fun v12 S11 => (∃ b13, v12 = some b13 ∧ zs_K S11 b13 = some (.inl 11) ∧ zs_C X d 11001 [.ref b13] S11 (zs_kI (fun v17 S16 => (((¬ v17 = 0 → w_X5_variableOnly_93 X d v12 S16 Q) ∧ (¬ (¬ v17 = 0) → w_X5_variableOnly_87 X d p0 S16 Q)))) Q))) Q))) Q))) Q))
theorem u_X5_variableOnly_54 {σ : Nat → Nat} {n0 : Nat} {bf : ab_B} {d : Nat} {p0 : Nat} {p1 : Option Nat} {S : zs_T} {Q : zs_Q} (hB : zt_B bf) (h : w_X5_variableOnly_54 (zx σ n0 bf) d p0 p1 S Q) : zs_U (zx σ n0 bf) d 4117 54 [(0, .ref p0), (1, va_rf p1)] [] S Q := by
  unfold w_X5_variableOnly_54 at h
  refine zu_aload_n d_4117_54 rfl (zs_ra _) ?_
  obtain ⟨k1, h⟩ := h
  refine zg_4_5 rfl d_4117_55 k1 ?_
  obtain ⟨b2, e3, h⟩ := h
  refine zs_stk0 (zs_rfe e3) ?_
  obtain ⟨k4, h⟩ := h
  refine zg_4_11 rfl d_4117_58 k4 ?_
  refine zu_istore_n d_4117_61 (zs_lt zq_4117 rfl) ?_
  refine zs_U.weak (L1 := [(2, .int (zs_I S 5005 b2)), (0, .ref p0), (1, va_rf p1)]) ?_ ⟨rfl, zs_gp1 rfl (Or.inl rfl) rfl, zs_gp1 rfl (Or.inl (zs_cat _)) rfl, trivial⟩
  refine zu_aload_n d_4117_62 rfl (zs_ra _) ?_
  refine zg_4_5 rfl d_4117_63 k1 ?_
  refine zs_stk0 (zs_rfe e3) ?_
  refine zc_4_29  hB rfl k4 d_4117_66 (Nat.le_of_ble_eq_true rfl) h (fun S5 h => ?_)
  refine zu_aload_n d_4117_69 rfl (zs_ra _) ?_
  refine zu_aload_n d_4117_70 rfl (zs_ra _) ?_
  refine zu_aload_n d_4117_71 rfl (zs_rr _) ?_
  refine zu_iload_n d_4117_72 rfl ?_
  obtain ⟨k7, h⟩ := h
  refine zc_4_658 (x0 := p1) (x1 := (zs_I S 5005 b2)) hB rfl k7 d_4117_73 (Nat.le_of_ble_eq_true rfl) h (fun v9 S8 h => ?_)
  obtain ⟨k10, h⟩ := h
  refine zc_4_661 (x0 := v9) hB rfl k10 d_4117_76 (Nat.le_of_ble_eq_true rfl) h (fun v12 S11 h => ?_)
  refine zu_astore_n d_4117_79 (zs_rr _) (zs_lt zq_4117 rfl) ?_
  refine zu_aload_n d_4117_80 rfl (zs_rr _) ?_
  obtain ⟨b13, e14, h⟩ := h
  refine zs_stk0 (zs_rfe e14) ?_
  obtain ⟨k15, h⟩ := h
  refine zc_4_625  hB rfl k15 d_4117_81 (Nat.le_of_ble_eq_true rfl) h (fun v17 S16 h => ?_)
  refine zu_ifne (t := 93) d_4117_84 rfl (fun c18 => ?_) (fun c18 => ?_)
  · have h := h.1 c18
    exact (u_X5_variableOnly_93 hB h).weak ⟨rfl, trivial⟩
  · have h := h.2 c18
    exact (u_X5_variableOnly_87 hB h).weak ⟨rfl, trivial⟩
def w_X5_variableOnly_48 (X : zs_X) (d : Nat) (p0 : Nat) (S : zs_T) (Q : zs_Q) : Prop :=
  (zs_K S p0 = some (.inl 4) ∧ zs_C X d 4006 [.ref p0, .int (3 : Int32)] S (zs_kR (fun v3 S2 => (∃ b4, v3 = some b4 ∧ Q (.threw b4) S2)) Q))
theorem u_X5_variableOnly_48 {σ : Nat → Nat} {n0 : Nat} {bf : ab_B} {d : Nat} {p0 : Nat} {S : zs_T} {Q : zs_Q} (hB : zt_B bf) (h : w_X5_variableOnly_48 (zx σ n0 bf) d p0 S Q) : zs_U (zx σ n0 bf) d 4117 48 [(0, .ref p0)] [] S Q := by
  unfold w_X5_variableOnly_48 at h
  refine zu_aload_n d_4117_48 rfl (zs_ra _) ?_
  refine zu_iconst d_4117_49 zi_3 ?_
  obtain ⟨k1, h⟩ := h
  refine zc_4_25 (x0 := (3 : Int32)) hB rfl k1 d_4117_50 (Nat.le_of_ble_eq_true rfl) h (fun v3 S2 h => ?_)
  obtain ⟨b4, e5, h⟩ := h
  refine zs_stk0 (zs_rfe e5) ?_
  exact zu_throw d_4117_53 h
def w_X5_variableOnly_40 (X : zs_X) (d : Nat) (p0 : Nat) (p1 : Option Nat) (S : zs_T) (Q : zs_Q) : Prop :=
  (∃ b1, p1 = some b1 ∧ zs_K S b1 = some (.inl 7) ∧ (((zs_I S 7001 b1) = (5 : Int32) → w_X5_variableOnly_54 X d p0 p1 S Q) ∧ (¬ ((zs_I S 7001 b1) = (5 : Int32)) → w_X5_variableOnly_48 X d p0 S Q)))
theorem u_X5_variableOnly_40 {σ : Nat → Nat} {n0 : Nat} {bf : ab_B} {d : Nat} {p0 : Nat} {p1 : Option Nat} {S : zs_T} {Q : zs_Q} (hB : zt_B bf) (h : w_X5_variableOnly_40 (zx σ n0 bf) d p0 p1 S Q) : zs_U (zx σ n0 bf) d 4117 40 [(0, .ref p0), (1, va_rf p1)] [] S Q := by
  unfold w_X5_variableOnly_40 at h
  refine zu_aload_n d_4117_40 rfl (zs_rr _) ?_
  obtain ⟨b1, e2, h⟩ := h
  refine zs_stk0 (zs_rfe e2) ?_
  obtain ⟨k3, h⟩ := h
  refine zg_4_62 rfl d_4117_41 k3 ?_
  refine zu_iconst d_4117_44 zi_5 ?_
  refine zu_cmpeq (t := 54) d_4117_45 rfl (fun c4 => ?_) (fun c4 => ?_)
  · have h := h.1 c4
    exact (u_X5_variableOnly_54 hB h).weak ⟨rfl, rfl, trivial⟩
  · have h := h.2 c4
    exact (u_X5_variableOnly_48 hB h).weak ⟨rfl, trivial⟩
def w_X5_variableOnly (X : zs_X) (d : Nat) (p0 : Nat) (S : zs_T) (Q : zs_Q) : Prop :=
  (zs_K S p0 = some (.inl 4) ∧ ∃ b2, (zs_R S 4000 p0) = some b2 ∧ zs_K S b2 = some (.inl 5) ∧ zs_C X d 5016 [.ref b2] S (zs_kI (fun v6 S5 => (((¬ v6 = 0 → (zs_K S5 p0 = some (.inl 4) ∧ ∃ b9, (zs_R S5 4000 p0) = some b9 ∧ zs_K S5 b9 = some (.inl 5) ∧ zs_C X d 4028 [.ref p0, .int (zs_I S5 5004 b9)] S5 (zs_kR (fun v13 S12 => (((v13 = none → w_X5_variableOnly_48 X d p0 S12 Q) ∧ (∀ b14, v13 = some b14 → (zs_K S12 b14 = some (.inl 7) ∧ (((zs_I S12 7001 b14) = (2 : Int32) → w_X5_variableOnly_54 X d p0 v13 S12 Q) ∧ (¬ ((zs_I S12 7001 b14) = (2 : Int32)) → w_X5_variableOnly_40 X d p0 v13 S12 Q))))))) Q))) ∧ (¬ (¬ v6 = 0) → (zs_K S5 p0 = some (.inl 4) ∧ zs_C X d 4006 [.ref p0, .int (2 : Int32)] S5 (zs_kR (fun v20 S19 => (∃ b21, v20 = some b21 ∧ Q (.threw b21) S19)) Q)))))) Q))
theorem u_X5_variableOnly {σ : Nat → Nat} {n0 : Nat} {bf : ab_B} {d : Nat} {p0 : Nat} {S : zs_T} {Q : zs_Q} (hB : zt_B bf) (hd : 1 ≤ d) (h : w_X5_variableOnly (zx σ n0 bf) (d - 1) p0 S Q) : zs_C (zx σ n0 bf) d 4117 [.ref p0] S Q := by
  have hL : lv_args 0 [.ref p0] = [(0, .ref p0)] := rfl
  refine zs_C.of1 (hB.2 4117 (by decide) (by decide)) hd (by rw [hL]; exact zs_sub_self _ (by exact ⟨rfl, trivial⟩)) ?_
  rw [hL]
  clear hL
  unfold w_X5_variableOnly at h
  refine zu_aload_n d_4117_0 rfl (zs_ra _) ?_
  obtain ⟨k1, h⟩ := h
  refine zg_4_5 rfl d_4117_1 k1 ?_
  obtain ⟨b2, e3, h⟩ := h
  refine zs_stk0 (zs_rfe e3) ?_
  obtain ⟨k4, h⟩ := h
  refine zc_4_36  hB rfl k4 d_4117_4 (Nat.le_of_ble_eq_true rfl) h (fun v6 S5 h => ?_)
  refine zu_ifne (t := 16) d_4117_7 rfl (fun c7 => ?_) (fun c7 => ?_)
  · have h := h.1 c7
    refine zu_aload_n d_4117_16 rfl (zs_ra _) ?_
    refine zu_aload_n d_4117_17 rfl (zs_ra _) ?_
    obtain ⟨k8, h⟩ := h
    refine zg_4_5 rfl d_4117_18 k8 ?_
    obtain ⟨b9, e10, h⟩ := h
    refine zs_stk0 (zs_rfe e10) ?_
    obtain ⟨k11, h⟩ := h
    refine zg_4_40 rfl d_4117_21 k11 ?_
    refine zc_4_318 (x0 := (zs_I S5 5004 b9)) hB rfl k8 d_4117_24 (Nat.le_of_ble_eq_true rfl) h (fun v13 S12 h => ?_)
    refine zu_astore_n d_4117_27 (zs_rr _) (zs_lt zq_4117 rfl) ?_
    refine zu_aload_n d_4117_28 rfl (zs_rr _) ?_
    refine zu_ifnull (u := v13) (t := 48) d_4117_29 rfl rfl (fun e15 => ?_) (fun b14 e15 => ?_)
    · have h := h.1 e15
      exact (u_X5_variableOnly_48 hB h).weak ⟨rfl, trivial⟩
    · have h := h.2 b14 e15
      refine zu_aload_n d_4117_32 rfl (zs_rr _) ?_
      refine zs_stk0 (zs_rfe e15) ?_
      obtain ⟨k16, h⟩ := h
      refine zg_4_62 rfl d_4117_33 k16 ?_
      refine zu_iconst d_4117_36 zi_2 ?_
      refine zu_cmpeq (t := 54) d_4117_37 rfl (fun c17 => ?_) (fun c17 => ?_)
      · have h := h.1 c17
        exact (u_X5_variableOnly_54 hB h).weak ⟨rfl, rfl, trivial⟩
      · have h := h.2 c17
        exact (u_X5_variableOnly_40 hB h).weak ⟨rfl, rfl, trivial⟩
  · have h := h.2 c7
    refine zu_aload_n d_4117_10 rfl (zs_ra _) ?_
    refine zu_iconst d_4117_11 zi_2 ?_
    obtain ⟨k18, h⟩ := h
    refine zc_4_25 (x0 := (2 : Int32)) hB rfl k18 d_4117_12 (Nat.le_of_ble_eq_true rfl) h (fun v20 S19 h => ?_)
    obtain ⟨b21, e22, h⟩ := h
    refine zs_stk0 (zs_rfe e22) ?_
    exact zu_throw d_4117_15 h
/-! SchemaPascal$Reader.many(LSchemaPascal$Fields;)I -/
theorem zm_4118 {σ : Nat → Nat} {n0 : Nat} {bf : ab_B} : ab_code (zx σ n0 bf).1 4118 = prog_9_method_109_code := rfl
theorem zq_4118 {σ : Nat → Nat} {n0 : Nat} {bf : ab_B} : ab_maxL (zx σ n0 bf).1 4118 = 3 := rfl
theorem zr_4118 {σ : Nat → Nat} {n0 : Nat} {bf : ab_B} : ab_ret (zx σ n0 bf).1 4118 = (Option.some Jvm.ClassFile.FieldType.int) := rfl
theorem d_4118_0 {σ : Nat → Nat} {n0 : Nat} {bf : ab_B} : decode (ab_code (zx σ n0 bf).1 4118) 0 = .ok (.aload_n 0, 1) := zd zm_4118 (by decide +kernel)
theorem d_4118_1 {σ : Nat → Nat} {n0 : Nat} {bf : ab_B} : decode (ab_code (zx σ n0 bf).1 4118) 1 = .ok (.getfield 412, 3) := zd zm_4118 (by decide +kernel)
theorem d_4118_4 {σ : Nat → Nat} {n0 : Nat} {bf : ab_B} : decode (ab_code (zx σ n0 bf).1 4118) 4 = .ok (.invokevirtual 50, 3) := zd zm_4118 (by decide +kernel)
theorem d_4118_7 {σ : Nat → Nat} {n0 : Nat} {bf : ab_B} : decode (ab_code (zx σ n0 bf).1 4118) 7 = .ok (.istore_n 1, 1) := zd zm_4118 (by decide +kernel)
theorem d_4118_8 {σ : Nat → Nat} {n0 : Nat} {bf : ab_B} : decode (ab_code (zx σ n0 bf).1 4118) 8 = .ok (.iconst 0, 1) := zd zm_4118 (by decide +kernel)
theorem d_4118_9 {σ : Nat → Nat} {n0 : Nat} {bf : ab_B} : decode (ab_code (zx σ n0 bf).1 4118) 9 = .ok (.istore_n 2, 1) := zd zm_4118 (by decide +kernel)
theorem d_4118_10 {σ : Nat → Nat} {n0 : Nat} {bf : ab_B} : decode (ab_code (zx σ n0 bf).1 4118) 10 = .ok (.aload_n 0, 1) := zd zm_4118 (by decide +kernel)
theorem d_4118_11 {σ : Nat → Nat} {n0 : Nat} {bf : ab_B} : decode (ab_code (zx σ n0 bf).1 4118) 11 = .ok (.getfield 415, 3) := zd zm_4118 (by decide +kernel)
theorem d_4118_14 {σ : Nat → Nat} {n0 : Nat} {bf : ab_B} : decode (ab_code (zx σ n0 bf).1 4118) 14 = .ok (.ifnull 46, 3) := zd zm_4118 (by decide +kernel)
theorem d_4118_17 {σ : Nat → Nat} {n0 : Nat} {bf : ab_B} : decode (ab_code (zx σ n0 bf).1 4118) 17 = .ok (.iload_n 2, 1) := zd zm_4118 (by decide +kernel)
theorem d_4118_18 {σ : Nat → Nat} {n0 : Nat} {bf : ab_B} : decode (ab_code (zx σ n0 bf).1 4118) 18 = .ok (.aload_n 0, 1) := zd zm_4118 (by decide +kernel)
theorem d_4118_19 {σ : Nat → Nat} {n0 : Nat} {bf : ab_B} : decode (ab_code (zx σ n0 bf).1 4118) 19 = .ok (.getfield 415, 3) := zd zm_4118 (by decide +kernel)
theorem d_4118_22 {σ : Nat → Nat} {n0 : Nat} {bf : ab_B} : decode (ab_code (zx σ n0 bf).1 4118) 22 = .ok (.getfield 419, 3) := zd zm_4118 (by decide +kernel)
theorem d_4118_25 {σ : Nat → Nat} {n0 : Nat} {bf : ab_B} : decode (ab_code (zx σ n0 bf).1 4118) 25 = .ok (.invokevirtual 50, 3) := zd zm_4118 (by decide +kernel)
theorem d_4118_28 {σ : Nat → Nat} {n0 : Nat} {bf : ab_B} : decode (ab_code (zx σ n0 bf).1 4118) 28 = .ok (.if_icmp .ge 32, 3) := zd zm_4118 (by decide +kernel)
theorem d_4118_31 {σ : Nat → Nat} {n0 : Nat} {bf : ab_B} : decode (ab_code (zx σ n0 bf).1 4118) 31 = .ok (.iload_n 1, 1) := zd zm_4118 (by decide +kernel)
theorem d_4118_32 {σ : Nat → Nat} {n0 : Nat} {bf : ab_B} : decode (ab_code (zx σ n0 bf).1 4118) 32 = .ok (.aload_n 0, 1) := zd zm_4118 (by decide +kernel)
theorem d_4118_33 {σ : Nat → Nat} {n0 : Nat} {bf : ab_B} : decode (ab_code (zx σ n0 bf).1 4118) 33 = .ok (.getfield 415, 3) := zd zm_4118 (by decide +kernel)
theorem d_4118_36 {σ : Nat → Nat} {n0 : Nat} {bf : ab_B} : decode (ab_code (zx σ n0 bf).1 4118) 36 = .ok (.getfield 419, 3) := zd zm_4118 (by decide +kernel)
theorem d_4118_39 {σ : Nat → Nat} {n0 : Nat} {bf : ab_B} : decode (ab_code (zx σ n0 bf).1 4118) 39 = .ok (.iload_n 2, 1) := zd zm_4118 (by decide +kernel)
theorem d_4118_40 {σ : Nat → Nat} {n0 : Nat} {bf : ab_B} : decode (ab_code (zx σ n0 bf).1 4118) 40 = .ok (.invokevirtual 56, 3) := zd zm_4118 (by decide +kernel)
theorem d_4118_43 {σ : Nat → Nat} {n0 : Nat} {bf : ab_B} : decode (ab_code (zx σ n0 bf).1 4118) 43 = .ok (.checkcast 424, 3) := zd zm_4118 (by decide +kernel)
theorem d_4118_46 {σ : Nat → Nat} {n0 : Nat} {bf : ab_B} : decode (ab_code (zx σ n0 bf).1 4118) 46 = .ok (.getfield 426, 3) := zd zm_4118 (by decide +kernel)
theorem d_4118_49 {σ : Nat → Nat} {n0 : Nat} {bf : ab_B} : decode (ab_code (zx σ n0 bf).1 4118) 49 = .ok (.invokestatic 788, 3) := zd zm_4118 (by decide +kernel)
theorem d_4118_52 {σ : Nat → Nat} {n0 : Nat} {bf : ab_B} : decode (ab_code (zx σ n0 bf).1 4118) 52 = .ok (.iadd, 1) := zd zm_4118 (by decide +kernel)
theorem d_4118_53 {σ : Nat → Nat} {n0 : Nat} {bf : ab_B} : decode (ab_code (zx σ n0 bf).1 4118) 53 = .ok (.istore_n 1, 1) := zd zm_4118 (by decide +kernel)
theorem d_4118_54 {σ : Nat → Nat} {n0 : Nat} {bf : ab_B} : decode (ab_code (zx σ n0 bf).1 4118) 54 = .ok (.iinc 2 1, 3) := zd zm_4118 (by decide +kernel)
theorem d_4118_57 {σ : Nat → Nat} {n0 : Nat} {bf : ab_B} : decode (ab_code (zx σ n0 bf).1 4118) 57 = .ok (.goto (-47), 3) := zd zm_4118 (by decide +kernel)
theorem d_4118_60 {σ : Nat → Nat} {n0 : Nat} {bf : ab_B} : decode (ab_code (zx σ n0 bf).1 4118) 60 = .ok (.iload_n 1, 1) := zd zm_4118 (by decide +kernel)
theorem d_4118_61 {σ : Nat → Nat} {n0 : Nat} {bf : ab_B} : decode (ab_code (zx σ n0 bf).1 4118) 61 = .ok (.ireturn, 1) := zd zm_4118 (by decide +kernel)
def w_X5_many_54 (X : zs_X) (d : Nat) (p0 : Option Nat) (p1 : Int32) (p2 : Int32) (S : zs_T) (Q : zs_Q) : Prop :=
  (zs_U X d 4118 10 [(0, va_rf p0), (1, .int p1), (2, .int (p2 + (1 : Int32)))] [] S Q)
theorem u_X5_many_54 {σ : Nat → Nat} {n0 : Nat} {bf : ab_B} {d : Nat} {p0 : Option Nat} {p1 : Int32} {p2 : Int32} {S : zs_T} {Q : zs_Q} (hB : zt_B bf) (h : w_X5_many_54 (zx σ n0 bf) d p0 p1 p2 S Q) : zs_U (zx σ n0 bf) d 4118 54 [(0, va_rf p0), (1, .int p1), (2, .int p2)] [] S Q := by
  unfold w_X5_many_54 at h
  refine zu_iinc d_4118_54 rfl zi_1 (zs_lt zq_4118 rfl) ?_
  refine zu_goto (t := 10) d_4118_57 rfl ?_
  exact h.weak ⟨rfl, rfl, rfl, trivial⟩
def w_X5_many_10 (X : zs_X) (d : Nat) (p0 : Option Nat) (p1 : Int32) (p2 : Int32) (S : zs_T) (Q : zs_Q) : Prop :=
  (∃ b1, p0 = some b1 ∧ zs_K S b1 = some (.inl 13) ∧ (((zs_R S 13001 b1) = none → (Q (.returned (some (.int p1))) S)) ∧ (∀ b4, (zs_R S 13001 b1) = some b4 → (zs_K S b4 = some (.inl 14) ∧ ∃ b7, (zs_R S 14001 b4) = some b7 ∧ zs_K S b7 = some (.inl 16) ∧ zs_C X d 16001 [.ref b7] S (zs_kI (fun v11 S10 => (((v11 ≤ p2 → (Q (.returned (some (.int p1))) S10)) ∧ (¬ (v11 ≤ p2) → (zs_K S10 b1 = some (.inl 13) ∧ ∃ b14, (zs_R S10 13001 b1) = some b14 ∧ zs_K S10 b14 = some (.inl 14) ∧ ∃ b17, (zs_R S10 14001 b14) = some b17 ∧ zs_K S10 b17 = some (.inl 16) ∧ zs_C X d 16009 [.ref b17, .int p2] S10 (zs_kR (fun v21 S20 => ((∀ a, v21 = some a → zs_K S20 a = some (.inl 15)) ∧ ∃ b23, v21 = some b23 ∧ zs_K S20 b23 = some (.inl 15) ∧ zs_C X d 4118 [va_rf (zs_R S20 15002 b23)] S20 (zs_kI (fun v27 S26 => (w_X5_many_54 X d p0 (p1 + v27) p2 S26 Q)) Q))) Q)))))) Q)))))
theorem u_X5_many_10 {σ : Nat → Nat} {n0 : Nat} {bf : ab_B} {d : Nat} {p0 : Option Nat} {p1 : Int32} {p2 : Int32} {S : zs_T} {Q : zs_Q} (hB : zt_B bf) (h : w_X5_many_10 (zx σ n0 bf) d p0 p1 p2 S Q) : zs_U (zx σ n0 bf) d 4118 10 [(0, va_rf p0), (1, .int p1), (2, .int p2)] [] S Q := by
  unfold w_X5_many_10 at h
  refine zu_aload_n d_4118_10 rfl (zs_rr _) ?_
  obtain ⟨b1, e2, h⟩ := h
  refine zs_stk0 (zs_rfe e2) ?_
  obtain ⟨k3, h⟩ := h
  refine zg_4_415 rfl d_4118_11 k3 ?_
  refine zu_ifnull (u := (zs_R S 13001 b1)) (t := 60) d_4118_14 rfl rfl (fun e5 => ?_) (fun b4 e5 => ?_)
  · have h := h.1 e5
    refine zu_iload_n d_4118_60 rfl ?_
    exact zu_iret d_4118_61 zr_4118 rfl h
  · have h := h.2 b4 e5
    refine zu_iload_n d_4118_17 rfl ?_
    refine zu_aload_n d_4118_18 rfl (zs_rr _) ?_
    refine zs_stk0 (zs_rfe e2) ?_
    refine zg_4_415 rfl d_4118_19 k3 ?_
    refine zs_stk0 (zs_rfe e5) ?_
    obtain ⟨k6, h⟩ := h
    refine zg_4_419 rfl d_4118_22 k6 ?_
    obtain ⟨b7, e8, h⟩ := h
    refine zs_stk0 (zs_rfe e8) ?_
    obtain ⟨k9, h⟩ := h
    refine zc_4_50  hB rfl k9 d_4118_25 (Nat.le_of_ble_eq_true rfl) h (fun v11 S10 h => ?_)
    refine zu_cmpge (t := 60) d_4118_28 rfl (fun c12 => ?_) (fun c12 => ?_)
    · have h := h.1 c12
      refine zu_iload_n d_4118_60 rfl ?_
      exact zu_iret d_4118_61 zr_4118 rfl h
    · have h := h.2 c12
      refine zu_iload_n d_4118_31 rfl ?_
      refine zu_aload_n d_4118_32 rfl (zs_rr _) ?_
      refine zs_stk0 (zs_rfe e2) ?_
      obtain ⟨k13, h⟩ := h
      refine zg_4_415 rfl d_4118_33 k13 ?_
      obtain ⟨b14, e15, h⟩ := h
      refine zs_stk0 (zs_rfe e15) ?_
      obtain ⟨k16, h⟩ := h
      refine zg_4_419 rfl d_4118_36 k16 ?_
      refine zu_iload_n d_4118_39 rfl ?_
      obtain ⟨b17, e18, h⟩ := h
      refine zs_stk1 (zs_rfe e18) ?_
      obtain ⟨k19, h⟩ := h
      refine zc_4_56 (x0 := p2) hB rfl k19 d_4118_40 (Nat.le_of_ble_eq_true rfl) h (fun v21 S20 h => ?_)
      obtain ⟨k22, h⟩ := h
      refine zk_4_424 (o := v21) rfl d_4118_43 k22 ?_
      obtain ⟨b23, e24, h⟩ := h
      refine zs_stk0 (zs_rfe e24) ?_
      obtain ⟨k25, h⟩ := h
      refine zg_4_426 rfl d_4118_46 k25 ?_
      refine zc_4_788 (x0 := (zs_R S20 15002 b23)) hB rfl d_4118_49 (Nat.le_of_ble_eq_true rfl) h (fun v27 S26 h => ?_)
      refine zu_stk d_4118_52 rfl rfl ?_
      refine zu_istore_n d_4118_53 (zs_lt zq_4118 rfl) ?_
      refine zs_U.weak (L1 := [(1, .int (p1 + v27)), (0, va_rf p0), (2, .int p2)]) ?_ ⟨rfl, zs_gp1 rfl (Or.inl (zs_cat _)) rfl, zs_gp1 rfl (Or.inl rfl) rfl, trivial⟩
      exact (u_X5_many_54 hB h).weak ⟨rfl, rfl, rfl, trivial⟩
def w_X5_many (X : zs_X) (d : Nat) (p0 : Option Nat) (S : zs_T) (Q : zs_Q) : Prop :=
  (∃ b1, p0 = some b1 ∧ zs_K S b1 = some (.inl 13) ∧ ∃ b4, (zs_R S 13000 b1) = some b4 ∧ zs_K S b4 = some (.inl 16) ∧ zs_C X d 16001 [.ref b4] S (zs_kI (fun v8 S7 => (zs_U X d 4118 10 [(0, va_rf p0), (1, .int v8), (2, .int (0 : Int32))] [] S7 Q)) Q))
theorem u_X5_many {σ : Nat → Nat} {n0 : Nat} {bf : ab_B} {d : Nat} {p0 : Option Nat} {S : zs_T} {Q : zs_Q} (hB : zt_B bf) (hd : 1 ≤ d) (h : w_X5_many (zx σ n0 bf) (d - 1) p0 S Q) : zs_C (zx σ n0 bf) d 4118 [va_rf p0] S Q := by
  have hL : lv_args 0 [va_rf p0] = [(0, va_rf p0)] := by simp [lv_args, zs_cat, zs_cI, zs_cJ, zs_cA]
  refine zs_C.of1 (hB.2 4118 (by decide) (by decide)) hd (by rw [hL]; exact zs_sub_self _ (by exact ⟨rfl, trivial⟩)) ?_
  rw [hL]
  clear hL
  unfold w_X5_many at h
  refine zu_aload_n d_4118_0 rfl (zs_rr _) ?_
  obtain ⟨b1, e2, h⟩ := h
  refine zs_stk0 (zs_rfe e2) ?_
  obtain ⟨k3, h⟩ := h
  refine zg_4_412 rfl d_4118_1 k3 ?_
  obtain ⟨b4, e5, h⟩ := h
  refine zs_stk0 (zs_rfe e5) ?_
  obtain ⟨k6, h⟩ := h
  refine zc_4_50  hB rfl k6 d_4118_4 (Nat.le_of_ble_eq_true rfl) h (fun v8 S7 h => ?_)
  refine zu_istore_n d_4118_7 (zs_lt zq_4118 rfl) ?_
  refine zs_U.weak (L1 := [(1, .int v8), (0, va_rf p0)]) ?_ ⟨rfl, zs_gp1 rfl (Or.inl (zs_cat _)) rfl, trivial⟩
  refine zu_iconst d_4118_8 zi_0 ?_
  refine zu_istore_n d_4118_9 (zs_lt zq_4118 rfl) ?_
  exact h.weak ⟨rfl, rfl, rfl, trivial⟩
/-! SchemaPascal$Reader.act()V -/
theorem zm_4119 {σ : Nat → Nat} {n0 : Nat} {bf : ab_B} : ab_code (zx σ n0 bf).1 4119 = prog_9_method_111_code := rfl
theorem zq_4119 {σ : Nat → Nat} {n0 : Nat} {bf : ab_B} : ab_maxL (zx σ n0 bf).1 4119 = 4 := rfl
theorem zr_4119 {σ : Nat → Nat} {n0 : Nat} {bf : ab_B} : ab_ret (zx σ n0 bf).1 4119 = (Option.none : Option Jvm.ClassFile.FieldType) := rfl
theorem d_4119_0 {σ : Nat → Nat} {n0 : Nat} {bf : ab_B} : decode (ab_code (zx σ n0 bf).1 4119) 0 = .ok (.aload_n 0, 1) := zd zm_4119 (by decide +kernel)
theorem d_4119_1 {σ : Nat → Nat} {n0 : Nat} {bf : ab_B} : decode (ab_code (zx σ n0 bf).1 4119) 1 = .ok (.aload_n 0, 1) := zd zm_4119 (by decide +kernel)
theorem d_4119_2 {σ : Nat → Nat} {n0 : Nat} {bf : ab_B} : decode (ab_code (zx σ n0 bf).1 4119) 2 = .ok (.getfield 5, 3) := zd zm_4119 (by decide +kernel)
theorem d_4119_5 {σ : Nat → Nat} {n0 : Nat} {bf : ab_B} : decode (ab_code (zx σ n0 bf).1 4119) 5 = .ok (.getfield 40, 3) := zd zm_4119 (by decide +kernel)
theorem d_4119_8 {σ : Nat → Nat} {n0 : Nat} {bf : ab_B} : decode (ab_code (zx σ n0 bf).1 4119) 8 = .ok (.invokevirtual 318, 3) := zd zm_4119 (by decide +kernel)
theorem d_4119_11 {σ : Nat → Nat} {n0 : Nat} {bf : ab_B} : decode (ab_code (zx σ n0 bf).1 4119) 11 = .ok (.astore_n 1, 1) := zd zm_4119 (by decide +kernel)
theorem d_4119_12 {σ : Nat → Nat} {n0 : Nat} {bf : ab_B} : decode (ab_code (zx σ n0 bf).1 4119) 12 = .ok (.aload_n 1, 1) := zd zm_4119 (by decide +kernel)
theorem d_4119_13 {σ : Nat → Nat} {n0 : Nat} {bf : ab_B} : decode (ab_code (zx σ n0 bf).1 4119) 13 = .ok (.ifnonnull 9, 3) := zd zm_4119 (by decide +kernel)
theorem d_4119_16 {σ : Nat → Nat} {n0 : Nat} {bf : ab_B} : decode (ab_code (zx σ n0 bf).1 4119) 16 = .ok (.aload_n 0, 1) := zd zm_4119 (by decide +kernel)
theorem d_4119_17 {σ : Nat → Nat} {n0 : Nat} {bf : ab_B} : decode (ab_code (zx σ n0 bf).1 4119) 17 = .ok (.iconst 3, 1) := zd zm_4119 (by decide +kernel)
theorem d_4119_18 {σ : Nat → Nat} {n0 : Nat} {bf : ab_B} : decode (ab_code (zx σ n0 bf).1 4119) 18 = .ok (.invokevirtual 25, 3) := zd zm_4119 (by decide +kernel)
theorem d_4119_21 {σ : Nat → Nat} {n0 : Nat} {bf : ab_B} : decode (ab_code (zx σ n0 bf).1 4119) 21 = .ok (.athrow, 1) := zd zm_4119 (by decide +kernel)
theorem d_4119_22 {σ : Nat → Nat} {n0 : Nat} {bf : ab_B} : decode (ab_code (zx σ n0 bf).1 4119) 22 = .ok (.aload_n 0, 1) := zd zm_4119 (by decide +kernel)
theorem d_4119_23 {σ : Nat → Nat} {n0 : Nat} {bf : ab_B} : decode (ab_code (zx σ n0 bf).1 4119) 23 = .ok (.getfield 5, 3) := zd zm_4119 (by decide +kernel)
theorem d_4119_26 {σ : Nat → Nat} {n0 : Nat} {bf : ab_B} : decode (ab_code (zx σ n0 bf).1 4119) 26 = .ok (.getfield 11, 3) := zd zm_4119 (by decide +kernel)
theorem d_4119_29 {σ : Nat → Nat} {n0 : Nat} {bf : ab_B} : decode (ab_code (zx σ n0 bf).1 4119) 29 = .ok (.istore_n 2, 1) := zd zm_4119 (by decide +kernel)
theorem d_4119_30 {σ : Nat → Nat} {n0 : Nat} {bf : ab_B} : decode (ab_code (zx σ n0 bf).1 4119) 30 = .ok (.aload_n 1, 1) := zd zm_4119 (by decide +kernel)
theorem d_4119_31 {σ : Nat → Nat} {n0 : Nat} {bf : ab_B} : decode (ab_code (zx σ n0 bf).1 4119) 31 = .ok (.getfield 62, 3) := zd zm_4119 (by decide +kernel)
theorem d_4119_34 {σ : Nat → Nat} {n0 : Nat} {bf : ab_B} : decode (ab_code (zx σ n0 bf).1 4119) 34 = .ok (.iconst 4, 1) := zd zm_4119 (by decide +kernel)
theorem d_4119_35 {σ : Nat → Nat} {n0 : Nat} {bf : ab_B} : decode (ab_code (zx σ n0 bf).1 4119) 35 = .ok (.if_icmp .ne 39, 3) := zd zm_4119 (by decide +kernel)
theorem d_4119_38 {σ : Nat → Nat} {n0 : Nat} {bf : ab_B} : decode (ab_code (zx σ n0 bf).1 4119) 38 = .ok (.aload_n 1, 1) := zd zm_4119 (by decide +kernel)
theorem d_4119_39 {σ : Nat → Nat} {n0 : Nat} {bf : ab_B} : decode (ab_code (zx σ n0 bf).1 4119) 39 = .ok (.getfield 168, 3) := zd zm_4119 (by decide +kernel)
theorem d_4119_42 {σ : Nat → Nat} {n0 : Nat} {bf : ab_B} : decode (ab_code (zx σ n0 bf).1 4119) 42 = .ok (.ldc2_w 649, 3) := zd zm_4119 (by decide +kernel)
theorem d_4119_45 {σ : Nat → Nat} {n0 : Nat} {bf : ab_B} : decode (ab_code (zx σ n0 bf).1 4119) 45 = .ok (.lcmp, 1) := zd zm_4119 (by decide +kernel)
theorem d_4119_46 {σ : Nat → Nat} {n0 : Nat} {bf : ab_B} : decode (ab_code (zx σ n0 bf).1 4119) 46 = .ok (.ifCond .le 28, 3) := zd zm_4119 (by decide +kernel)
theorem d_4119_49 {σ : Nat → Nat} {n0 : Nat} {bf : ab_B} : decode (ab_code (zx σ n0 bf).1 4119) 49 = .ok (.aload_n 0, 1) := zd zm_4119 (by decide +kernel)
theorem d_4119_50 {σ : Nat → Nat} {n0 : Nat} {bf : ab_B} : decode (ab_code (zx σ n0 bf).1 4119) 50 = .ok (.iconst 0, 1) := zd zm_4119 (by decide +kernel)
theorem d_4119_51 {σ : Nat → Nat} {n0 : Nat} {bf : ab_B} : decode (ab_code (zx σ n0 bf).1 4119) 51 = .ok (.iload_n 2, 1) := zd zm_4119 (by decide +kernel)
theorem d_4119_52 {σ : Nat → Nat} {n0 : Nat} {bf : ab_B} : decode (ab_code (zx σ n0 bf).1 4119) 52 = .ok (.invokevirtual 273, 3) := zd zm_4119 (by decide +kernel)
theorem d_4119_55 {σ : Nat → Nat} {n0 : Nat} {bf : ab_B} : decode (ab_code (zx σ n0 bf).1 4119) 55 = .ok (.pop, 1) := zd zm_4119 (by decide +kernel)
theorem d_4119_56 {σ : Nat → Nat} {n0 : Nat} {bf : ab_B} : decode (ab_code (zx σ n0 bf).1 4119) 56 = .ok (.aload_n 0, 1) := zd zm_4119 (by decide +kernel)
theorem d_4119_57 {σ : Nat → Nat} {n0 : Nat} {bf : ab_B} : decode (ab_code (zx σ n0 bf).1 4119) 57 = .ok (.getfield 5, 3) := zd zm_4119 (by decide +kernel)
theorem d_4119_60 {σ : Nat → Nat} {n0 : Nat} {bf : ab_B} : decode (ab_code (zx σ n0 bf).1 4119) 60 = .ok (.invokevirtual 29, 3) := zd zm_4119 (by decide +kernel)
theorem d_4119_63 {σ : Nat → Nat} {n0 : Nat} {bf : ab_B} : decode (ab_code (zx σ n0 bf).1 4119) 63 = .ok (.aload_n 0, 1) := zd zm_4119 (by decide +kernel)
theorem d_4119_64 {σ : Nat → Nat} {n0 : Nat} {bf : ab_B} : decode (ab_code (zx σ n0 bf).1 4119) 64 = .ok (.aload_n 1, 1) := zd zm_4119 (by decide +kernel)
theorem d_4119_65 {σ : Nat → Nat} {n0 : Nat} {bf : ab_B} : decode (ab_code (zx σ n0 bf).1 4119) 65 = .ok (.getfield 168, 3) := zd zm_4119 (by decide +kernel)
theorem d_4119_68 {σ : Nat → Nat} {n0 : Nat} {bf : ab_B} : decode (ab_code (zx σ n0 bf).1 4119) 68 = .ok (.l2i, 1) := zd zm_4119 (by decide +kernel)
theorem d_4119_69 {σ : Nat → Nat} {n0 : Nat} {bf : ab_B} : decode (ab_code (zx σ n0 bf).1 4119) 69 = .ok (.iload_n 2, 1) := zd zm_4119 (by decide +kernel)
theorem d_4119_70 {σ : Nat → Nat} {n0 : Nat} {bf : ab_B} : decode (ab_code (zx σ n0 bf).1 4119) 70 = .ok (.invokevirtual 791, 3) := zd zm_4119 (by decide +kernel)
theorem d_4119_73 {σ : Nat → Nat} {n0 : Nat} {bf : ab_B} : decode (ab_code (zx σ n0 bf).1 4119) 73 = .ok (.return_, 1) := zd zm_4119 (by decide +kernel)
theorem d_4119_74 {σ : Nat → Nat} {n0 : Nat} {bf : ab_B} : decode (ab_code (zx σ n0 bf).1 4119) 74 = .ok (.aload_n 1, 1) := zd zm_4119 (by decide +kernel)
theorem d_4119_75 {σ : Nat → Nat} {n0 : Nat} {bf : ab_B} : decode (ab_code (zx σ n0 bf).1 4119) 75 = .ok (.getfield 62, 3) := zd zm_4119 (by decide +kernel)
theorem d_4119_78 {σ : Nat → Nat} {n0 : Nat} {bf : ab_B} : decode (ab_code (zx σ n0 bf).1 4119) 78 = .ok (.iconst 3, 1) := zd zm_4119 (by decide +kernel)
theorem d_4119_79 {σ : Nat → Nat} {n0 : Nat} {bf : ab_B} : decode (ab_code (zx σ n0 bf).1 4119) 79 = .ok (.if_icmp .ne 98, 3) := zd zm_4119 (by decide +kernel)
theorem d_4119_82 {σ : Nat → Nat} {n0 : Nat} {bf : ab_B} : decode (ab_code (zx σ n0 bf).1 4119) 82 = .ok (.aload_n 1, 1) := zd zm_4119 (by decide +kernel)
theorem d_4119_83 {σ : Nat → Nat} {n0 : Nat} {bf : ab_B} : decode (ab_code (zx σ n0 bf).1 4119) 83 = .ok (.getfield 243, 3) := zd zm_4119 (by decide +kernel)
theorem d_4119_86 {σ : Nat → Nat} {n0 : Nat} {bf : ab_B} : decode (ab_code (zx σ n0 bf).1 4119) 86 = .ok (.getfield 255, 3) := zd zm_4119 (by decide +kernel)
theorem d_4119_89 {σ : Nat → Nat} {n0 : Nat} {bf : ab_B} : decode (ab_code (zx σ n0 bf).1 4119) 89 = .ok (.ifnull 20, 3) := zd zm_4119 (by decide +kernel)
theorem d_4119_92 {σ : Nat → Nat} {n0 : Nat} {bf : ab_B} : decode (ab_code (zx σ n0 bf).1 4119) 92 = .ok (.aload_n 1, 1) := zd zm_4119 (by decide +kernel)
theorem d_4119_93 {σ : Nat → Nat} {n0 : Nat} {bf : ab_B} : decode (ab_code (zx σ n0 bf).1 4119) 93 = .ok (.getfield 243, 3) := zd zm_4119 (by decide +kernel)
theorem d_4119_96 {σ : Nat → Nat} {n0 : Nat} {bf : ab_B} : decode (ab_code (zx σ n0 bf).1 4119) 96 = .ok (.aload_n 0, 1) := zd zm_4119 (by decide +kernel)
theorem d_4119_97 {σ : Nat → Nat} {n0 : Nat} {bf : ab_B} : decode (ab_code (zx σ n0 bf).1 4119) 97 = .ok (.getfield 218, 3) := zd zm_4119 (by decide +kernel)
theorem d_4119_100 {σ : Nat → Nat} {n0 : Nat} {bf : ab_B} : decode (ab_code (zx σ n0 bf).1 4119) 100 = .ok (.if_acmp .eq 9, 3) := zd zm_4119 (by decide +kernel)
theorem d_4119_103 {σ : Nat → Nat} {n0 : Nat} {bf : ab_B} : decode (ab_code (zx σ n0 bf).1 4119) 103 = .ok (.aload_n 0, 1) := zd zm_4119 (by decide +kernel)
theorem d_4119_104 {σ : Nat → Nat} {n0 : Nat} {bf : ab_B} : decode (ab_code (zx σ n0 bf).1 4119) 104 = .ok (.iconst 3, 1) := zd zm_4119 (by decide +kernel)
theorem d_4119_105 {σ : Nat → Nat} {n0 : Nat} {bf : ab_B} : decode (ab_code (zx σ n0 bf).1 4119) 105 = .ok (.invokevirtual 25, 3) := zd zm_4119 (by decide +kernel)
theorem d_4119_108 {σ : Nat → Nat} {n0 : Nat} {bf : ab_B} : decode (ab_code (zx σ n0 bf).1 4119) 108 = .ok (.athrow, 1) := zd zm_4119 (by decide +kernel)
theorem d_4119_109 {σ : Nat → Nat} {n0 : Nat} {bf : ab_B} : decode (ab_code (zx σ n0 bf).1 4119) 109 = .ok (.aload_n 0, 1) := zd zm_4119 (by decide +kernel)
theorem d_4119_110 {σ : Nat → Nat} {n0 : Nat} {bf : ab_B} : decode (ab_code (zx σ n0 bf).1 4119) 110 = .ok (.iconst 0, 1) := zd zm_4119 (by decide +kernel)
theorem d_4119_111 {σ : Nat → Nat} {n0 : Nat} {bf : ab_B} : decode (ab_code (zx σ n0 bf).1 4119) 111 = .ok (.iload_n 2, 1) := zd zm_4119 (by decide +kernel)
theorem d_4119_112 {σ : Nat → Nat} {n0 : Nat} {bf : ab_B} : decode (ab_code (zx σ n0 bf).1 4119) 112 = .ok (.invokevirtual 273, 3) := zd zm_4119 (by decide +kernel)
theorem d_4119_115 {σ : Nat → Nat} {n0 : Nat} {bf : ab_B} : decode (ab_code (zx σ n0 bf).1 4119) 115 = .ok (.pop, 1) := zd zm_4119 (by decide +kernel)
theorem d_4119_116 {σ : Nat → Nat} {n0 : Nat} {bf : ab_B} : decode (ab_code (zx σ n0 bf).1 4119) 116 = .ok (.aload_n 0, 1) := zd zm_4119 (by decide +kernel)
theorem d_4119_117 {σ : Nat → Nat} {n0 : Nat} {bf : ab_B} : decode (ab_code (zx σ n0 bf).1 4119) 117 = .ok (.getfield 5, 3) := zd zm_4119 (by decide +kernel)
theorem d_4119_120 {σ : Nat → Nat} {n0 : Nat} {bf : ab_B} : decode (ab_code (zx σ n0 bf).1 4119) 120 = .ok (.invokevirtual 29, 3) := zd zm_4119 (by decide +kernel)
theorem d_4119_123 {σ : Nat → Nat} {n0 : Nat} {bf : ab_B} : decode (ab_code (zx σ n0 bf).1 4119) 123 = .ok (.aload_n 1, 1) := zd zm_4119 (by decide +kernel)
theorem d_4119_124 {σ : Nat → Nat} {n0 : Nat} {bf : ab_B} : decode (ab_code (zx σ n0 bf).1 4119) 124 = .ok (.getfield 243, 3) := zd zm_4119 (by decide +kernel)
theorem d_4119_127 {σ : Nat → Nat} {n0 : Nat} {bf : ab_B} : decode (ab_code (zx σ n0 bf).1 4119) 127 = .ok (.getfield 255, 3) := zd zm_4119 (by decide +kernel)
theorem d_4119_130 {σ : Nat → Nat} {n0 : Nat} {bf : ab_B} : decode (ab_code (zx σ n0 bf).1 4119) 130 = .ok (.ifnonnull 16, 3) := zd zm_4119 (by decide +kernel)
theorem d_4119_133 {σ : Nat → Nat} {n0 : Nat} {bf : ab_B} : decode (ab_code (zx σ n0 bf).1 4119) 133 = .ok (.aload_n 0, 1) := zd zm_4119 (by decide +kernel)
theorem d_4119_134 {σ : Nat → Nat} {n0 : Nat} {bf : ab_B} : decode (ab_code (zx σ n0 bf).1 4119) 134 = .ok (.aload_n 1, 1) := zd zm_4119 (by decide +kernel)
theorem d_4119_135 {σ : Nat → Nat} {n0 : Nat} {bf : ab_B} : decode (ab_code (zx σ n0 bf).1 4119) 135 = .ok (.iload_n 2, 1) := zd zm_4119 (by decide +kernel)
theorem d_4119_136 {σ : Nat → Nat} {n0 : Nat} {bf : ab_B} : decode (ab_code (zx σ n0 bf).1 4119) 136 = .ok (.invokevirtual 651, 3) := zd zm_4119 (by decide +kernel)
theorem d_4119_139 {σ : Nat → Nat} {n0 : Nat} {bf : ab_B} : decode (ab_code (zx σ n0 bf).1 4119) 139 = .ok (.astore_n 3, 1) := zd zm_4119 (by decide +kernel)
theorem d_4119_140 {σ : Nat → Nat} {n0 : Nat} {bf : ab_B} : decode (ab_code (zx σ n0 bf).1 4119) 140 = .ok (.aload_n 0, 1) := zd zm_4119 (by decide +kernel)
theorem d_4119_141 {σ : Nat → Nat} {n0 : Nat} {bf : ab_B} : decode (ab_code (zx σ n0 bf).1 4119) 141 = .ok (.aload_n 3, 1) := zd zm_4119 (by decide +kernel)
theorem d_4119_142 {σ : Nat → Nat} {n0 : Nat} {bf : ab_B} : decode (ab_code (zx σ n0 bf).1 4119) 142 = .ok (.invokevirtual 719, 3) := zd zm_4119 (by decide +kernel)
theorem d_4119_145 {σ : Nat → Nat} {n0 : Nat} {bf : ab_B} : decode (ab_code (zx σ n0 bf).1 4119) 145 = .ok (.return_, 1) := zd zm_4119 (by decide +kernel)
theorem d_4119_146 {σ : Nat → Nat} {n0 : Nat} {bf : ab_B} : decode (ab_code (zx σ n0 bf).1 4119) 146 = .ok (.aload_n 0, 1) := zd zm_4119 (by decide +kernel)
theorem d_4119_147 {σ : Nat → Nat} {n0 : Nat} {bf : ab_B} : decode (ab_code (zx σ n0 bf).1 4119) 147 = .ok (.iconst 2, 1) := zd zm_4119 (by decide +kernel)
theorem d_4119_148 {σ : Nat → Nat} {n0 : Nat} {bf : ab_B} : decode (ab_code (zx σ n0 bf).1 4119) 148 = .ok (.iload_n 2, 1) := zd zm_4119 (by decide +kernel)
theorem d_4119_149 {σ : Nat → Nat} {n0 : Nat} {bf : ab_B} : decode (ab_code (zx σ n0 bf).1 4119) 149 = .ok (.aload_n 1, 1) := zd zm_4119 (by decide +kernel)
theorem d_4119_150 {σ : Nat → Nat} {n0 : Nat} {bf : ab_B} : decode (ab_code (zx σ n0 bf).1 4119) 150 = .ok (.getfield 243, 3) := zd zm_4119 (by decide +kernel)
theorem d_4119_153 {σ : Nat → Nat} {n0 : Nat} {bf : ab_B} : decode (ab_code (zx σ n0 bf).1 4119) 153 = .ok (.getfield 255, 3) := zd zm_4119 (by decide +kernel)
theorem d_4119_156 {σ : Nat → Nat} {n0 : Nat} {bf : ab_B} : decode (ab_code (zx σ n0 bf).1 4119) 156 = .ok (.invokevirtual 572, 3) := zd zm_4119 (by decide +kernel)
theorem d_4119_159 {σ : Nat → Nat} {n0 : Nat} {bf : ab_B} : decode (ab_code (zx σ n0 bf).1 4119) 159 = .ok (.astore_n 3, 1) := zd zm_4119 (by decide +kernel)
theorem d_4119_160 {σ : Nat → Nat} {n0 : Nat} {bf : ab_B} : decode (ab_code (zx σ n0 bf).1 4119) 160 = .ok (.aload_n 3, 1) := zd zm_4119 (by decide +kernel)
theorem d_4119_161 {σ : Nat → Nat} {n0 : Nat} {bf : ab_B} : decode (ab_code (zx σ n0 bf).1 4119) 161 = .ok (.aload_n 1, 1) := zd zm_4119 (by decide +kernel)
theorem d_4119_162 {σ : Nat → Nat} {n0 : Nat} {bf : ab_B} : decode (ab_code (zx σ n0 bf).1 4119) 162 = .ok (.getfield 243, 3) := zd zm_4119 (by decide +kernel)
theorem d_4119_165 {σ : Nat → Nat} {n0 : Nat} {bf : ab_B} : decode (ab_code (zx σ n0 bf).1 4119) 165 = .ok (.getfield 258, 3) := zd zm_4119 (by decide +kernel)
theorem d_4119_168 {σ : Nat → Nat} {n0 : Nat} {bf : ab_B} : decode (ab_code (zx σ n0 bf).1 4119) 168 = .ok (.putfield 664, 3) := zd zm_4119 (by decide +kernel)
theorem d_4119_171 {σ : Nat → Nat} {n0 : Nat} {bf : ab_B} : decode (ab_code (zx σ n0 bf).1 4119) 171 = .ok (.aload_n 0, 1) := zd zm_4119 (by decide +kernel)
theorem d_4119_172 {σ : Nat → Nat} {n0 : Nat} {bf : ab_B} : decode (ab_code (zx σ n0 bf).1 4119) 172 = .ok (.aload_n 3, 1) := zd zm_4119 (by decide +kernel)
theorem d_4119_173 {σ : Nat → Nat} {n0 : Nat} {bf : ab_B} : decode (ab_code (zx σ n0 bf).1 4119) 173 = .ok (.invokevirtual 794, 3) := zd zm_4119 (by decide +kernel)
theorem d_4119_176 {σ : Nat → Nat} {n0 : Nat} {bf : ab_B} : decode (ab_code (zx σ n0 bf).1 4119) 176 = .ok (.return_, 1) := zd zm_4119 (by decide +kernel)
theorem d_4119_177 {σ : Nat → Nat} {n0 : Nat} {bf : ab_B} : decode (ab_code (zx σ n0 bf).1 4119) 177 = .ok (.aload_n 1, 1) := zd zm_4119 (by decide +kernel)
theorem d_4119_178 {σ : Nat → Nat} {n0 : Nat} {bf : ab_B} : decode (ab_code (zx σ n0 bf).1 4119) 178 = .ok (.getfield 62, 3) := zd zm_4119 (by decide +kernel)
theorem d_4119_181 {σ : Nat → Nat} {n0 : Nat} {bf : ab_B} : decode (ab_code (zx σ n0 bf).1 4119) 181 = .ok (.iconst 2, 1) := zd zm_4119 (by decide +kernel)
theorem d_4119_182 {σ : Nat → Nat} {n0 : Nat} {bf : ab_B} : decode (ab_code (zx σ n0 bf).1 4119) 182 = .ok (.if_icmp .eq 17, 3) := zd zm_4119 (by decide +kernel)
theorem d_4119_185 {σ : Nat → Nat} {n0 : Nat} {bf : ab_B} : decode (ab_code (zx σ n0 bf).1 4119) 185 = .ok (.aload_n 1, 1) := zd zm_4119 (by decide +kernel)
theorem d_4119_186 {σ : Nat → Nat} {n0 : Nat} {bf : ab_B} : decode (ab_code (zx σ n0 bf).1 4119) 186 = .ok (.getfield 62, 3) := zd zm_4119 (by decide +kernel)
theorem d_4119_189 {σ : Nat → Nat} {n0 : Nat} {bf : ab_B} : decode (ab_code (zx σ n0 bf).1 4119) 189 = .ok (.iconst 5, 1) := zd zm_4119 (by decide +kernel)
theorem d_4119_190 {σ : Nat → Nat} {n0 : Nat} {bf : ab_B} : decode (ab_code (zx σ n0 bf).1 4119) 190 = .ok (.if_icmp .eq 9, 3) := zd zm_4119 (by decide +kernel)
theorem d_4119_193 {σ : Nat → Nat} {n0 : Nat} {bf : ab_B} : decode (ab_code (zx σ n0 bf).1 4119) 193 = .ok (.aload_n 0, 1) := zd zm_4119 (by decide +kernel)
theorem d_4119_194 {σ : Nat → Nat} {n0 : Nat} {bf : ab_B} : decode (ab_code (zx σ n0 bf).1 4119) 194 = .ok (.iconst 3, 1) := zd zm_4119 (by decide +kernel)
theorem d_4119_195 {σ : Nat → Nat} {n0 : Nat} {bf : ab_B} : decode (ab_code (zx σ n0 bf).1 4119) 195 = .ok (.invokevirtual 25, 3) := zd zm_4119 (by decide +kernel)
theorem d_4119_198 {σ : Nat → Nat} {n0 : Nat} {bf : ab_B} : decode (ab_code (zx σ n0 bf).1 4119) 198 = .ok (.athrow, 1) := zd zm_4119 (by decide +kernel)
theorem d_4119_199 {σ : Nat → Nat} {n0 : Nat} {bf : ab_B} : decode (ab_code (zx σ n0 bf).1 4119) 199 = .ok (.aload_n 0, 1) := zd zm_4119 (by decide +kernel)
theorem d_4119_200 {σ : Nat → Nat} {n0 : Nat} {bf : ab_B} : decode (ab_code (zx σ n0 bf).1 4119) 200 = .ok (.iconst 0, 1) := zd zm_4119 (by decide +kernel)
theorem d_4119_201 {σ : Nat → Nat} {n0 : Nat} {bf : ab_B} : decode (ab_code (zx σ n0 bf).1 4119) 201 = .ok (.iload_n 2, 1) := zd zm_4119 (by decide +kernel)
theorem d_4119_202 {σ : Nat → Nat} {n0 : Nat} {bf : ab_B} : decode (ab_code (zx σ n0 bf).1 4119) 202 = .ok (.invokevirtual 273, 3) := zd zm_4119 (by decide +kernel)
theorem d_4119_205 {σ : Nat → Nat} {n0 : Nat} {bf : ab_B} : decode (ab_code (zx σ n0 bf).1 4119) 205 = .ok (.pop, 1) := zd zm_4119 (by decide +kernel)
theorem d_4119_206 {σ : Nat → Nat} {n0 : Nat} {bf : ab_B} : decode (ab_code (zx σ n0 bf).1 4119) 206 = .ok (.aload_n 0, 1) := zd zm_4119 (by decide +kernel)
theorem d_4119_207 {σ : Nat → Nat} {n0 : Nat} {bf : ab_B} : decode (ab_code (zx σ n0 bf).1 4119) 207 = .ok (.aload_n 0, 1) := zd zm_4119 (by decide +kernel)
theorem d_4119_208 {σ : Nat → Nat} {n0 : Nat} {bf : ab_B} : decode (ab_code (zx σ n0 bf).1 4119) 208 = .ok (.invokevirtual 785, 3) := zd zm_4119 (by decide +kernel)
theorem d_4119_211 {σ : Nat → Nat} {n0 : Nat} {bf : ab_B} : decode (ab_code (zx σ n0 bf).1 4119) 211 = .ok (.invokevirtual 794, 3) := zd zm_4119 (by decide +kernel)
theorem d_4119_214 {σ : Nat → Nat} {n0 : Nat} {bf : ab_B} : decode (ab_code (zx σ n0 bf).1 4119) 214 = .ok (.return_, 1) := zd zm_4119 (by decide +kernel)
def w_X5_act_199 (X : zs_X) (d : Nat) (p0 : Nat) (p2 : Int32) (S : zs_T) (Q : zs_Q) : Prop :=
  (zs_K S p0 = some (.inl 4) ∧ zs_C X d 4094 [.ref p0, .int (0 : Int32), .int p2] S (zs_kI (fun v3 S2 => (zs_K S2 p0 = some (.inl 4) ∧ zs_C X d 4117 [.ref p0] S2 (zs_kR (fun v6 S5 => (zs_K S5 p0 = some (.inl 4) ∧ zs_C X d 4123 [.ref p0, va_rf v6] S5 (zs_kV (fun S8 => (Q (.returned none) S8)) Q))) Q))) Q))
theorem u_X5_act_199 {σ : Nat → Nat} {n0 : Nat} {bf : ab_B} {d : Nat} {p0 : Nat} {p2 : Int32} {S : zs_T} {Q : zs_Q} (hB : zt_B bf) (h : w_X5_act_199 (zx σ n0 bf) d p0 p2 S Q) : zs_U (zx σ n0 bf) d 4119 199 [(0, .ref p0), (2, .int p2)] [] S Q := by
  unfold w_X5_act_199 at h
  refine zu_aload_n d_4119_199 rfl (zs_ra _) ?_
  refine zu_iconst d_4119_200 zi_0 ?_
  refine zu_iload_n d_4119_201 rfl ?_
  obtain ⟨k1, h⟩ := h
  refine zc_4_273 (x0 := (0 : Int32)) (x1 := p2) hB rfl k1 d_4119_202 (Nat.le_of_ble_eq_true rfl) h (fun v3 S2 h => ?_)
  refine zu_pop d_4119_205 rfl ?_
  refine zu_aload_n d_4119_206 rfl (zs_ra _) ?_
  refine zu_aload_n d_4119_207 rfl (zs_ra _) ?_
  obtain ⟨k4, h⟩ := h
  refine zc_4_785  hB rfl k4 d_4119_208 (Nat.le_of_ble_eq_true rfl) h (fun v6 S5 h => ?_)
  obtain ⟨k7, h⟩ := h
  refine zc_4_794 (x0 := v6) hB rfl k7 d_4119_211 (Nat.le_of_ble_eq_true rfl) h (fun S8 h => ?_)
  exact zu_vret d_4119_214 zr_4119 h
def w_X5_act_140 (X : zs_X) (d : Nat) (p0 : Nat) (p3 : Option Nat) (S : zs_T) (Q : zs_Q) : Prop :=
  (zs_K S p0 = some (.inl 4) ∧ zs_C X d 4100 [.ref p0, va_rf p3] S (zs_kV (fun S2 => (Q (.returned none) S2)) Q))
theorem u_X5_act_140 {σ : Nat → Nat} {n0 : Nat} {bf : ab_B} {d : Nat} {p0 : Nat} {p3 : Option Nat} {S : zs_T} {Q : zs_Q} (hB : zt_B bf) (h : w_X5_act_140 (zx σ n0 bf) d p0 p3 S Q) : zs_U (zx σ n0 bf) d 4119 140 [(0, .ref p0), (3, va_rf p3)] [] S Q := by
  unfold w_X5_act_140 at h
  refine zu_aload_n d_4119_140 rfl (zs_ra _) ?_
  refine zu_aload_n d_4119_141 rfl (zs_rr _) ?_
  obtain ⟨k1, h⟩ := h
  refine zc_4_719 (x0 := p3) hB rfl k1 d_4119_142 (Nat.le_of_ble_eq_true rfl) h (fun S2 h => ?_)
  exact zu_vret d_4119_145 zr_4119 h
def w_X5_act_160 (X : zs_X) (d : Nat) (p0 : Nat) (p1 : Option Nat) (p3 : Option Nat) (S : zs_T) (Q : zs_Q) : Prop :=
  (∃ b1, p1 = some b1 ∧ zs_K S b1 = some (.inl 7) ∧ ∃ b4, (zs_R S 7006 b1) = some b4 ∧ zs_K S b4 = some (.inl 10) ∧ ∃ b7, p3 = some b7 ∧ zs_K S b7 = some (.inl 11) ∧ ab_n0 X.1 ≤ b7 ∧ ∀ S11, S11 = zs_sR S 11009 b7 (zs_R S 10007 b4) → zs_K S p0 = some (.inl 4) ∧ zs_C X d 4123 [.ref p0, va_rf p3] S11 (zs_kV (fun S15 => (Q (.returned none) S15)) Q))
theorem u_X5_act_160 {σ : Nat → Nat} {n0 : Nat} {bf : ab_B} {d : Nat} {p0 : Nat} {p1 : Option Nat} {p3 : Option Nat} {S : zs_T} {Q : zs_Q} (hB : zt_B bf) (h : w_X5_act_160 (zx σ n0 bf) d p0 p1 p3 S Q) : zs_U (zx σ n0 bf) d 4119 160 [(0, .ref p0), (1, va_rf p1), (3, va_rf p3)] [] S Q := by
  unfold w_X5_act_160 at h
  refine zu_aload_n d_4119_160 rfl (zs_rr _) ?_
  refine zu_aload_n d_4119_161 rfl (zs_rr _) ?_
  obtain ⟨b1, e2, h⟩ := h
  refine zs_stk0 (zs_rfe e2) ?_
  obtain ⟨k3, h⟩ := h
  refine zg_4_243 rfl d_4119_162 k3 ?_
  obtain ⟨b4, e5, h⟩ := h
  refine zs_stk0 (zs_rfe e5) ?_
  obtain ⟨k6, h⟩ := h
  refine zg_4_258 rfl d_4119_165 k6 ?_
  obtain ⟨b7, e8, h⟩ := h
  refine zs_stk1 (zs_rfe e8) ?_
  obtain ⟨k9, h⟩ := h
  obtain ⟨k10, h⟩ := h
  refine zp_4_664 (v := (zs_R S 10007 b4)) rfl d_4119_168 k9 k10 ?_
  generalize e12 : zs_sR S 11009 b7 (zs_R S 10007 b4) = S11
  have h := h S11 e12.symm
  have K13 : ∀ b, zs_K S11 b = zs_K S b := zs_Kt e12 (zs_KsR _ _ _ _) (fun _ => rfl)
  refine zu_aload_n d_4119_171 rfl (zs_ra _) ?_
  refine zu_aload_n d_4119_172 rfl (zs_rr _) ?_
  obtain ⟨k14, h⟩ := h
  refine zc_4_794 (x0 := p3) hB rfl ((K13 _).trans k14) d_4119_173 (Nat.le_of_ble_eq_true rfl) h (fun S15 h => ?_)
  exact zu_vret d_4119_176 zr_4119 h
def w_X5_act_109 (X : zs_X) (d : Nat) (p0 : Nat) (p1 : Option Nat) (p2 : Int32) (S : zs_T) (Q : zs_Q) : Prop :=
  (zs_K S p0 = some (.inl 4) ∧ zs_C X d 4094 [.ref p0, .int (0 : Int32), .int p2] S (zs_kI (fun v3 S2 => (zs_K S2 p0 = some (.inl 4) ∧ ∃ b5, (zs_R S2 4000 p0) = some b5 ∧ zs_K S2 b5 = some (.inl 5) ∧ zs_C X d 5004 [.ref b5] S2 (zs_kV (fun S8 => (∃ b10, p1 = some b10 ∧ zs_K S8 b10 = some (.inl 7) ∧ ∃ b13, (zs_R S8 7006 b10) = some b13 ∧ zs_K S8 b13 = some (.inl 10) ∧ (((zs_R S8 10006 b13) = none → (zs_K S8 p0 = some (.inl 4) ∧ zs_C X d 4030 [.ref p0, va_rf p1, .int p2] S8 (zs_kR (fun v20 S19 => (w_X5_act_140 X d p0 v20 S19 Q)) Q))) ∧ (∀ b16, (zs_R S8 10006 b13) = some b16 → (zs_K S8 p0 = some (.inl 4) ∧ zs_C X d 4016 [.ref p0, .int (2 : Int32), .int p2, va_rf (zs_R S8 10006 b13)] S8 (zs_kR (fun v23 S22 => (w_X5_act_160 X d p0 p1 v23 S22 Q)) Q)))))) Q))) Q))
theorem u_X5_act_109 {σ : Nat → Nat} {n0 : Nat} {bf : ab_B} {d : Nat} {p0 : Nat} {p1 : Option Nat} {p2 : Int32} {S : zs_T} {Q : zs_Q} (hB : zt_B bf) (h : w_X5_act_109 (zx σ n0 bf) d p0 p1 p2 S Q) : zs_U (zx σ n0 bf) d 4119 109 [(0, .ref p0), (1, va_rf p1), (2, .int p2)] [] S Q := by
  unfold w_X5_act_109 at h
  refine zu_aload_n d_4119_109 rfl (zs_ra _) ?_
  refine zu_iconst d_4119_110 zi_0 ?_
  refine zu_iload_n d_4119_111 rfl ?_
  obtain ⟨k1, h⟩ := h
  refine zc_4_273 (x0 := (0 : Int32)) (x1 := p2) hB rfl k1 d_4119_112 (Nat.le_of_ble_eq_true rfl) h (fun v3 S2 h => ?_)
  refine zu_pop d_4119_115 rfl ?_
  refine zu_aload_n d_4119_116 rfl (zs_ra _) ?_
  obtain ⟨k4, h⟩ := h
  refine zg_4_5 rfl d_4119_117 k4 ?_
  obtain ⟨b5, e6, h⟩ := h
  refine zs_stk0 (zs_rfe e6) ?_
  obtain ⟨k7, h⟩ := h
  refine zc_4_29  hB rfl k7 d_4119_120 (Nat.le_of_ble_eq_true rfl) h (fun S8 h => ?_)
  refine zu_aload_n d_4119_123 rfl (zs_rr _) ?_
  obtain ⟨b10, e11, h⟩ := h
  refine zs_stk0 (zs_rfe e11) ?_
  obtain ⟨k12, h⟩ := h
  refine zg_4_243 rfl d_4119_124 k12 ?_
  obtain ⟨b13, e14, h⟩ := h
  refine zs_stk0 (zs_rfe e14) ?_
  obtain ⟨k15, h⟩ := h
  refine zg_4_255 rfl d_4119_127 k15 ?_
  refine zu_ifnonnull (u := (zs_R S8 10006 b13)) (t := 146) d_4119_130 rfl rfl (fun b16 e17 => ?_) (fun e17 => ?_)
  · have h := h.2 b16 e17
    refine zu_aload_n d_4119_146 rfl (zs_ra _) ?_
    refine zu_iconst d_4119_147 zi_2 ?_
    refine zu_iload_n d_4119_148 rfl ?_
    refine zu_aload_n d_4119_149 rfl (zs_rr _) ?_
    refine zs_stk0 (zs_rfe e11) ?_
    refine zg_4_243 rfl d_4119_150 k12 ?_
    refine zs_stk0 (zs_rfe e14) ?_
    refine zg_4_255 rfl d_4119_153 k15 ?_
    obtain ⟨k21, h⟩ := h
    refine zc_4_572 (x0 := (2 : Int32)) (x1 := p2) (x2 := (zs_R S8 10006 b13)) hB rfl k21 d_4119_156 (Nat.le_of_ble_eq_true rfl) h (fun v23 S22 h => ?_)
    refine zu_astore_n d_4119_159 (zs_rr _) (zs_lt zq_4119 rfl) ?_
    exact (u_X5_act_160 hB h).weak ⟨rfl, rfl, rfl, trivial⟩
  · have h := h.1 e17
    refine zu_aload_n d_4119_133 rfl (zs_ra _) ?_
    refine zu_aload_n d_4119_134 rfl (zs_rr _) ?_
    refine zu_iload_n d_4119_135 rfl ?_
    obtain ⟨k18, h⟩ := h
    refine zc_4_651 (x0 := p1) (x1 := p2) hB rfl k18 d_4119_136 (Nat.le_of_ble_eq_true rfl) h (fun v20 S19 h => ?_)
    refine zu_astore_n d_4119_139 (zs_rr _) (zs_lt zq_4119 rfl) ?_
    exact (u_X5_act_140 hB h).weak ⟨rfl, rfl, trivial⟩
def w_X5_act_74 (X : zs_X) (d : Nat) (p0 : Nat) (p1 : Option Nat) (p2 : Int32) (S : zs_T) (Q : zs_Q) : Prop :=
  (∃ b1, p1 = some b1 ∧ zs_K S b1 = some (.inl 7) ∧ ((¬ (zs_I S 7001 b1) = (3 : Int32) → ((((zs_I S 7001 b1) = (2 : Int32) → w_X5_act_199 X d p0 p2 S Q) ∧ (¬ ((zs_I S 7001 b1) = (2 : Int32)) → ((((zs_I S 7001 b1) = (5 : Int32) → w_X5_act_199 X d p0 p2 S Q) ∧ (¬ ((zs_I S 7001 b1) = (5 : Int32)) → (zs_K S p0 = some (.inl 4) ∧ zs_C X d 4006 [.ref p0, .int (3 : Int32)] S (zs_kR (fun v9 S8 => (∃ b10, v9 = some b10 ∧ Q (.threw b10) S8)) Q))))))))) ∧ (¬ (¬ (zs_I S 7001 b1) = (3 : Int32)) → (∃ b12, (zs_R S 7006 b1) = some b12 ∧ zs_K S b12 = some (.inl 10) ∧ (((zs_R S 10006 b12) = none → w_X5_act_109 X d p0 p1 p2 S Q) ∧ (∀ b15, (zs_R S 10006 b12) = some b15 → (zs_K S p0 = some (.inl 4) ∧ (((zs_R S 7006 b1) = (zs_R S 4010 p0) → w_X5_act_109 X d p0 p1 p2 S Q) ∧ (¬ ((zs_R S 7006 b1) = (zs_R S 4010 p0)) → (zs_C X d 4006 [.ref p0, .int (3 : Int32)] S (zs_kR (fun v20 S19 => (∃ b21, v20 = some b21 ∧ Q (.threw b21) S19)) Q)))))))))))
theorem u_X5_act_74 {σ : Nat → Nat} {n0 : Nat} {bf : ab_B} {d : Nat} {p0 : Nat} {p1 : Option Nat} {p2 : Int32} {S : zs_T} {Q : zs_Q} (hB : zt_B bf) (h : w_X5_act_74 (zx σ n0 bf) d p0 p1 p2 S Q) : zs_U (zx σ n0 bf) d 4119 74 [(0, .ref p0), (1, va_rf p1), (2, .int p2)] [] S Q := by
  unfold w_X5_act_74 at h
  refine zu_aload_n d_4119_74 rfl (zs_rr _) ?_
  obtain ⟨b1, e2, h⟩ := h
  refine zs_stk0 (zs_rfe e2) ?_
  obtain ⟨k3, h⟩ := h
  refine zg_4_62 rfl d_4119_75 k3 ?_
  refine zu_iconst d_4119_78 zi_3 ?_
  refine zu_cmpne (t := 177) d_4119_79 rfl (fun c4 => ?_) (fun c4 => ?_)
  · have h := h.1 c4
    refine zu_aload_n d_4119_177 rfl (zs_rr _) ?_
    refine zs_stk0 (zs_rfe e2) ?_
    refine zg_4_62 rfl d_4119_178 k3 ?_
    refine zu_iconst d_4119_181 zi_2 ?_
    refine zu_cmpeq (t := 199) d_4119_182 rfl (fun c5 => ?_) (fun c5 => ?_)
    · have h := h.1 c5
      exact (u_X5_act_199 hB h).weak ⟨rfl, rfl, trivial⟩
    · have h := h.2 c5
      refine zu_aload_n d_4119_185 rfl (zs_rr _) ?_
      refine zs_stk0 (zs_rfe e2) ?_
      refine zg_4_62 rfl d_4119_186 k3 ?_
      refine zu_iconst d_4119_189 zi_5 ?_
      refine zu_cmpeq (t := 199) d_4119_190 rfl (fun c6 => ?_) (fun c6 => ?_)
      · have h := h.1 c6
        exact (u_X5_act_199 hB h).weak ⟨rfl, rfl, trivial⟩
      · have h := h.2 c6
        refine zu_aload_n d_4119_193 rfl (zs_ra _) ?_
        refine zu_iconst d_4119_194 zi_3 ?_
        obtain ⟨k7, h⟩ := h
        refine zc_4_25 (x0 := (3 : Int32)) hB rfl k7 d_4119_195 (Nat.le_of_ble_eq_true rfl) h (fun v9 S8 h => ?_)
        obtain ⟨b10, e11, h⟩ := h
        refine zs_stk0 (zs_rfe e11) ?_
        exact zu_throw d_4119_198 h
  · have h := h.2 c4
    refine zu_aload_n d_4119_82 rfl (zs_rr _) ?_
    refine zs_stk0 (zs_rfe e2) ?_
    refine zg_4_243 rfl d_4119_83 k3 ?_
    obtain ⟨b12, e13, h⟩ := h
    refine zs_stk0 (zs_rfe e13) ?_
    obtain ⟨k14, h⟩ := h
    refine zg_4_255 rfl d_4119_86 k14 ?_
    refine zu_ifnull (u := (zs_R S 10006 b12)) (t := 109) d_4119_89 rfl rfl (fun e16 => ?_) (fun b15 e16 => ?_)
    · have h := h.1 e16
      exact (u_X5_act_109 hB h).weak ⟨rfl, rfl, rfl, trivial⟩
    · have h := h.2 b15 e16
      refine zu_aload_n d_4119_92 rfl (zs_rr _) ?_
      refine zs_stk0 (zs_rfe e2) ?_
      refine zg_4_243 rfl d_4119_93 k3 ?_
      refine zu_aload_n d_4119_96 rfl (zs_ra _) ?_
      obtain ⟨k17, h⟩ := h
      refine zg_4_218 rfl d_4119_97 k17 ?_
      refine zu_acmpeq (u := (zs_R S 7006 b1)) (w := (zs_R S 4010 p0)) (t := 109) d_4119_100 rfl rfl rfl (fun c18 => ?_) (fun c18 => ?_)
      · have h := h.1 c18
        exact (u_X5_act_109 hB h).weak ⟨rfl, rfl, rfl, trivial⟩
      · have h := h.2 c18
        refine zu_aload_n d_4119_103 rfl (zs_ra _) ?_
        refine zu_iconst d_4119_104 zi_3 ?_
        refine zc_4_25 (x0 := (3 : Int32)) hB rfl k17 d_4119_105 (Nat.le_of_ble_eq_true rfl) h (fun v20 S19 h => ?_)
        obtain ⟨b21, e22, h⟩ := h
        refine zs_stk0 (zs_rfe e22) ?_
        exact zu_throw d_4119_108 h
def w_X5_act_73 (X : zs_X) (d : Nat)  (S : zs_T) (Q : zs_Q) : Prop :=
  (Q (.returned none) S)
theorem u_X5_act_73 {σ : Nat → Nat} {n0 : Nat} {bf : ab_B} {d : Nat}  {S : zs_T} {Q : zs_Q} (hB : zt_B bf) (h : w_X5_act_73 (zx σ n0 bf) d  S Q) : zs_U (zx σ n0 bf) d 4119 73 [] [] S Q := by
  unfold w_X5_act_73 at h
  exact zu_vret d_4119_73 zr_4119 h
def w_X5_act_38 (X : zs_X) (d : Nat) (p0 : Nat) (p1 : Option Nat) (p2 : Int32) (S : zs_T) (Q : zs_Q) : Prop :=
  (∃ b1, p1 = some b1 ∧ zs_K S b1 = some (.inl 7) ∧ (((zs_J S 7003 b1) ≤ (17 : Int64) → w_X5_act_74 X d p0 p1 p2 S Q) ∧ (¬ ((zs_J S 7003 b1) ≤ (17 : Int64)) → (zs_K S p0 = some (.inl 4) ∧ zs_C X d 4094 [.ref p0, .int (0 : Int32), .int p2] S (zs_kI (fun v7 S6 => (zs_K S6 p0 = some (.inl 4) ∧ ∃ b9, (zs_R S6 4000 p0) = some b9 ∧ zs_K S6 b9 = some (.inl 5) ∧ zs_C X d 5004 [.ref b9] S6 (zs_kV (fun S12 => (zs_K S12 b1 = some (.inl 7) ∧ zs_K S12 p0 = some (.inl 4) ∧ zs_C X d 4120 [.ref p0, .int (((zs_J S12 7003 b1)).toInt32), .int p2] S12 (zs_kV (fun S16 => w_X5_act_73 X d  S16 Q) Q))) Q))) Q)))))
theorem u_X5_act_38 {σ : Nat → Nat} {n0 : Nat} {bf : ab_B} {d : Nat} {p0 : Nat} {p1 : Option Nat} {p2 : Int32} {S : zs_T} {Q : zs_Q} (hB : zt_B bf) (h : w_X5_act_38 (zx σ n0 bf) d p0 p1 p2 S Q) : zs_U (zx σ n0 bf) d 4119 38 [(0, .ref p0), (1, va_rf p1), (2, .int p2)] [] S Q := by
  unfold w_X5_act_38 at h
  refine zu_aload_n d_4119_38 rfl (zs_rr _) ?_
  obtain ⟨b1, e2, h⟩ := h
  refine zs_stk0 (zs_rfe e2) ?_
  obtain ⟨k3, h⟩ := h
  refine zg_4_168 rfl d_4119_39 k3 ?_
  refine zl2_4_649 rfl d_4119_42 ?_
  refine zu_lle (t := 74) d_4119_45 d_4119_46 rfl (fun c4 => ?_) (fun c4 => ?_)
  · have h := h.1 c4
    exact (u_X5_act_74 hB h).weak ⟨rfl, rfl, rfl, trivial⟩
  · have h := h.2 c4
    refine zu_aload_n d_4119_49 rfl (zs_ra _) ?_
    refine zu_iconst d_4119_50 zi_0 ?_
    refine zu_iload_n d_4119_51 rfl ?_
    obtain ⟨k5, h⟩ := h
    refine zc_4_273 (x0 := (0 : Int32)) (x1 := p2) hB rfl k5 d_4119_52 (Nat.le_of_ble_eq_true rfl) h (fun v7 S6 h => ?_)
    refine zu_pop d_4119_55 rfl ?_
    refine zu_aload_n d_4119_56 rfl (zs_ra _) ?_
    obtain ⟨k8, h⟩ := h
    refine zg_4_5 rfl d_4119_57 k8 ?_
    obtain ⟨b9, e10, h⟩ := h
    refine zs_stk0 (zs_rfe e10) ?_
    obtain ⟨k11, h⟩ := h
    refine zc_4_29  hB rfl k11 d_4119_60 (Nat.le_of_ble_eq_true rfl) h (fun S12 h => ?_)
    refine zu_aload_n d_4119_63 rfl (zs_ra _) ?_
    refine zu_aload_n d_4119_64 rfl (zs_rr _) ?_
    refine zs_stk0 (zs_rfe e2) ?_
    obtain ⟨k14, h⟩ := h
    refine zg_4_168 rfl d_4119_65 k14 ?_
    refine zu_stk d_4119_68 rfl rfl ?_
    refine zu_iload_n d_4119_69 rfl ?_
    obtain ⟨k15, h⟩ := h
    refine zc_4_791 (x0 := (((zs_J S12 7003 b1)).toInt32)) (x1 := p2) hB rfl k15 d_4119_70 (Nat.le_of_ble_eq_true rfl) h (fun S16 h => ?_)
    exact (u_X5_act_73 hB h).weak trivial
def w_X5_act (X : zs_X) (d : Nat) (p0 : Nat) (S : zs_T) (Q : zs_Q) : Prop :=
  (zs_K S p0 = some (.inl 4) ∧ ∃ b2, (zs_R S 4000 p0) = some b2 ∧ zs_K S b2 = some (.inl 5) ∧ zs_C X d 4028 [.ref p0, .int (zs_I S 5004 b2)] S (zs_kR (fun v6 S5 => (((v6 = none → (zs_K S5 p0 = some (.inl 4) ∧ zs_C X d 4006 [.ref p0, .int (3 : Int32)] S5 (zs_kR (fun v11 S10 => (∃ b12, v11 = some b12 ∧ Q (.threw b12) S10)) Q))) ∧ (∀ b7, v6 = some b7 → (zs_K S5 p0 = some (.inl 4) ∧ ∃ b15, (zs_R S5 4000 p0) = some b15 ∧ zs_K S5 b15 = some (.inl 5) ∧ zs_K S5 b7 = some (.inl 7) ∧ ((¬ (zs_I S5 7001 b7) = (4 : Int32) → w_X5_act_74 X d p0 v6 (zs_I S5 5005 b15) S5 Q) ∧ (¬ (¬ (zs_I S5 7001 b7) = (4 : Int32)) → w_X5_act_38 X d p0 v6 (zs_I S5 5005 b15) S5 Q))))))) Q))
theorem u_X5_act {σ : Nat → Nat} {n0 : Nat} {bf : ab_B} {d : Nat} {p0 : Nat} {S : zs_T} {Q : zs_Q} (hB : zt_B bf) (hd : 1 ≤ d) (h : w_X5_act (zx σ n0 bf) (d - 1) p0 S Q) : zs_C (zx σ n0 bf) d 4119 [.ref p0] S Q := by
  have hL : lv_args 0 [.ref p0] = [(0, .ref p0)] := rfl
  refine zs_C.of1 (hB.2 4119 (by decide) (by decide)) hd (by rw [hL]; exact zs_sub_self _ (by exact ⟨rfl, trivial⟩)) ?_
  rw [hL]
  clear hL
  unfold w_X5_act at h
  refine zu_aload_n d_4119_0 rfl (zs_ra _) ?_
  refine zu_aload_n d_4119_1 rfl (zs_ra _) ?_
  obtain ⟨k1, h⟩ := h
  refine zg_4_5 rfl d_4119_2 k1 ?_
  obtain ⟨b2, e3, h⟩ := h
  refine zs_stk0 (zs_rfe e3) ?_
  obtain ⟨k4, h⟩ := h
  refine zg_4_40 rfl d_4119_5 k4 ?_
  refine zc_4_318 (x0 := (zs_I S 5004 b2)) hB rfl k1 d_4119_8 (Nat.le_of_ble_eq_true rfl) h (fun v6 S5 h => ?_)
  refine zu_astore_n d_4119_11 (zs_rr _) (zs_lt zq_4119 rfl) ?_
  refine zu_aload_n d_4119_12 rfl (zs_rr _) ?_
  refine zu_ifnonnull (u := v6) (t := 22) d_4119_13 rfl rfl (fun b7 e8 => ?_) (fun e8 => ?_)
  · have h := h.2 b7 e8
    refine zu_aload_n d_4119_22 rfl (zs_ra _) ?_
    obtain ⟨k14, h⟩ := h
    refine zg_4_5 rfl d_4119_23 k14 ?_
    obtain ⟨b15, e16, h⟩ := h
    refine zs_stk0 (zs_rfe e16) ?_
    obtain ⟨k17, h⟩ := h
    refine zg_4_11 rfl d_4119_26 k17 ?_
    refine zu_istore_n d_4119_29 (zs_lt zq_4119 rfl) ?_
    refine zs_U.weak (L1 := [(2, .int (zs_I S5 5005 b15)), (0, .ref p0), (1, va_rf v6)]) ?_ ⟨rfl, zs_gp1 rfl (Or.inl rfl) rfl, zs_gp1 rfl (Or.inl (zs_cat _)) rfl, trivial⟩
    refine zu_aload_n d_4119_30 rfl (zs_rr _) ?_
    refine zs_stk0 (zs_rfe e8) ?_
    obtain ⟨k18, h⟩ := h
    refine zg_4_62 rfl d_4119_31 k18 ?_
    refine zu_iconst d_4119_34 zi_4 ?_
    refine zu_cmpne (t := 74) d_4119_35 rfl (fun c19 => ?_) (fun c19 => ?_)
    · have h := h.1 c19
      exact (u_X5_act_74 hB h).weak ⟨rfl, rfl, rfl, trivial⟩
    · have h := h.2 c19
      exact (u_X5_act_38 hB h).weak ⟨rfl, rfl, rfl, trivial⟩
  · have h := h.1 e8
    refine zu_aload_n d_4119_16 rfl (zs_ra _) ?_
    refine zu_iconst d_4119_17 zi_3 ?_
    obtain ⟨k9, h⟩ := h
    refine zc_4_25 (x0 := (3 : Int32)) hB rfl k9 d_4119_18 (Nat.le_of_ble_eq_true rfl) h (fun v11 S10 h => ?_)
    obtain ⟨b12, e13, h⟩ := h
    refine zs_stk0 (zs_rfe e13) ?_
    exact zu_throw d_4119_21 h
/-! SchemaPascal$Reader.builtIn(II)V -/
theorem zm_4120 {σ : Nat → Nat} {n0 : Nat} {bf : ab_B} : ab_code (zx σ n0 bf).1 4120 = prog_9_method_113_code := rfl
theorem zq_4120 {σ : Nat → Nat} {n0 : Nat} {bf : ab_B} : ab_maxL (zx σ n0 bf).1 4120 = 5 := rfl
theorem zr_4120 {σ : Nat → Nat} {n0 : Nat} {bf : ab_B} : ab_ret (zx σ n0 bf).1 4120 = (Option.none : Option Jvm.ClassFile.FieldType) := rfl
theorem d_4120_0 {σ : Nat → Nat} {n0 : Nat} {bf : ab_B} : decode (ab_code (zx σ n0 bf).1 4120) 0 = .ok (.iload_n 1, 1) := zd zm_4120 (by decide +kernel)
theorem d_4120_1 {σ : Nat → Nat} {n0 : Nat} {bf : ab_B} : decode (ab_code (zx σ n0 bf).1 4120) 1 = .ok (.bipush 23, 2) := zd zm_4120 (by decide +kernel)
theorem d_4120_3 {σ : Nat → Nat} {n0 : Nat} {bf : ab_B} : decode (ab_code (zx σ n0 bf).1 4120) 3 = .ok (.if_icmp .eq 21, 3) := zd zm_4120 (by decide +kernel)
theorem d_4120_6 {σ : Nat → Nat} {n0 : Nat} {bf : ab_B} : decode (ab_code (zx σ n0 bf).1 4120) 6 = .ok (.iload_n 1, 1) := zd zm_4120 (by decide +kernel)
theorem d_4120_7 {σ : Nat → Nat} {n0 : Nat} {bf : ab_B} : decode (ab_code (zx σ n0 bf).1 4120) 7 = .ok (.bipush 22, 2) := zd zm_4120 (by decide +kernel)
theorem d_4120_9 {σ : Nat → Nat} {n0 : Nat} {bf : ab_B} : decode (ab_code (zx σ n0 bf).1 4120) 9 = .ok (.if_icmp .ne 35, 3) := zd zm_4120 (by decide +kernel)
theorem d_4120_12 {σ : Nat → Nat} {n0 : Nat} {bf : ab_B} : decode (ab_code (zx σ n0 bf).1 4120) 12 = .ok (.aload_n 0, 1) := zd zm_4120 (by decide +kernel)
theorem d_4120_13 {σ : Nat → Nat} {n0 : Nat} {bf : ab_B} : decode (ab_code (zx σ n0 bf).1 4120) 13 = .ok (.getfield 5, 3) := zd zm_4120 (by decide +kernel)
theorem d_4120_16 {σ : Nat → Nat} {n0 : Nat} {bf : ab_B} : decode (ab_code (zx σ n0 bf).1 4120) 16 = .ok (.bipush 40, 2) := zd zm_4120 (by decide +kernel)
theorem d_4120_18 {σ : Nat → Nat} {n0 : Nat} {bf : ab_B} : decode (ab_code (zx σ n0 bf).1 4120) 18 = .ok (.invokevirtual 21, 3) := zd zm_4120 (by decide +kernel)
theorem d_4120_21 {σ : Nat → Nat} {n0 : Nat} {bf : ab_B} : decode (ab_code (zx σ n0 bf).1 4120) 21 = .ok (.ifCond .ne 23, 3) := zd zm_4120 (by decide +kernel)
theorem d_4120_24 {σ : Nat → Nat} {n0 : Nat} {bf : ab_B} : decode (ab_code (zx σ n0 bf).1 4120) 24 = .ok (.aload_n 0, 1) := zd zm_4120 (by decide +kernel)
theorem d_4120_25 {σ : Nat → Nat} {n0 : Nat} {bf : ab_B} : decode (ab_code (zx σ n0 bf).1 4120) 25 = .ok (.iload_n 1, 1) := zd zm_4120 (by decide +kernel)
theorem d_4120_26 {σ : Nat → Nat} {n0 : Nat} {bf : ab_B} : decode (ab_code (zx σ n0 bf).1 4120) 26 = .ok (.bipush 23, 2) := zd zm_4120 (by decide +kernel)
theorem d_4120_28 {σ : Nat → Nat} {n0 : Nat} {bf : ab_B} : decode (ab_code (zx σ n0 bf).1 4120) 28 = .ok (.if_icmp .ne 8, 3) := zd zm_4120 (by decide +kernel)
theorem d_4120_31 {σ : Nat → Nat} {n0 : Nat} {bf : ab_B} : decode (ab_code (zx σ n0 bf).1 4120) 31 = .ok (.bipush 53, 2) := zd zm_4120 (by decide +kernel)
theorem d_4120_33 {σ : Nat → Nat} {n0 : Nat} {bf : ab_B} : decode (ab_code (zx σ n0 bf).1 4120) 33 = .ok (.goto 5, 3) := zd zm_4120 (by decide +kernel)
theorem d_4120_36 {σ : Nat → Nat} {n0 : Nat} {bf : ab_B} : decode (ab_code (zx σ n0 bf).1 4120) 36 = .ok (.bipush 52, 2) := zd zm_4120 (by decide +kernel)
theorem d_4120_38 {σ : Nat → Nat} {n0 : Nat} {bf : ab_B} : decode (ab_code (zx σ n0 bf).1 4120) 38 = .ok (.iload_n 2, 1) := zd zm_4120 (by decide +kernel)
theorem d_4120_39 {σ : Nat → Nat} {n0 : Nat} {bf : ab_B} : decode (ab_code (zx σ n0 bf).1 4120) 39 = .ok (.invokevirtual 273, 3) := zd zm_4120 (by decide +kernel)
theorem d_4120_42 {σ : Nat → Nat} {n0 : Nat} {bf : ab_B} : decode (ab_code (zx σ n0 bf).1 4120) 42 = .ok (.pop, 1) := zd zm_4120 (by decide +kernel)
theorem d_4120_43 {σ : Nat → Nat} {n0 : Nat} {bf : ab_B} : decode (ab_code (zx σ n0 bf).1 4120) 43 = .ok (.return_, 1) := zd zm_4120 (by decide +kernel)
theorem d_4120_44 {σ : Nat → Nat} {n0 : Nat} {bf : ab_B} : decode (ab_code (zx σ n0 bf).1 4120) 44 = .ok (.aload_n 0, 1) := zd zm_4120 (by decide +kernel)
theorem d_4120_45 {σ : Nat → Nat} {n0 : Nat} {bf : ab_B} : decode (ab_code (zx σ n0 bf).1 4120) 45 = .ok (.getfield 5, 3) := zd zm_4120 (by decide +kernel)
theorem d_4120_48 {σ : Nat → Nat} {n0 : Nat} {bf : ab_B} : decode (ab_code (zx σ n0 bf).1 4120) 48 = .ok (.bipush 40, 2) := zd zm_4120 (by decide +kernel)
theorem d_4120_50 {σ : Nat → Nat} {n0 : Nat} {bf : ab_B} : decode (ab_code (zx σ n0 bf).1 4120) 50 = .ok (.invokevirtual 21, 3) := zd zm_4120 (by decide +kernel)
theorem d_4120_53 {σ : Nat → Nat} {n0 : Nat} {bf : ab_B} : decode (ab_code (zx σ n0 bf).1 4120) 53 = .ok (.ifCond .ne 9, 3) := zd zm_4120 (by decide +kernel)
theorem d_4120_56 {σ : Nat → Nat} {n0 : Nat} {bf : ab_B} : decode (ab_code (zx σ n0 bf).1 4120) 56 = .ok (.aload_n 0, 1) := zd zm_4120 (by decide +kernel)
theorem d_4120_57 {σ : Nat → Nat} {n0 : Nat} {bf : ab_B} : decode (ab_code (zx σ n0 bf).1 4120) 57 = .ok (.iconst 5, 1) := zd zm_4120 (by decide +kernel)
theorem d_4120_58 {σ : Nat → Nat} {n0 : Nat} {bf : ab_B} : decode (ab_code (zx σ n0 bf).1 4120) 58 = .ok (.invokevirtual 25, 3) := zd zm_4120 (by decide +kernel)
theorem d_4120_61 {σ : Nat → Nat} {n0 : Nat} {bf : ab_B} : decode (ab_code (zx σ n0 bf).1 4120) 61 = .ok (.athrow, 1) := zd zm_4120 (by decide +kernel)
theorem d_4120_62 {σ : Nat → Nat} {n0 : Nat} {bf : ab_B} : decode (ab_code (zx σ n0 bf).1 4120) 62 = .ok (.aload_n 0, 1) := zd zm_4120 (by decide +kernel)
theorem d_4120_63 {σ : Nat → Nat} {n0 : Nat} {bf : ab_B} : decode (ab_code (zx σ n0 bf).1 4120) 63 = .ok (.invokevirtual 357, 3) := zd zm_4120 (by decide +kernel)
theorem d_4120_66 {σ : Nat → Nat} {n0 : Nat} {bf : ab_B} : decode (ab_code (zx σ n0 bf).1 4120) 66 = .ok (.iconst 1, 1) := zd zm_4120 (by decide +kernel)
theorem d_4120_67 {σ : Nat → Nat} {n0 : Nat} {bf : ab_B} : decode (ab_code (zx σ n0 bf).1 4120) 67 = .ok (.istore_n 3, 1) := zd zm_4120 (by decide +kernel)
theorem d_4120_68 {σ : Nat → Nat} {n0 : Nat} {bf : ab_B} : decode (ab_code (zx σ n0 bf).1 4120) 68 = .ok (.iconst 1, 1) := zd zm_4120 (by decide +kernel)
theorem d_4120_69 {σ : Nat → Nat} {n0 : Nat} {bf : ab_B} : decode (ab_code (zx σ n0 bf).1 4120) 69 = .ok (.istore 4, 2) := zd zm_4120 (by decide +kernel)
theorem d_4120_71 {σ : Nat → Nat} {n0 : Nat} {bf : ab_B} : decode (ab_code (zx σ n0 bf).1 4120) 71 = .ok (.iload_n 3, 1) := zd zm_4120 (by decide +kernel)
theorem d_4120_72 {σ : Nat → Nat} {n0 : Nat} {bf : ab_B} : decode (ab_code (zx σ n0 bf).1 4120) 72 = .ok (.ifCond .eq 60, 3) := zd zm_4120 (by decide +kernel)
theorem d_4120_75 {σ : Nat → Nat} {n0 : Nat} {bf : ab_B} : decode (ab_code (zx σ n0 bf).1 4120) 75 = .ok (.aload_n 0, 1) := zd zm_4120 (by decide +kernel)
theorem d_4120_76 {σ : Nat → Nat} {n0 : Nat} {bf : ab_B} : decode (ab_code (zx σ n0 bf).1 4120) 76 = .ok (.getfield 5, 3) := zd zm_4120 (by decide +kernel)
theorem d_4120_79 {σ : Nat → Nat} {n0 : Nat} {bf : ab_B} : decode (ab_code (zx σ n0 bf).1 4120) 79 = .ok (.invokevirtual 29, 3) := zd zm_4120 (by decide +kernel)
theorem d_4120_82 {σ : Nat → Nat} {n0 : Nat} {bf : ab_B} : decode (ab_code (zx σ n0 bf).1 4120) 82 = .ok (.aload_n 0, 1) := zd zm_4120 (by decide +kernel)
theorem d_4120_83 {σ : Nat → Nat} {n0 : Nat} {bf : ab_B} : decode (ab_code (zx σ n0 bf).1 4120) 83 = .ok (.iload_n 1, 1) := zd zm_4120 (by decide +kernel)
theorem d_4120_84 {σ : Nat → Nat} {n0 : Nat} {bf : ab_B} : decode (ab_code (zx σ n0 bf).1 4120) 84 = .ok (.iload_n 2, 1) := zd zm_4120 (by decide +kernel)
theorem d_4120_85 {σ : Nat → Nat} {n0 : Nat} {bf : ab_B} : decode (ab_code (zx σ n0 bf).1 4120) 85 = .ok (.iload 4, 2) := zd zm_4120 (by decide +kernel)
theorem d_4120_87 {σ : Nat → Nat} {n0 : Nat} {bf : ab_B} : decode (ab_code (zx σ n0 bf).1 4120) 87 = .ok (.invokevirtual 797, 3) := zd zm_4120 (by decide +kernel)
theorem d_4120_90 {σ : Nat → Nat} {n0 : Nat} {bf : ab_B} : decode (ab_code (zx σ n0 bf).1 4120) 90 = .ok (.iconst 0, 1) := zd zm_4120 (by decide +kernel)
theorem d_4120_91 {σ : Nat → Nat} {n0 : Nat} {bf : ab_B} : decode (ab_code (zx σ n0 bf).1 4120) 91 = .ok (.istore 4, 2) := zd zm_4120 (by decide +kernel)
theorem d_4120_93 {σ : Nat → Nat} {n0 : Nat} {bf : ab_B} : decode (ab_code (zx σ n0 bf).1 4120) 93 = .ok (.aload_n 0, 1) := zd zm_4120 (by decide +kernel)
theorem d_4120_94 {σ : Nat → Nat} {n0 : Nat} {bf : ab_B} : decode (ab_code (zx σ n0 bf).1 4120) 94 = .ok (.getfield 5, 3) := zd zm_4120 (by decide +kernel)
theorem d_4120_97 {σ : Nat → Nat} {n0 : Nat} {bf : ab_B} : decode (ab_code (zx σ n0 bf).1 4120) 97 = .ok (.bipush 44, 2) := zd zm_4120 (by decide +kernel)
theorem d_4120_99 {σ : Nat → Nat} {n0 : Nat} {bf : ab_B} : decode (ab_code (zx σ n0 bf).1 4120) 99 = .ok (.invokevirtual 21, 3) := zd zm_4120 (by decide +kernel)
theorem d_4120_102 {σ : Nat → Nat} {n0 : Nat} {bf : ab_B} : decode (ab_code (zx σ n0 bf).1 4120) 102 = .ok (.ifCond .eq 25, 3) := zd zm_4120 (by decide +kernel)
theorem d_4120_105 {σ : Nat → Nat} {n0 : Nat} {bf : ab_B} : decode (ab_code (zx σ n0 bf).1 4120) 105 = .ok (.iload_n 1, 1) := zd zm_4120 (by decide +kernel)
theorem d_4120_106 {σ : Nat → Nat} {n0 : Nat} {bf : ab_B} : decode (ab_code (zx σ n0 bf).1 4120) 106 = .ok (.bipush 20, 2) := zd zm_4120 (by decide +kernel)
theorem d_4120_108 {σ : Nat → Nat} {n0 : Nat} {bf : ab_B} : decode (ab_code (zx σ n0 bf).1 4120) 108 = .ok (.if_icmp .eq 15, 3) := zd zm_4120 (by decide +kernel)
theorem d_4120_111 {σ : Nat → Nat} {n0 : Nat} {bf : ab_B} : decode (ab_code (zx σ n0 bf).1 4120) 111 = .ok (.iload_n 1, 1) := zd zm_4120 (by decide +kernel)
theorem d_4120_112 {σ : Nat → Nat} {n0 : Nat} {bf : ab_B} : decode (ab_code (zx σ n0 bf).1 4120) 112 = .ok (.bipush 21, 2) := zd zm_4120 (by decide +kernel)
theorem d_4120_114 {σ : Nat → Nat} {n0 : Nat} {bf : ab_B} : decode (ab_code (zx σ n0 bf).1 4120) 114 = .ok (.if_icmp .eq 9, 3) := zd zm_4120 (by decide +kernel)
theorem d_4120_117 {σ : Nat → Nat} {n0 : Nat} {bf : ab_B} : decode (ab_code (zx σ n0 bf).1 4120) 117 = .ok (.iload_n 1, 1) := zd zm_4120 (by decide +kernel)
theorem d_4120_118 {σ : Nat → Nat} {n0 : Nat} {bf : ab_B} : decode (ab_code (zx σ n0 bf).1 4120) 118 = .ok (.bipush 22, 2) := zd zm_4120 (by decide +kernel)
theorem d_4120_120 {σ : Nat → Nat} {n0 : Nat} {bf : ab_B} : decode (ab_code (zx σ n0 bf).1 4120) 120 = .ok (.if_icmp .ne 7, 3) := zd zm_4120 (by decide +kernel)
theorem d_4120_123 {σ : Nat → Nat} {n0 : Nat} {bf : ab_B} : decode (ab_code (zx σ n0 bf).1 4120) 123 = .ok (.iconst 1, 1) := zd zm_4120 (by decide +kernel)
theorem d_4120_124 {σ : Nat → Nat} {n0 : Nat} {bf : ab_B} : decode (ab_code (zx σ n0 bf).1 4120) 124 = .ok (.goto 4, 3) := zd zm_4120 (by decide +kernel)
theorem d_4120_127 {σ : Nat → Nat} {n0 : Nat} {bf : ab_B} : decode (ab_code (zx σ n0 bf).1 4120) 127 = .ok (.iconst 0, 1) := zd zm_4120 (by decide +kernel)
theorem d_4120_128 {σ : Nat → Nat} {n0 : Nat} {bf : ab_B} : decode (ab_code (zx σ n0 bf).1 4120) 128 = .ok (.istore_n 3, 1) := zd zm_4120 (by decide +kernel)
theorem d_4120_129 {σ : Nat → Nat} {n0 : Nat} {bf : ab_B} : decode (ab_code (zx σ n0 bf).1 4120) 129 = .ok (.goto (-58), 3) := zd zm_4120 (by decide +kernel)
theorem d_4120_132 {σ : Nat → Nat} {n0 : Nat} {bf : ab_B} : decode (ab_code (zx σ n0 bf).1 4120) 132 = .ok (.aload_n 0, 1) := zd zm_4120 (by decide +kernel)
theorem d_4120_133 {σ : Nat → Nat} {n0 : Nat} {bf : ab_B} : decode (ab_code (zx σ n0 bf).1 4120) 133 = .ok (.getfield 5, 3) := zd zm_4120 (by decide +kernel)
theorem d_4120_136 {σ : Nat → Nat} {n0 : Nat} {bf : ab_B} : decode (ab_code (zx σ n0 bf).1 4120) 136 = .ok (.bipush 41, 2) := zd zm_4120 (by decide +kernel)
theorem d_4120_138 {σ : Nat → Nat} {n0 : Nat} {bf : ab_B} : decode (ab_code (zx σ n0 bf).1 4120) 138 = .ok (.invokevirtual 21, 3) := zd zm_4120 (by decide +kernel)
theorem d_4120_141 {σ : Nat → Nat} {n0 : Nat} {bf : ab_B} : decode (ab_code (zx σ n0 bf).1 4120) 141 = .ok (.ifCond .ne 25, 3) := zd zm_4120 (by decide +kernel)
theorem d_4120_144 {σ : Nat → Nat} {n0 : Nat} {bf : ab_B} : decode (ab_code (zx σ n0 bf).1 4120) 144 = .ok (.aload_n 0, 1) := zd zm_4120 (by decide +kernel)
theorem d_4120_145 {σ : Nat → Nat} {n0 : Nat} {bf : ab_B} : decode (ab_code (zx σ n0 bf).1 4120) 145 = .ok (.aload_n 0, 1) := zd zm_4120 (by decide +kernel)
theorem d_4120_146 {σ : Nat → Nat} {n0 : Nat} {bf : ab_B} : decode (ab_code (zx σ n0 bf).1 4120) 146 = .ok (.getfield 5, 3) := zd zm_4120 (by decide +kernel)
theorem d_4120_149 {σ : Nat → Nat} {n0 : Nat} {bf : ab_B} : decode (ab_code (zx σ n0 bf).1 4120) 149 = .ok (.bipush 44, 2) := zd zm_4120 (by decide +kernel)
theorem d_4120_151 {σ : Nat → Nat} {n0 : Nat} {bf : ab_B} : decode (ab_code (zx σ n0 bf).1 4120) 151 = .ok (.invokevirtual 21, 3) := zd zm_4120 (by decide +kernel)
theorem d_4120_154 {σ : Nat → Nat} {n0 : Nat} {bf : ab_B} : decode (ab_code (zx σ n0 bf).1 4120) 154 = .ok (.ifCond .eq 7, 3) := zd zm_4120 (by decide +kernel)
theorem d_4120_157 {σ : Nat → Nat} {n0 : Nat} {bf : ab_B} : decode (ab_code (zx σ n0 bf).1 4120) 157 = .ok (.iconst 5, 1) := zd zm_4120 (by decide +kernel)
theorem d_4120_158 {σ : Nat → Nat} {n0 : Nat} {bf : ab_B} : decode (ab_code (zx σ n0 bf).1 4120) 158 = .ok (.goto 4, 3) := zd zm_4120 (by decide +kernel)
theorem d_4120_161 {σ : Nat → Nat} {n0 : Nat} {bf : ab_B} : decode (ab_code (zx σ n0 bf).1 4120) 161 = .ok (.iconst 2, 1) := zd zm_4120 (by decide +kernel)
theorem d_4120_162 {σ : Nat → Nat} {n0 : Nat} {bf : ab_B} : decode (ab_code (zx σ n0 bf).1 4120) 162 = .ok (.invokevirtual 25, 3) := zd zm_4120 (by decide +kernel)
theorem d_4120_165 {σ : Nat → Nat} {n0 : Nat} {bf : ab_B} : decode (ab_code (zx σ n0 bf).1 4120) 165 = .ok (.athrow, 1) := zd zm_4120 (by decide +kernel)
theorem d_4120_166 {σ : Nat → Nat} {n0 : Nat} {bf : ab_B} : decode (ab_code (zx σ n0 bf).1 4120) 166 = .ok (.aload_n 0, 1) := zd zm_4120 (by decide +kernel)
theorem d_4120_167 {σ : Nat → Nat} {n0 : Nat} {bf : ab_B} : decode (ab_code (zx σ n0 bf).1 4120) 167 = .ok (.getfield 5, 3) := zd zm_4120 (by decide +kernel)
theorem d_4120_170 {σ : Nat → Nat} {n0 : Nat} {bf : ab_B} : decode (ab_code (zx σ n0 bf).1 4120) 170 = .ok (.invokevirtual 29, 3) := zd zm_4120 (by decide +kernel)
theorem d_4120_173 {σ : Nat → Nat} {n0 : Nat} {bf : ab_B} : decode (ab_code (zx σ n0 bf).1 4120) 173 = .ok (.aload_n 0, 1) := zd zm_4120 (by decide +kernel)
theorem d_4120_174 {σ : Nat → Nat} {n0 : Nat} {bf : ab_B} : decode (ab_code (zx σ n0 bf).1 4120) 174 = .ok (.dup, 1) := zd zm_4120 (by decide +kernel)
theorem d_4120_175 {σ : Nat → Nat} {n0 : Nat} {bf : ab_B} : decode (ab_code (zx σ n0 bf).1 4120) 175 = .ok (.getfield 43, 3) := zd zm_4120 (by decide +kernel)
theorem d_4120_178 {σ : Nat → Nat} {n0 : Nat} {bf : ab_B} : decode (ab_code (zx σ n0 bf).1 4120) 178 = .ok (.iconst 1, 1) := zd zm_4120 (by decide +kernel)
theorem d_4120_179 {σ : Nat → Nat} {n0 : Nat} {bf : ab_B} : decode (ab_code (zx σ n0 bf).1 4120) 179 = .ok (.isub, 1) := zd zm_4120 (by decide +kernel)
theorem d_4120_180 {σ : Nat → Nat} {n0 : Nat} {bf : ab_B} : decode (ab_code (zx σ n0 bf).1 4120) 180 = .ok (.putfield 43, 3) := zd zm_4120 (by decide +kernel)
theorem d_4120_183 {σ : Nat → Nat} {n0 : Nat} {bf : ab_B} : decode (ab_code (zx σ n0 bf).1 4120) 183 = .ok (.iload_n 1, 1) := zd zm_4120 (by decide +kernel)
theorem d_4120_184 {σ : Nat → Nat} {n0 : Nat} {bf : ab_B} : decode (ab_code (zx σ n0 bf).1 4120) 184 = .ok (.bipush 22, 2) := zd zm_4120 (by decide +kernel)
theorem d_4120_186 {σ : Nat → Nat} {n0 : Nat} {bf : ab_B} : decode (ab_code (zx σ n0 bf).1 4120) 186 = .ok (.if_icmp .ne 11, 3) := zd zm_4120 (by decide +kernel)
theorem d_4120_189 {σ : Nat → Nat} {n0 : Nat} {bf : ab_B} : decode (ab_code (zx σ n0 bf).1 4120) 189 = .ok (.aload_n 0, 1) := zd zm_4120 (by decide +kernel)
theorem d_4120_190 {σ : Nat → Nat} {n0 : Nat} {bf : ab_B} : decode (ab_code (zx σ n0 bf).1 4120) 190 = .ok (.bipush 52, 2) := zd zm_4120 (by decide +kernel)
theorem d_4120_192 {σ : Nat → Nat} {n0 : Nat} {bf : ab_B} : decode (ab_code (zx σ n0 bf).1 4120) 192 = .ok (.iload_n 2, 1) := zd zm_4120 (by decide +kernel)
theorem d_4120_193 {σ : Nat → Nat} {n0 : Nat} {bf : ab_B} : decode (ab_code (zx σ n0 bf).1 4120) 193 = .ok (.invokevirtual 273, 3) := zd zm_4120 (by decide +kernel)
theorem d_4120_196 {σ : Nat → Nat} {n0 : Nat} {bf : ab_B} : decode (ab_code (zx σ n0 bf).1 4120) 196 = .ok (.pop, 1) := zd zm_4120 (by decide +kernel)
theorem d_4120_197 {σ : Nat → Nat} {n0 : Nat} {bf : ab_B} : decode (ab_code (zx σ n0 bf).1 4120) 197 = .ok (.return_, 1) := zd zm_4120 (by decide +kernel)
def w_X5_builtIn_38 (X : zs_X) (d : Nat) (p2 : Int32) (q0 : Option Nat) (q1 : Int32) (S : zs_T) (Q : zs_Q) : Prop :=
  (∃ b1, q0 = some b1 ∧ zs_K S b1 = some (.inl 4) ∧ zs_C X d 4094 [.ref b1, .int q1, .int p2] S (zs_kI (fun v5 S4 => (Q (.returned none) S4)) Q))
theorem u_X5_builtIn_38 {σ : Nat → Nat} {n0 : Nat} {bf : ab_B} {d : Nat} {p2 : Int32} {q0 : Option Nat} {q1 : Int32} {S : zs_T} {Q : zs_Q} (hB : zt_B bf) (h : w_X5_builtIn_38 (zx σ n0 bf) d p2 q0 q1 S Q) : zs_U (zx σ n0 bf) d 4120 38 [(2, .int p2)] [.int q1, va_rf q0] S Q := by
  unfold w_X5_builtIn_38 at h
  refine zu_iload_n d_4120_38 rfl ?_
  obtain ⟨b1, e2, h⟩ := h
  refine zs_stk2 (zs_rfe e2) ?_
  obtain ⟨k3, h⟩ := h
  refine zc_4_273 (x0 := q1) (x1 := p2) hB rfl k3 d_4120_39 (Nat.le_of_ble_eq_true rfl) h (fun v5 S4 h => ?_)
  refine zu_pop d_4120_42 rfl ?_
  exact zu_vret d_4120_43 zr_4120 h
def w_X5_builtIn_24 (X : zs_X) (d : Nat) (p0 : Nat) (p1 : Int32) (p2 : Int32) (S : zs_T) (Q : zs_Q) : Prop :=
  (((¬ p1 = (23 : Int32) → (w_X5_builtIn_38 X d p2 (some p0) (52 : Int32) S Q)) ∧ (¬ (¬ p1 = (23 : Int32)) → (w_X5_builtIn_38 X d p2 (some p0) (53 : Int32) S Q))))
theorem u_X5_builtIn_24 {σ : Nat → Nat} {n0 : Nat} {bf : ab_B} {d : Nat} {p0 : Nat} {p1 : Int32} {p2 : Int32} {S : zs_T} {Q : zs_Q} (hB : zt_B bf) (h : w_X5_builtIn_24 (zx σ n0 bf) d p0 p1 p2 S Q) : zs_U (zx σ n0 bf) d 4120 24 [(0, .ref p0), (1, .int p1), (2, .int p2)] [] S Q := by
  unfold w_X5_builtIn_24 at h
  refine zu_aload_n d_4120_24 rfl (zs_ra _) ?_
  refine zu_iload_n d_4120_25 rfl ?_
  refine zu_bipush d_4120_26 zj_23 ?_
  refine zu_cmpne (t := 36) d_4120_28 rfl (fun c1 => ?_) (fun c1 => ?_)
  · have h := h.1 c1
    refine zu_bipush d_4120_36 zj_52 ?_
    exact (u_X5_builtIn_38 hB h).weak ⟨rfl, trivial⟩
  · have h := h.2 c1
    refine zu_bipush d_4120_31 zj_53 ?_
    refine zu_goto (t := 38) d_4120_33 rfl ?_
    exact (u_X5_builtIn_38 hB h).weak ⟨rfl, trivial⟩
def w_X5_builtIn_44 (X : zs_X) (d : Nat) (p0 : Nat) (p1 : Int32) (p2 : Int32) (S : zs_T) (Q : zs_Q) : Prop :=
  (zs_K S p0 = some (.inl 4) ∧ ∃ b2, (zs_R S 4000 p0) = some b2 ∧ zs_K S b2 = some (.inl 5) ∧ zs_C X d 5017 [.ref b2, .int (40 : Int32)] S (zs_kI (fun v6 S5 => (((¬ v6 = 0 → (zs_K S5 p0 = some (.inl 4) ∧ zs_C X d 4021 [.ref p0] S5 (zs_kV (fun S9 => (zs_U X d 4120 71 [(0, .ref p0), (1, .int p1), (2, .int p2), (3, .int (1 : Int32)), (4, .int (1 : Int32))] [] S9 Q)) Q))) ∧ (¬ (¬ v6 = 0) → (zs_K S5 p0 = some (.inl 4) ∧ zs_C X d 4006 [.ref p0, .int (5 : Int32)] S5 (zs_kR (fun v13 S12 => (∃ b14, v13 = some b14 ∧ Q (.threw b14) S12)) Q)))))) Q))
theorem u_X5_builtIn_44 {σ : Nat → Nat} {n0 : Nat} {bf : ab_B} {d : Nat} {p0 : Nat} {p1 : Int32} {p2 : Int32} {S : zs_T} {Q : zs_Q} (hB : zt_B bf) (h : w_X5_builtIn_44 (zx σ n0 bf) d p0 p1 p2 S Q) : zs_U (zx σ n0 bf) d 4120 44 [(0, .ref p0), (1, .int p1), (2, .int p2)] [] S Q := by
  unfold w_X5_builtIn_44 at h
  refine zu_aload_n d_4120_44 rfl (zs_ra _) ?_
  obtain ⟨k1, h⟩ := h
  refine zg_4_5 rfl d_4120_45 k1 ?_
  refine zu_bipush d_4120_48 zj_40 ?_
  obtain ⟨b2, e3, h⟩ := h
  refine zs_stk1 (zs_rfe e3) ?_
  obtain ⟨k4, h⟩ := h
  refine zc_4_21 (x0 := (40 : Int32)) hB rfl k4 d_4120_50 (Nat.le_of_ble_eq_true rfl) h (fun v6 S5 h => ?_)
  refine zu_ifne (t := 62) d_4120_53 rfl (fun c7 => ?_) (fun c7 => ?_)
  · have h := h.1 c7
    refine zu_aload_n d_4120_62 rfl (zs_ra _) ?_
    obtain ⟨k8, h⟩ := h
    refine zc_4_357  hB rfl k8 d_4120_63 (Nat.le_of_ble_eq_true rfl) h (fun S9 h => ?_)
    refine zu_iconst d_4120_66 zi_1 ?_
    refine zu_istore_n d_4120_67 (zs_lt zq_4120 rfl) ?_
    refine zu_iconst d_4120_68 zi_1 ?_
    refine zu_istore d_4120_69 (zs_lt zq_4120 rfl) ?_
    exact h.weak ⟨rfl, rfl, rfl, rfl, rfl, trivial⟩
  · have h := h.2 c7
    refine zu_aload_n d_4120_56 rfl (zs_ra _) ?_
    refine zu_iconst d_4120_57 zi_5 ?_
    obtain ⟨k11, h⟩ := h
    refine zc_4_25 (x0 := (5 : Int32)) hB rfl k11 d_4120_58 (Nat.le_of_ble_eq_true rfl) h (fun v13 S12 h => ?_)
    obtain ⟨b14, e15, h⟩ := h
    refine zs_stk0 (zs_rfe e15) ?_
    exact zu_throw d_4120_61 h
def w_X5_builtIn_183 (X : zs_X) (d : Nat) (p0 : Nat) (p1 : Int32) (p2 : Int32) (S : zs_T) (Q : zs_Q) : Prop :=
  (((¬ p1 = (22 : Int32) → (Q (.returned none) S)) ∧ (¬ (¬ p1 = (22 : Int32)) → (zs_K S p0 = some (.inl 4) ∧ zs_C X d 4094 [.ref p0, .int (52 : Int32), .int p2] S (zs_kI (fun v4 S3 => (Q (.returned none) S3)) Q)))))
theorem u_X5_builtIn_183 {σ : Nat → Nat} {n0 : Nat} {bf : ab_B} {d : Nat} {p0 : Nat} {p1 : Int32} {p2 : Int32} {S : zs_T} {Q : zs_Q} (hB : zt_B bf) (h : w_X5_builtIn_183 (zx σ n0 bf) d p0 p1 p2 S Q) : zs_U (zx σ n0 bf) d 4120 183 [(0, .ref p0), (1, .int p1), (2, .int p2)] [] S Q := by
  unfold w_X5_builtIn_183 at h
  refine zu_iload_n d_4120_183 rfl ?_
  refine zu_bipush d_4120_184 zj_22 ?_
  refine zu_cmpne (t := 197) d_4120_186 rfl (fun c1 => ?_) (fun c1 => ?_)
  · have h := h.1 c1
    exact zu_vret d_4120_197 zr_4120 h
  · have h := h.2 c1
    refine zu_aload_n d_4120_189 rfl (zs_ra _) ?_
    refine zu_bipush d_4120_190 zj_52 ?_
    refine zu_iload_n d_4120_192 rfl ?_
    obtain ⟨k2, h⟩ := h
    refine zc_4_273 (x0 := (52 : Int32)) (x1 := p2) hB rfl k2 d_4120_193 (Nat.le_of_ble_eq_true rfl) h (fun v4 S3 h => ?_)
    refine zu_pop d_4120_196 rfl ?_
    exact zu_vret d_4120_197 zr_4120 h
def w_X5_builtIn_162 (X : zs_X) (d : Nat) (q0 : Option Nat) (q1 : Int32) (S : zs_T) (Q : zs_Q) : Prop :=
  (∃ b1, q0 = some b1 ∧ zs_K S b1 = some (.inl 4) ∧ zs_C X d 4006 [.ref b1, .int q1] S (zs_kR (fun v5 S4 => (∃ b6, v5 = some b6 ∧ Q (.threw b6) S4)) Q))
theorem u_X5_builtIn_162 {σ : Nat → Nat} {n0 : Nat} {bf : ab_B} {d : Nat} {q0 : Option Nat} {q1 : Int32} {S : zs_T} {Q : zs_Q} (hB : zt_B bf) (h : w_X5_builtIn_162 (zx σ n0 bf) d q0 q1 S Q) : zs_U (zx σ n0 bf) d 4120 162 [] [.int q1, va_rf q0] S Q := by
  unfold w_X5_builtIn_162 at h
  obtain ⟨b1, e2, h⟩ := h
  refine zs_stk1 (zs_rfe e2) ?_
  obtain ⟨k3, h⟩ := h
  refine zc_4_25 (x0 := q1) hB rfl k3 d_4120_162 (Nat.le_of_ble_eq_true rfl) h (fun v5 S4 h => ?_)
  obtain ⟨b6, e7, h⟩ := h
  refine zs_stk0 (zs_rfe e7) ?_
  exact zu_throw d_4120_165 h
def w_X5_builtIn_127 (X : zs_X) (d : Nat) (p0 : Nat) (p1 : Int32) (p2 : Int32) (p4 : Int32) (S : zs_T) (Q : zs_Q) : Prop :=
  (zs_U X d 4120 71 [(0, .ref p0), (1, .int p1), (2, .int p2), (3, .int (0 : Int32)), (4, .int p4)] [] S Q)
theorem u_X5_builtIn_127 {σ : Nat → Nat} {n0 : Nat} {bf : ab_B} {d : Nat} {p0 : Nat} {p1 : Int32} {p2 : Int32} {p4 : Int32} {S : zs_T} {Q : zs_Q} (hB : zt_B bf) (h : w_X5_builtIn_127 (zx σ n0 bf) d p0 p1 p2 p4 S Q) : zs_U (zx σ n0 bf) d 4120 127 [(0, .ref p0), (1, .int p1), (2, .int p2), (4, .int p4)] [] S Q := by
  unfold w_X5_builtIn_127 at h
  refine zu_iconst d_4120_127 zi_0 ?_
  refine zu_istore_n d_4120_128 (zs_lt zq_4120 rfl) ?_
  refine zu_goto (t := 71) d_4120_129 rfl ?_
  exact h.weak ⟨rfl, rfl, rfl, rfl, rfl, trivial⟩
def w_X5_builtIn_123 (X : zs_X) (d : Nat) (p0 : Nat) (p1 : Int32) (p2 : Int32) (p4 : Int32) (S : zs_T) (Q : zs_Q) : Prop :=
  (zs_U X d 4120 71 [(0, .ref p0), (1, .int p1), (2, .int p2), (3, .int (1 : Int32)), (4, .int p4)] [] S Q)
theorem u_X5_builtIn_123 {σ : Nat → Nat} {n0 : Nat} {bf : ab_B} {d : Nat} {p0 : Nat} {p1 : Int32} {p2 : Int32} {p4 : Int32} {S : zs_T} {Q : zs_Q} (hB : zt_B bf) (h : w_X5_builtIn_123 (zx σ n0 bf) d p0 p1 p2 p4 S Q) : zs_U (zx σ n0 bf) d 4120 123 [(0, .ref p0), (1, .int p1), (2, .int p2), (4, .int p4)] [] S Q := by
  unfold w_X5_builtIn_123 at h
  refine zu_iconst d_4120_123 zi_1 ?_
  refine zu_goto (t := 128) d_4120_124 rfl ?_
  refine zu_istore_n d_4120_128 (zs_lt zq_4120 rfl) ?_
  refine zu_goto (t := 71) d_4120_129 rfl ?_
  exact h.weak ⟨rfl, rfl, rfl, rfl, rfl, trivial⟩
def w_X5_builtIn_105 (X : zs_X) (d : Nat) (p0 : Nat) (p1 : Int32) (p2 : Int32) (p4 : Int32) (S : zs_T) (Q : zs_Q) : Prop :=
  (((p1 = (20 : Int32) → w_X5_builtIn_123 X d p0 p1 p2 p4 S Q) ∧ (¬ (p1 = (20 : Int32)) → (((p1 = (21 : Int32) → w_X5_builtIn_123 X d p0 p1 p2 p4 S Q) ∧ (¬ (p1 = (21 : Int32)) → (((¬ p1 = (22 : Int32) → w_X5_builtIn_127 X d p0 p1 p2 p4 S Q) ∧ (¬ (¬ p1 = (22 : Int32)) → w_X5_builtIn_123 X d p0 p1 p2 p4 S Q)))))))))
theorem u_X5_builtIn_105 {σ : Nat → Nat} {n0 : Nat} {bf : ab_B} {d : Nat} {p0 : Nat} {p1 : Int32} {p2 : Int32} {p4 : Int32} {S : zs_T} {Q : zs_Q} (hB : zt_B bf) (h : w_X5_builtIn_105 (zx σ n0 bf) d p0 p1 p2 p4 S Q) : zs_U (zx σ n0 bf) d 4120 105 [(0, .ref p0), (1, .int p1), (2, .int p2), (4, .int p4)] [] S Q := by
  unfold w_X5_builtIn_105 at h
  refine zu_iload_n d_4120_105 rfl ?_
  refine zu_bipush d_4120_106 zj_20 ?_
  refine zu_cmpeq (t := 123) d_4120_108 rfl (fun c1 => ?_) (fun c1 => ?_)
  · have h := h.1 c1
    exact (u_X5_builtIn_123 hB h).weak ⟨rfl, rfl, rfl, rfl, trivial⟩
  · have h := h.2 c1
    refine zu_iload_n d_4120_111 rfl ?_
    refine zu_bipush d_4120_112 zj_21 ?_
    refine zu_cmpeq (t := 123) d_4120_114 rfl (fun c2 => ?_) (fun c2 => ?_)
    · have h := h.1 c2
      exact (u_X5_builtIn_123 hB h).weak ⟨rfl, rfl, rfl, rfl, trivial⟩
    · have h := h.2 c2
      refine zu_iload_n d_4120_117 rfl ?_
      refine zu_bipush d_4120_118 zj_22 ?_
      refine zu_cmpne (t := 127) d_4120_120 rfl (fun c3 => ?_) (fun c3 => ?_)
      · have h := h.1 c3
        exact (u_X5_builtIn_127 hB h).weak ⟨rfl, rfl, rfl, rfl, trivial⟩
      · have h := h.2 c3
        exact (u_X5_builtIn_123 hB h).weak ⟨rfl, rfl, rfl, rfl, trivial⟩
def w_X5_builtIn_71 (X : zs_X) (d : Nat) (p0 : Nat) (p1 : Int32) (p2 : Int32) (p3 : Int32) (p4 : Int32) (S : zs_T) (Q : zs_Q) : Prop :=
  (((p3 = 0 → (zs_K S p0 = some (.inl 4) ∧ ∃ b3, (zs_R S 4000 p0) = some b3 ∧ zs_K S b3 = some (.inl 5) ∧ zs_C X d 5017 [.ref b3, .int (41 : Int32)] S (zs_kI (fun v7 S6 => (((¬ v7 = 0 → (zs_K S6 p0 = some (.inl 4) ∧ ∃ b10, (zs_R S6 4000 p0) = some b10 ∧ zs_K S6 b10 = some (.inl 5) ∧ zs_C X d 5004 [.ref b10] S6 (zs_kV (fun S13 => (zs_K S13 p0 = some (.inl 4) ∧ ab_n0 X.1 ≤ p0 ∧ ∀ S17, S17 = zs_sI S13 4011 p0 ((zs_I S13 4011 p0) - (1 : Int32)) → w_X5_builtIn_183 X d p0 p1 p2 S17 Q)) Q))) ∧ (¬ (¬ v7 = 0) → (zs_K S6 p0 = some (.inl 4) ∧ ∃ b21, (zs_R S6 4000 p0) = some b21 ∧ zs_K S6 b21 = some (.inl 5) ∧ zs_C X d 5017 [.ref b21, .int (44 : Int32)] S6 (zs_kI (fun v25 S24 => (((v25 = 0 → (w_X5_builtIn_162 X d (some p0) (2 : Int32) S24 Q)) ∧ (¬ (v25 = 0) → (w_X5_builtIn_162 X d (some p0) (5 : Int32) S24 Q))))) Q)))))) Q))) ∧ (¬ (p3 = 0) → (zs_K S p0 = some (.inl 4) ∧ ∃ b28, (zs_R S 4000 p0) = some b28 ∧ zs_K S b28 = some (.inl 5) ∧ zs_C X d 5004 [.ref b28] S (zs_kV (fun S31 => (zs_K S31 p0 = some (.inl 4) ∧ zs_C X d 4121 [.ref p0, .int p1, .int p2, .int p4] S31 (zs_kV (fun S34 => (zs_K S34 p0 = some (.inl 4) ∧ ∃ b37, (zs_R S34 4000 p0) = some b37 ∧ zs_K S34 b37 = some (.inl 5) ∧ zs_C X d 5017 [.ref b37, .int (44 : Int32)] S34 (zs_kI (fun v41 S40 => (((v41 = 0 → w_X5_builtIn_127 X d p0 p1 p2 (0 : Int32) S40 Q) ∧ (¬ (v41 = 0) → w_X5_builtIn_105 X d p0 p1 p2 (0 : Int32) S40 Q)))) Q))) Q))) Q)))))
theorem u_X5_builtIn_71 {σ : Nat → Nat} {n0 : Nat} {bf : ab_B} {d : Nat} {p0 : Nat} {p1 : Int32} {p2 : Int32} {p3 : Int32} {p4 : Int32} {S : zs_T} {Q : zs_Q} (hB : zt_B bf) (h : w_X5_builtIn_71 (zx σ n0 bf) d p0 p1 p2 p3 p4 S Q) : zs_U (zx σ n0 bf) d 4120 71 [(0, .ref p0), (1, .int p1), (2, .int p2), (3, .int p3), (4, .int p4)] [] S Q := by
  unfold w_X5_builtIn_71 at h
  refine zu_iload_n d_4120_71 rfl ?_
  refine zu_ifeq (t := 132) d_4120_72 rfl (fun c1 => ?_) (fun c1 => ?_)
  · have h := h.1 c1
    refine zu_aload_n d_4120_132 rfl (zs_ra _) ?_
    obtain ⟨k2, h⟩ := h
    refine zg_4_5 rfl d_4120_133 k2 ?_
    refine zu_bipush d_4120_136 zj_41 ?_
    obtain ⟨b3, e4, h⟩ := h
    refine zs_stk1 (zs_rfe e4) ?_
    obtain ⟨k5, h⟩ := h
    refine zc_4_21 (x0 := (41 : Int32)) hB rfl k5 d_4120_138 (Nat.le_of_ble_eq_true rfl) h (fun v7 S6 h => ?_)
    refine zu_ifne (t := 166) d_4120_141 rfl (fun c8 => ?_) (fun c8 => ?_)
    · have h := h.1 c8
      refine zu_aload_n d_4120_166 rfl (zs_ra _) ?_
      obtain ⟨k9, h⟩ := h
      refine zg_4_5 rfl d_4120_167 k9 ?_
      obtain ⟨b10, e11, h⟩ := h
      refine zs_stk0 (zs_rfe e11) ?_
      obtain ⟨k12, h⟩ := h
      refine zc_4_29  hB rfl k12 d_4120_170 (Nat.le_of_ble_eq_true rfl) h (fun S13 h => ?_)
      refine zu_aload_n d_4120_173 rfl (zs_ra _) ?_
      refine zu_dup d_4120_174 rfl ?_
      obtain ⟨k15, h⟩ := h
      refine zg_4_43 rfl d_4120_175 k15 ?_
      refine zu_iconst d_4120_178 zi_1 ?_
      refine zu_stk d_4120_179 rfl rfl ?_
      obtain ⟨k16, h⟩ := h
      refine zp_4_43 (v := ((zs_I S13 4011 p0) - (1 : Int32))) rfl d_4120_180 k15 k16 ?_
      generalize e18 : zs_sI S13 4011 p0 ((zs_I S13 4011 p0) - (1 : Int32)) = S17
      have h := h S17 e18.symm
      have K19 : ∀ b, zs_K S17 b = zs_K S13 b := zs_Kt e18 (zs_KsI _ _ _ _) (fun _ => rfl)
      exact (u_X5_builtIn_183 hB h).weak ⟨rfl, rfl, rfl, trivial⟩
    · have h := h.2 c8
      refine zu_aload_n d_4120_144 rfl (zs_ra _) ?_
      refine zu_aload_n d_4120_145 rfl (zs_ra _) ?_
      obtain ⟨k20, h⟩ := h
      refine zg_4_5 rfl d_4120_146 k20 ?_
      refine zu_bipush d_4120_149 zj_44 ?_
      obtain ⟨b21, e22, h⟩ := h
      refine zs_stk1 (zs_rfe e22) ?_
      obtain ⟨k23, h⟩ := h
      refine zc_4_21 (x0 := (44 : Int32)) hB rfl k23 d_4120_151 (Nat.le_of_ble_eq_true rfl) h (fun v25 S24 h => ?_)
      refine zu_ifeq (t := 161) d_4120_154 rfl (fun c26 => ?_) (fun c26 => ?_)
      · have h := h.1 c26
        refine zu_iconst d_4120_161 zi_2 ?_
        exact (u_X5_builtIn_162 hB h).weak trivial
      · have h := h.2 c26
        refine zu_iconst d_4120_157 zi_5 ?_
        refine zu_goto (t := 162) d_4120_158 rfl ?_
        exact (u_X5_builtIn_162 hB h).weak trivial
  · have h := h.2 c1
    refine zu_aload_n d_4120_75 rfl (zs_ra _) ?_
    obtain ⟨k27, h⟩ := h
    refine zg_4_5 rfl d_4120_76 k27 ?_
    obtain ⟨b28, e29, h⟩ := h
    refine zs_stk0 (zs_rfe e29) ?_
    obtain ⟨k30, h⟩ := h
    refine zc_4_29  hB rfl k30 d_4120_79 (Nat.le_of_ble_eq_true rfl) h (fun S31 h => ?_)
    refine zu_aload_n d_4120_82 rfl (zs_ra _) ?_
    refine zu_iload_n d_4120_83 rfl ?_
    refine zu_iload_n d_4120_84 rfl ?_
    refine zu_iload d_4120_85 rfl ?_
    obtain ⟨k33, h⟩ := h
    refine zc_4_797 (x0 := p1) (x1 := p2) (x2 := p4) hB rfl k33 d_4120_87 (Nat.le_of_ble_eq_true rfl) h (fun S34 h => ?_)
    refine zu_iconst d_4120_90 zi_0 ?_
    refine zu_istore d_4120_91 (zs_lt zq_4120 rfl) ?_
    refine zu_aload_n d_4120_93 rfl (zs_ra _) ?_
    obtain ⟨k36, h⟩ := h
    refine zg_4_5 rfl d_4120_94 k36 ?_
    refine zu_bipush d_4120_97 zj_44 ?_
    obtain ⟨b37, e38, h⟩ := h
    refine zs_stk1 (zs_rfe e38) ?_
    obtain ⟨k39, h⟩ := h
    refine zc_4_21 (x0 := (44 : Int32)) hB rfl k39 d_4120_99 (Nat.le_of_ble_eq_true rfl) h (fun v41 S40 h => ?_)
    refine zu_ifeq (t := 127) d_4120_102 rfl (fun c42 => ?_) (fun c42 => ?_)
    · have h := h.1 c42
      exact (u_X5_builtIn_127 hB h).weak ⟨rfl, rfl, rfl, rfl, trivial⟩
    · have h := h.2 c42
      exact (u_X5_builtIn_105 hB h).weak ⟨rfl, rfl, rfl, rfl, trivial⟩
def w_X5_builtIn (X : zs_X) (d : Nat) (p0 : Nat) (p1 : Int32) (p2 : Int32) (S : zs_T) (Q : zs_Q) : Prop :=
  (((p1 = (23 : Int32) → w_X5_builtIn_24 X d p0 p1 p2 S Q) ∧ (¬ (p1 = (23 : Int32)) → (((¬ p1 = (22 : Int32) → w_X5_builtIn_44 X d p0 p1 p2 S Q) ∧ (¬ (¬ p1 = (22 : Int32)) → (zs_K S p0 = some (.inl 4) ∧ ∃ b4, (zs_R S 4000 p0) = some b4 ∧ zs_K S b4 = some (.inl 5) ∧ zs_C X d 5017 [.ref b4, .int (40 : Int32)] S (zs_kI (fun v8 S7 => (((¬ v8 = 0 → w_X5_builtIn_44 X d p0 p1 p2 S7 Q) ∧ (¬ (¬ v8 = 0) → w_X5_builtIn_24 X d p0 p1 p2 S7 Q)))) Q))))))))
theorem u_X5_builtIn {σ : Nat → Nat} {n0 : Nat} {bf : ab_B} {d : Nat} {p0 : Nat} {p1 : Int32} {p2 : Int32} {S : zs_T} {Q : zs_Q} (hB : zt_B bf) (hd : 1 ≤ d) (h : w_X5_builtIn (zx σ n0 bf) (d - 1) p0 p1 p2 S Q) : zs_C (zx σ n0 bf) d 4120 [.ref p0, .int p1, .int p2] S Q := by
  have hL : lv_args 0 [.ref p0, .int p1, .int p2] = [(0, .ref p0), (1, .int p1), (2, .int p2)] := rfl
  refine zs_C.of1 (hB.2 4120 (by decide) (by decide)) hd (by rw [hL]; exact zs_sub_self _ (by exact ⟨rfl, rfl, rfl, trivial⟩)) ?_
  rw [hL]
  clear hL
  unfold w_X5_builtIn at h
  refine zu_iload_n d_4120_0 rfl ?_
  refine zu_bipush d_4120_1 zj_23 ?_
  refine zu_cmpeq (t := 24) d_4120_3 rfl (fun c1 => ?_) (fun c1 => ?_)
  · have h := h.1 c1
    exact (u_X5_builtIn_24 hB h).weak ⟨rfl, rfl, rfl, trivial⟩
  · have h := h.2 c1
    refine zu_iload_n d_4120_6 rfl ?_
    refine zu_bipush d_4120_7 zj_22 ?_
    refine zu_cmpne (t := 44) d_4120_9 rfl (fun c2 => ?_) (fun c2 => ?_)
    · have h := h.1 c2
      exact (u_X5_builtIn_44 hB h).weak ⟨rfl, rfl, rfl, trivial⟩
    · have h := h.2 c2
      refine zu_aload_n d_4120_12 rfl (zs_ra _) ?_
      obtain ⟨k3, h⟩ := h
      refine zg_4_5 rfl d_4120_13 k3 ?_
      refine zu_bipush d_4120_16 zj_40 ?_
      obtain ⟨b4, e5, h⟩ := h
      refine zs_stk1 (zs_rfe e5) ?_
      obtain ⟨k6, h⟩ := h
      refine zc_4_21 (x0 := (40 : Int32)) hB rfl k6 d_4120_18 (Nat.le_of_ble_eq_true rfl) h (fun v8 S7 h => ?_)
      refine zu_ifne (t := 44) d_4120_21 rfl (fun c9 => ?_) (fun c9 => ?_)
      · have h := h.1 c9
        exact (u_X5_builtIn_44 hB h).weak ⟨rfl, rfl, rfl, trivial⟩
      · have h := h.2 c9
        exact (u_X5_builtIn_24 hB h).weak ⟨rfl, rfl, rfl, trivial⟩
/-! SchemaPascal$Reader.one(IIZ)V -/
theorem zm_4121 {σ : Nat → Nat} {n0 : Nat} {bf : ab_B} : ab_code (zx σ n0 bf).1 4121 = prog_9_method_114_code := rfl
theorem zq_4121 {σ : Nat → Nat} {n0 : Nat} {bf : ab_B} : ab_maxL (zx σ n0 bf).1 4121 = 6 := rfl
theorem zr_4121 {σ : Nat → Nat} {n0 : Nat} {bf : ab_B} : ab_ret (zx σ n0 bf).1 4121 = (Option.none : Option Jvm.ClassFile.FieldType) := rfl
theorem d_4121_0 {σ : Nat → Nat} {n0 : Nat} {bf : ab_B} : decode (ab_code (zx σ n0 bf).1 4121) 0 = .ok (.iload_n 1, 1) := zd zm_4121 (by decide +kernel)
theorem d_4121_1 {σ : Nat → Nat} {n0 : Nat} {bf : ab_B} : decode (ab_code (zx σ n0 bf).1 4121) 1 = .ok (.bipush 21, 2) := zd zm_4121 (by decide +kernel)
theorem d_4121_3 {σ : Nat → Nat} {n0 : Nat} {bf : ab_B} : decode (ab_code (zx σ n0 bf).1 4121) 3 = .ok (.if_icmp .eq 9, 3) := zd zm_4121 (by decide +kernel)
theorem d_4121_6 {σ : Nat → Nat} {n0 : Nat} {bf : ab_B} : decode (ab_code (zx σ n0 bf).1 4121) 6 = .ok (.iload_n 1, 1) := zd zm_4121 (by decide +kernel)
theorem d_4121_7 {σ : Nat → Nat} {n0 : Nat} {bf : ab_B} : decode (ab_code (zx σ n0 bf).1 4121) 7 = .ok (.bipush 22, 2) := zd zm_4121 (by decide +kernel)
theorem d_4121_9 {σ : Nat → Nat} {n0 : Nat} {bf : ab_B} : decode (ab_code (zx σ n0 bf).1 4121) 9 = .ok (.if_icmp .ne 82, 3) := zd zm_4121 (by decide +kernel)
theorem d_4121_12 {σ : Nat → Nat} {n0 : Nat} {bf : ab_B} : decode (ab_code (zx σ n0 bf).1 4121) 12 = .ok (.aload_n 0, 1) := zd zm_4121 (by decide +kernel)
theorem d_4121_13 {σ : Nat → Nat} {n0 : Nat} {bf : ab_B} : decode (ab_code (zx σ n0 bf).1 4121) 13 = .ok (.invokevirtual 569, 3) := zd zm_4121 (by decide +kernel)
theorem d_4121_16 {σ : Nat → Nat} {n0 : Nat} {bf : ab_B} : decode (ab_code (zx σ n0 bf).1 4121) 16 = .ok (.astore 4, 2) := zd zm_4121 (by decide +kernel)
theorem d_4121_18 {σ : Nat → Nat} {n0 : Nat} {bf : ab_B} : decode (ab_code (zx σ n0 bf).1 4121) 18 = .ok (.aload 4, 2) := zd zm_4121 (by decide +kernel)
theorem d_4121_20 {σ : Nat → Nat} {n0 : Nat} {bf : ab_B} : decode (ab_code (zx σ n0 bf).1 4121) 20 = .ok (.getfield 297, 3) := zd zm_4121 (by decide +kernel)
theorem d_4121_23 {σ : Nat → Nat} {n0 : Nat} {bf : ab_B} : decode (ab_code (zx σ n0 bf).1 4121) 23 = .ok (.invokevirtual 335, 3) := zd zm_4121 (by decide +kernel)
theorem d_4121_26 {σ : Nat → Nat} {n0 : Nat} {bf : ab_B} : decode (ab_code (zx σ n0 bf).1 4121) 26 = .ok (.ifCond .ne 22, 3) := zd zm_4121 (by decide +kernel)
theorem d_4121_29 {σ : Nat → Nat} {n0 : Nat} {bf : ab_B} : decode (ab_code (zx σ n0 bf).1 4121) 29 = .ok (.aload 4, 2) := zd zm_4121 (by decide +kernel)
theorem d_4121_31 {σ : Nat → Nat} {n0 : Nat} {bf : ab_B} : decode (ab_code (zx σ n0 bf).1 4121) 31 = .ok (.getfield 297, 3) := zd zm_4121 (by decide +kernel)
theorem d_4121_34 {σ : Nat → Nat} {n0 : Nat} {bf : ab_B} : decode (ab_code (zx σ n0 bf).1 4121) 34 = .ok (.getfield 369, 3) := zd zm_4121 (by decide +kernel)
theorem d_4121_37 {σ : Nat → Nat} {n0 : Nat} {bf : ab_B} : decode (ab_code (zx σ n0 bf).1 4121) 37 = .ok (.bipush 6, 2) := zd zm_4121 (by decide +kernel)
theorem d_4121_39 {σ : Nat → Nat} {n0 : Nat} {bf : ab_B} : decode (ab_code (zx σ n0 bf).1 4121) 39 = .ok (.if_icmp .eq 9, 3) := zd zm_4121 (by decide +kernel)
theorem d_4121_42 {σ : Nat → Nat} {n0 : Nat} {bf : ab_B} : decode (ab_code (zx σ n0 bf).1 4121) 42 = .ok (.aload_n 0, 1) := zd zm_4121 (by decide +kernel)
theorem d_4121_43 {σ : Nat → Nat} {n0 : Nat} {bf : ab_B} : decode (ab_code (zx σ n0 bf).1 4121) 43 = .ok (.iconst 5, 1) := zd zm_4121 (by decide +kernel)
theorem d_4121_44 {σ : Nat → Nat} {n0 : Nat} {bf : ab_B} : decode (ab_code (zx σ n0 bf).1 4121) 44 = .ok (.invokevirtual 25, 3) := zd zm_4121 (by decide +kernel)
theorem d_4121_47 {σ : Nat → Nat} {n0 : Nat} {bf : ab_B} : decode (ab_code (zx σ n0 bf).1 4121) 47 = .ok (.athrow, 1) := zd zm_4121 (by decide +kernel)
theorem d_4121_48 {σ : Nat → Nat} {n0 : Nat} {bf : ab_B} : decode (ab_code (zx σ n0 bf).1 4121) 48 = .ok (.aload_n 0, 1) := zd zm_4121 (by decide +kernel)
theorem d_4121_49 {σ : Nat → Nat} {n0 : Nat} {bf : ab_B} : decode (ab_code (zx σ n0 bf).1 4121) 49 = .ok (.aload 4, 2) := zd zm_4121 (by decide +kernel)
theorem d_4121_51 {σ : Nat → Nat} {n0 : Nat} {bf : ab_B} : decode (ab_code (zx σ n0 bf).1 4121) 51 = .ok (.invokevirtual 721, 3) := zd zm_4121 (by decide +kernel)
theorem d_4121_54 {σ : Nat → Nat} {n0 : Nat} {bf : ab_B} : decode (ab_code (zx σ n0 bf).1 4121) 54 = .ok (.aload_n 0, 1) := zd zm_4121 (by decide +kernel)
theorem d_4121_55 {σ : Nat → Nat} {n0 : Nat} {bf : ab_B} : decode (ab_code (zx σ n0 bf).1 4121) 55 = .ok (.bipush 51, 2) := zd zm_4121 (by decide +kernel)
theorem d_4121_57 {σ : Nat → Nat} {n0 : Nat} {bf : ab_B} : decode (ab_code (zx σ n0 bf).1 4121) 57 = .ok (.iload_n 2, 1) := zd zm_4121 (by decide +kernel)
theorem d_4121_58 {σ : Nat → Nat} {n0 : Nat} {bf : ab_B} : decode (ab_code (zx σ n0 bf).1 4121) 58 = .ok (.aload 4, 2) := zd zm_4121 (by decide +kernel)
theorem d_4121_60 {σ : Nat → Nat} {n0 : Nat} {bf : ab_B} : decode (ab_code (zx σ n0 bf).1 4121) 60 = .ok (.getfield 297, 3) := zd zm_4121 (by decide +kernel)
theorem d_4121_63 {σ : Nat → Nat} {n0 : Nat} {bf : ab_B} : decode (ab_code (zx σ n0 bf).1 4121) 63 = .ok (.getfield 369, 3) := zd zm_4121 (by decide +kernel)
theorem d_4121_66 {σ : Nat → Nat} {n0 : Nat} {bf : ab_B} : decode (ab_code (zx σ n0 bf).1 4121) 66 = .ok (.bipush 6, 2) := zd zm_4121 (by decide +kernel)
theorem d_4121_68 {σ : Nat → Nat} {n0 : Nat} {bf : ab_B} : decode (ab_code (zx σ n0 bf).1 4121) 68 = .ok (.if_icmp .ne 8, 3) := zd zm_4121 (by decide +kernel)
theorem d_4121_71 {σ : Nat → Nat} {n0 : Nat} {bf : ab_B} : decode (ab_code (zx σ n0 bf).1 4121) 71 = .ok (.bipush 6, 2) := zd zm_4121 (by decide +kernel)
theorem d_4121_73 {σ : Nat → Nat} {n0 : Nat} {bf : ab_B} : decode (ab_code (zx σ n0 bf).1 4121) 73 = .ok (.goto 14, 3) := zd zm_4121 (by decide +kernel)
theorem d_4121_76 {σ : Nat → Nat} {n0 : Nat} {bf : ab_B} : decode (ab_code (zx σ n0 bf).1 4121) 76 = .ok (.aload 4, 2) := zd zm_4121 (by decide +kernel)
theorem d_4121_78 {σ : Nat → Nat} {n0 : Nat} {bf : ab_B} : decode (ab_code (zx σ n0 bf).1 4121) 78 = .ok (.getfield 297, 3) := zd zm_4121 (by decide +kernel)
theorem d_4121_81 {σ : Nat → Nat} {n0 : Nat} {bf : ab_B} : decode (ab_code (zx σ n0 bf).1 4121) 81 = .ok (.invokevirtual 450, 3) := zd zm_4121 (by decide +kernel)
theorem d_4121_84 {σ : Nat → Nat} {n0 : Nat} {bf : ab_B} : decode (ab_code (zx σ n0 bf).1 4121) 84 = .ok (.getfield 369, 3) := zd zm_4121 (by decide +kernel)
theorem d_4121_87 {σ : Nat → Nat} {n0 : Nat} {bf : ab_B} : decode (ab_code (zx σ n0 bf).1 4121) 87 = .ok (.invokevirtual 712, 3) := zd zm_4121 (by decide +kernel)
theorem d_4121_90 {σ : Nat → Nat} {n0 : Nat} {bf : ab_B} : decode (ab_code (zx σ n0 bf).1 4121) 90 = .ok (.return_, 1) := zd zm_4121 (by decide +kernel)
theorem d_4121_91 {σ : Nat → Nat} {n0 : Nat} {bf : ab_B} : decode (ab_code (zx σ n0 bf).1 4121) 91 = .ok (.aload_n 0, 1) := zd zm_4121 (by decide +kernel)
theorem d_4121_92 {σ : Nat → Nat} {n0 : Nat} {bf : ab_B} : decode (ab_code (zx σ n0 bf).1 4121) 92 = .ok (.invokevirtual 785, 3) := zd zm_4121 (by decide +kernel)
theorem d_4121_95 {σ : Nat → Nat} {n0 : Nat} {bf : ab_B} : decode (ab_code (zx σ n0 bf).1 4121) 95 = .ok (.astore 4, 2) := zd zm_4121 (by decide +kernel)
theorem d_4121_97 {σ : Nat → Nat} {n0 : Nat} {bf : ab_B} : decode (ab_code (zx σ n0 bf).1 4121) 97 = .ok (.iload_n 1, 1) := zd zm_4121 (by decide +kernel)
theorem d_4121_98 {σ : Nat → Nat} {n0 : Nat} {bf : ab_B} : decode (ab_code (zx σ n0 bf).1 4121) 98 = .ok (.bipush 20, 2) := zd zm_4121 (by decide +kernel)
theorem d_4121_100 {σ : Nat → Nat} {n0 : Nat} {bf : ab_B} : decode (ab_code (zx σ n0 bf).1 4121) 100 = .ok (.if_icmp .ne 61, 3) := zd zm_4121 (by decide +kernel)
theorem d_4121_103 {σ : Nat → Nat} {n0 : Nat} {bf : ab_B} : decode (ab_code (zx σ n0 bf).1 4121) 103 = .ok (.aload 4, 2) := zd zm_4121 (by decide +kernel)
theorem d_4121_105 {σ : Nat → Nat} {n0 : Nat} {bf : ab_B} : decode (ab_code (zx σ n0 bf).1 4121) 105 = .ok (.getfield 297, 3) := zd zm_4121 (by decide +kernel)
theorem d_4121_108 {σ : Nat → Nat} {n0 : Nat} {bf : ab_B} : decode (ab_code (zx σ n0 bf).1 4121) 108 = .ok (.invokevirtual 450, 3) := zd zm_4121 (by decide +kernel)
theorem d_4121_111 {σ : Nat → Nat} {n0 : Nat} {bf : ab_B} : decode (ab_code (zx σ n0 bf).1 4121) 111 = .ok (.aload_n 0, 1) := zd zm_4121 (by decide +kernel)
theorem d_4121_112 {σ : Nat → Nat} {n0 : Nat} {bf : ab_B} : decode (ab_code (zx σ n0 bf).1 4121) 112 = .ok (.getfield 147, 3) := zd zm_4121 (by decide +kernel)
theorem d_4121_115 {σ : Nat → Nat} {n0 : Nat} {bf : ab_B} : decode (ab_code (zx σ n0 bf).1 4121) 115 = .ok (.if_acmp .eq 9, 3) := zd zm_4121 (by decide +kernel)
theorem d_4121_118 {σ : Nat → Nat} {n0 : Nat} {bf : ab_B} : decode (ab_code (zx σ n0 bf).1 4121) 118 = .ok (.aload_n 0, 1) := zd zm_4121 (by decide +kernel)
theorem d_4121_119 {σ : Nat → Nat} {n0 : Nat} {bf : ab_B} : decode (ab_code (zx σ n0 bf).1 4121) 119 = .ok (.iconst 5, 1) := zd zm_4121 (by decide +kernel)
theorem d_4121_120 {σ : Nat → Nat} {n0 : Nat} {bf : ab_B} : decode (ab_code (zx σ n0 bf).1 4121) 120 = .ok (.invokevirtual 25, 3) := zd zm_4121 (by decide +kernel)
theorem d_4121_123 {σ : Nat → Nat} {n0 : Nat} {bf : ab_B} : decode (ab_code (zx σ n0 bf).1 4121) 123 = .ok (.athrow, 1) := zd zm_4121 (by decide +kernel)
theorem d_4121_124 {σ : Nat → Nat} {n0 : Nat} {bf : ab_B} : decode (ab_code (zx σ n0 bf).1 4121) 124 = .ok (.aload 4, 2) := zd zm_4121 (by decide +kernel)
theorem d_4121_126 {σ : Nat → Nat} {n0 : Nat} {bf : ab_B} : decode (ab_code (zx σ n0 bf).1 4121) 126 = .ok (.invokestatic 693, 3) := zd zm_4121 (by decide +kernel)
theorem d_4121_129 {σ : Nat → Nat} {n0 : Nat} {bf : ab_B} : decode (ab_code (zx σ n0 bf).1 4121) 129 = .ok (.ifCond .ne 10, 3) := zd zm_4121 (by decide +kernel)
theorem d_4121_132 {σ : Nat → Nat} {n0 : Nat} {bf : ab_B} : decode (ab_code (zx σ n0 bf).1 4121) 132 = .ok (.aload_n 0, 1) := zd zm_4121 (by decide +kernel)
theorem d_4121_133 {σ : Nat → Nat} {n0 : Nat} {bf : ab_B} : decode (ab_code (zx σ n0 bf).1 4121) 133 = .ok (.bipush 6, 2) := zd zm_4121 (by decide +kernel)
theorem d_4121_135 {σ : Nat → Nat} {n0 : Nat} {bf : ab_B} : decode (ab_code (zx σ n0 bf).1 4121) 135 = .ok (.invokevirtual 25, 3) := zd zm_4121 (by decide +kernel)
theorem d_4121_138 {σ : Nat → Nat} {n0 : Nat} {bf : ab_B} : decode (ab_code (zx σ n0 bf).1 4121) 138 = .ok (.athrow, 1) := zd zm_4121 (by decide +kernel)
theorem d_4121_139 {σ : Nat → Nat} {n0 : Nat} {bf : ab_B} : decode (ab_code (zx σ n0 bf).1 4121) 139 = .ok (.aload_n 0, 1) := zd zm_4121 (by decide +kernel)
theorem d_4121_140 {σ : Nat → Nat} {n0 : Nat} {bf : ab_B} : decode (ab_code (zx σ n0 bf).1 4121) 140 = .ok (.aload 4, 2) := zd zm_4121 (by decide +kernel)
theorem d_4121_142 {σ : Nat → Nat} {n0 : Nat} {bf : ab_B} : decode (ab_code (zx σ n0 bf).1 4121) 142 = .ok (.invokevirtual 715, 3) := zd zm_4121 (by decide +kernel)
theorem d_4121_145 {σ : Nat → Nat} {n0 : Nat} {bf : ab_B} : decode (ab_code (zx σ n0 bf).1 4121) 145 = .ok (.aload_n 0, 1) := zd zm_4121 (by decide +kernel)
theorem d_4121_146 {σ : Nat → Nat} {n0 : Nat} {bf : ab_B} : decode (ab_code (zx σ n0 bf).1 4121) 146 = .ok (.bipush 50, 2) := zd zm_4121 (by decide +kernel)
theorem d_4121_148 {σ : Nat → Nat} {n0 : Nat} {bf : ab_B} : decode (ab_code (zx σ n0 bf).1 4121) 148 = .ok (.iload_n 2, 1) := zd zm_4121 (by decide +kernel)
theorem d_4121_149 {σ : Nat → Nat} {n0 : Nat} {bf : ab_B} : decode (ab_code (zx σ n0 bf).1 4121) 149 = .ok (.aload 4, 2) := zd zm_4121 (by decide +kernel)
theorem d_4121_151 {σ : Nat → Nat} {n0 : Nat} {bf : ab_B} : decode (ab_code (zx σ n0 bf).1 4121) 151 = .ok (.getfield 297, 3) := zd zm_4121 (by decide +kernel)
theorem d_4121_154 {σ : Nat → Nat} {n0 : Nat} {bf : ab_B} : decode (ab_code (zx σ n0 bf).1 4121) 154 = .ok (.getfield 137, 3) := zd zm_4121 (by decide +kernel)
theorem d_4121_157 {σ : Nat → Nat} {n0 : Nat} {bf : ab_B} : decode (ab_code (zx σ n0 bf).1 4121) 157 = .ok (.invokevirtual 712, 3) := zd zm_4121 (by decide +kernel)
theorem d_4121_160 {σ : Nat → Nat} {n0 : Nat} {bf : ab_B} : decode (ab_code (zx σ n0 bf).1 4121) 160 = .ok (.return_, 1) := zd zm_4121 (by decide +kernel)
theorem d_4121_161 {σ : Nat → Nat} {n0 : Nat} {bf : ab_B} : decode (ab_code (zx σ n0 bf).1 4121) 161 = .ok (.aload 4, 2) := zd zm_4121 (by decide +kernel)
theorem d_4121_163 {σ : Nat → Nat} {n0 : Nat} {bf : ab_B} : decode (ab_code (zx σ n0 bf).1 4121) 163 = .ok (.getfield 297, 3) := zd zm_4121 (by decide +kernel)
theorem d_4121_166 {σ : Nat → Nat} {n0 : Nat} {bf : ab_B} : decode (ab_code (zx σ n0 bf).1 4121) 166 = .ok (.getfield 369, 3) := zd zm_4121 (by decide +kernel)
theorem d_4121_169 {σ : Nat → Nat} {n0 : Nat} {bf : ab_B} : decode (ab_code (zx σ n0 bf).1 4121) 169 = .ok (.bipush 9, 2) := zd zm_4121 (by decide +kernel)
theorem d_4121_171 {σ : Nat → Nat} {n0 : Nat} {bf : ab_B} : decode (ab_code (zx σ n0 bf).1 4121) 171 = .ok (.if_icmp .eq 9, 3) := zd zm_4121 (by decide +kernel)
theorem d_4121_174 {σ : Nat → Nat} {n0 : Nat} {bf : ab_B} : decode (ab_code (zx σ n0 bf).1 4121) 174 = .ok (.aload_n 0, 1) := zd zm_4121 (by decide +kernel)
theorem d_4121_175 {σ : Nat → Nat} {n0 : Nat} {bf : ab_B} : decode (ab_code (zx σ n0 bf).1 4121) 175 = .ok (.iconst 5, 1) := zd zm_4121 (by decide +kernel)
theorem d_4121_176 {σ : Nat → Nat} {n0 : Nat} {bf : ab_B} : decode (ab_code (zx σ n0 bf).1 4121) 176 = .ok (.invokevirtual 25, 3) := zd zm_4121 (by decide +kernel)
theorem d_4121_179 {σ : Nat → Nat} {n0 : Nat} {bf : ab_B} : decode (ab_code (zx σ n0 bf).1 4121) 179 = .ok (.athrow, 1) := zd zm_4121 (by decide +kernel)
theorem d_4121_180 {σ : Nat → Nat} {n0 : Nat} {bf : ab_B} : decode (ab_code (zx σ n0 bf).1 4121) 180 = .ok (.iload_n 1, 1) := zd zm_4121 (by decide +kernel)
theorem d_4121_181 {σ : Nat → Nat} {n0 : Nat} {bf : ab_B} : decode (ab_code (zx σ n0 bf).1 4121) 181 = .ok (.bipush 19, 2) := zd zm_4121 (by decide +kernel)
theorem d_4121_183 {σ : Nat → Nat} {n0 : Nat} {bf : ab_B} : decode (ab_code (zx σ n0 bf).1 4121) 183 = .ok (.if_icmp .ne 33, 3) := zd zm_4121 (by decide +kernel)
theorem d_4121_186 {σ : Nat → Nat} {n0 : Nat} {bf : ab_B} : decode (ab_code (zx σ n0 bf).1 4121) 186 = .ok (.aload_n 0, 1) := zd zm_4121 (by decide +kernel)
theorem d_4121_187 {σ : Nat → Nat} {n0 : Nat} {bf : ab_B} : decode (ab_code (zx σ n0 bf).1 4121) 187 = .ok (.aload 4, 2) := zd zm_4121 (by decide +kernel)
theorem d_4121_189 {σ : Nat → Nat} {n0 : Nat} {bf : ab_B} : decode (ab_code (zx σ n0 bf).1 4121) 189 = .ok (.invokevirtual 715, 3) := zd zm_4121 (by decide +kernel)
theorem d_4121_192 {σ : Nat → Nat} {n0 : Nat} {bf : ab_B} : decode (ab_code (zx σ n0 bf).1 4121) 192 = .ok (.aload_n 0, 1) := zd zm_4121 (by decide +kernel)
theorem d_4121_193 {σ : Nat → Nat} {n0 : Nat} {bf : ab_B} : decode (ab_code (zx σ n0 bf).1 4121) 193 = .ok (.bipush 8, 2) := zd zm_4121 (by decide +kernel)
theorem d_4121_195 {σ : Nat → Nat} {n0 : Nat} {bf : ab_B} : decode (ab_code (zx σ n0 bf).1 4121) 195 = .ok (.iload_n 2, 1) := zd zm_4121 (by decide +kernel)
theorem d_4121_196 {σ : Nat → Nat} {n0 : Nat} {bf : ab_B} : decode (ab_code (zx σ n0 bf).1 4121) 196 = .ok (.aload 4, 2) := zd zm_4121 (by decide +kernel)
theorem d_4121_198 {σ : Nat → Nat} {n0 : Nat} {bf : ab_B} : decode (ab_code (zx σ n0 bf).1 4121) 198 = .ok (.getfield 297, 3) := zd zm_4121 (by decide +kernel)
theorem d_4121_201 {σ : Nat → Nat} {n0 : Nat} {bf : ab_B} : decode (ab_code (zx σ n0 bf).1 4121) 201 = .ok (.getfield 137, 3) := zd zm_4121 (by decide +kernel)
theorem d_4121_204 {σ : Nat → Nat} {n0 : Nat} {bf : ab_B} : decode (ab_code (zx σ n0 bf).1 4121) 204 = .ok (.invokevirtual 712, 3) := zd zm_4121 (by decide +kernel)
theorem d_4121_207 {σ : Nat → Nat} {n0 : Nat} {bf : ab_B} : decode (ab_code (zx σ n0 bf).1 4121) 207 = .ok (.aload_n 0, 1) := zd zm_4121 (by decide +kernel)
theorem d_4121_208 {σ : Nat → Nat} {n0 : Nat} {bf : ab_B} : decode (ab_code (zx σ n0 bf).1 4121) 208 = .ok (.bipush 49, 2) := zd zm_4121 (by decide +kernel)
theorem d_4121_210 {σ : Nat → Nat} {n0 : Nat} {bf : ab_B} : decode (ab_code (zx σ n0 bf).1 4121) 210 = .ok (.iload_n 2, 1) := zd zm_4121 (by decide +kernel)
theorem d_4121_211 {σ : Nat → Nat} {n0 : Nat} {bf : ab_B} : decode (ab_code (zx σ n0 bf).1 4121) 211 = .ok (.invokevirtual 273, 3) := zd zm_4121 (by decide +kernel)
theorem d_4121_214 {σ : Nat → Nat} {n0 : Nat} {bf : ab_B} : decode (ab_code (zx σ n0 bf).1 4121) 214 = .ok (.pop, 1) := zd zm_4121 (by decide +kernel)
theorem d_4121_215 {σ : Nat → Nat} {n0 : Nat} {bf : ab_B} : decode (ab_code (zx σ n0 bf).1 4121) 215 = .ok (.return_, 1) := zd zm_4121 (by decide +kernel)
theorem d_4121_216 {σ : Nat → Nat} {n0 : Nat} {bf : ab_B} : decode (ab_code (zx σ n0 bf).1 4121) 216 = .ok (.aload 4, 2) := zd zm_4121 (by decide +kernel)
theorem d_4121_218 {σ : Nat → Nat} {n0 : Nat} {bf : ab_B} : decode (ab_code (zx σ n0 bf).1 4121) 218 = .ok (.invokestatic 693, 3) := zd zm_4121 (by decide +kernel)
theorem d_4121_221 {σ : Nat → Nat} {n0 : Nat} {bf : ab_B} : decode (ab_code (zx σ n0 bf).1 4121) 221 = .ok (.ifCond .ne 10, 3) := zd zm_4121 (by decide +kernel)
theorem d_4121_224 {σ : Nat → Nat} {n0 : Nat} {bf : ab_B} : decode (ab_code (zx σ n0 bf).1 4121) 224 = .ok (.aload_n 0, 1) := zd zm_4121 (by decide +kernel)
theorem d_4121_225 {σ : Nat → Nat} {n0 : Nat} {bf : ab_B} : decode (ab_code (zx σ n0 bf).1 4121) 225 = .ok (.bipush 6, 2) := zd zm_4121 (by decide +kernel)
theorem d_4121_227 {σ : Nat → Nat} {n0 : Nat} {bf : ab_B} : decode (ab_code (zx σ n0 bf).1 4121) 227 = .ok (.invokevirtual 25, 3) := zd zm_4121 (by decide +kernel)
theorem d_4121_230 {σ : Nat → Nat} {n0 : Nat} {bf : ab_B} : decode (ab_code (zx σ n0 bf).1 4121) 230 = .ok (.athrow, 1) := zd zm_4121 (by decide +kernel)
theorem d_4121_231 {σ : Nat → Nat} {n0 : Nat} {bf : ab_B} : decode (ab_code (zx σ n0 bf).1 4121) 231 = .ok (.aload_n 0, 1) := zd zm_4121 (by decide +kernel)
theorem d_4121_232 {σ : Nat → Nat} {n0 : Nat} {bf : ab_B} : decode (ab_code (zx σ n0 bf).1 4121) 232 = .ok (.aload 4, 2) := zd zm_4121 (by decide +kernel)
theorem d_4121_234 {σ : Nat → Nat} {n0 : Nat} {bf : ab_B} : decode (ab_code (zx σ n0 bf).1 4121) 234 = .ok (.invokevirtual 715, 3) := zd zm_4121 (by decide +kernel)
theorem d_4121_237 {σ : Nat → Nat} {n0 : Nat} {bf : ab_B} : decode (ab_code (zx σ n0 bf).1 4121) 237 = .ok (.aload 4, 2) := zd zm_4121 (by decide +kernel)
theorem d_4121_239 {σ : Nat → Nat} {n0 : Nat} {bf : ab_B} : decode (ab_code (zx σ n0 bf).1 4121) 239 = .ok (.getfield 297, 3) := zd zm_4121 (by decide +kernel)
theorem d_4121_242 {σ : Nat → Nat} {n0 : Nat} {bf : ab_B} : decode (ab_code (zx σ n0 bf).1 4121) 242 = .ok (.getfield 320, 3) := zd zm_4121 (by decide +kernel)
theorem d_4121_245 {σ : Nat → Nat} {n0 : Nat} {bf : ab_B} : decode (ab_code (zx σ n0 bf).1 4121) 245 = .ok (.astore 5, 2) := zd zm_4121 (by decide +kernel)
theorem d_4121_247 {σ : Nat → Nat} {n0 : Nat} {bf : ab_B} : decode (ab_code (zx σ n0 bf).1 4121) 247 = .ok (.aload 5, 2) := zd zm_4121 (by decide +kernel)
theorem d_4121_249 {σ : Nat → Nat} {n0 : Nat} {bf : ab_B} : decode (ab_code (zx σ n0 bf).1 4121) 249 = .ok (.getfield 369, 3) := zd zm_4121 (by decide +kernel)
theorem d_4121_252 {σ : Nat → Nat} {n0 : Nat} {bf : ab_B} : decode (ab_code (zx σ n0 bf).1 4121) 252 = .ok (.bipush 10, 2) := zd zm_4121 (by decide +kernel)
theorem d_4121_254 {σ : Nat → Nat} {n0 : Nat} {bf : ab_B} : decode (ab_code (zx σ n0 bf).1 4121) 254 = .ok (.if_icmp .ne 43, 3) := zd zm_4121 (by decide +kernel)
theorem d_4121_257 {σ : Nat → Nat} {n0 : Nat} {bf : ab_B} : decode (ab_code (zx σ n0 bf).1 4121) 257 = .ok (.aload_n 0, 1) := zd zm_4121 (by decide +kernel)
theorem d_4121_258 {σ : Nat → Nat} {n0 : Nat} {bf : ab_B} : decode (ab_code (zx σ n0 bf).1 4121) 258 = .ok (.getfield 5, 3) := zd zm_4121 (by decide +kernel)
theorem d_4121_261 {σ : Nat → Nat} {n0 : Nat} {bf : ab_B} : decode (ab_code (zx σ n0 bf).1 4121) 261 = .ok (.bipush 44, 2) := zd zm_4121 (by decide +kernel)
theorem d_4121_263 {σ : Nat → Nat} {n0 : Nat} {bf : ab_B} : decode (ab_code (zx σ n0 bf).1 4121) 263 = .ok (.invokevirtual 21, 3) := zd zm_4121 (by decide +kernel)
theorem d_4121_266 {σ : Nat → Nat} {n0 : Nat} {bf : ab_B} : decode (ab_code (zx σ n0 bf).1 4121) 266 = .ok (.ifCond .ne 25, 3) := zd zm_4121 (by decide +kernel)
theorem d_4121_269 {σ : Nat → Nat} {n0 : Nat} {bf : ab_B} : decode (ab_code (zx σ n0 bf).1 4121) 269 = .ok (.aload_n 0, 1) := zd zm_4121 (by decide +kernel)
theorem d_4121_270 {σ : Nat → Nat} {n0 : Nat} {bf : ab_B} : decode (ab_code (zx σ n0 bf).1 4121) 270 = .ok (.aload_n 0, 1) := zd zm_4121 (by decide +kernel)
theorem d_4121_271 {σ : Nat → Nat} {n0 : Nat} {bf : ab_B} : decode (ab_code (zx σ n0 bf).1 4121) 271 = .ok (.getfield 5, 3) := zd zm_4121 (by decide +kernel)
theorem d_4121_274 {σ : Nat → Nat} {n0 : Nat} {bf : ab_B} : decode (ab_code (zx σ n0 bf).1 4121) 274 = .ok (.bipush 41, 2) := zd zm_4121 (by decide +kernel)
theorem d_4121_276 {σ : Nat → Nat} {n0 : Nat} {bf : ab_B} : decode (ab_code (zx σ n0 bf).1 4121) 276 = .ok (.invokevirtual 21, 3) := zd zm_4121 (by decide +kernel)
theorem d_4121_279 {σ : Nat → Nat} {n0 : Nat} {bf : ab_B} : decode (ab_code (zx σ n0 bf).1 4121) 279 = .ok (.ifCond .eq 7, 3) := zd zm_4121 (by decide +kernel)
theorem d_4121_282 {σ : Nat → Nat} {n0 : Nat} {bf : ab_B} : decode (ab_code (zx σ n0 bf).1 4121) 282 = .ok (.iconst 5, 1) := zd zm_4121 (by decide +kernel)
theorem d_4121_283 {σ : Nat → Nat} {n0 : Nat} {bf : ab_B} : decode (ab_code (zx σ n0 bf).1 4121) 283 = .ok (.goto 4, 3) := zd zm_4121 (by decide +kernel)
theorem d_4121_286 {σ : Nat → Nat} {n0 : Nat} {bf : ab_B} : decode (ab_code (zx σ n0 bf).1 4121) 286 = .ok (.iconst 2, 1) := zd zm_4121 (by decide +kernel)
theorem d_4121_287 {σ : Nat → Nat} {n0 : Nat} {bf : ab_B} : decode (ab_code (zx σ n0 bf).1 4121) 287 = .ok (.invokevirtual 25, 3) := zd zm_4121 (by decide +kernel)
theorem d_4121_290 {σ : Nat → Nat} {n0 : Nat} {bf : ab_B} : decode (ab_code (zx σ n0 bf).1 4121) 290 = .ok (.athrow, 1) := zd zm_4121 (by decide +kernel)
theorem d_4121_291 {σ : Nat → Nat} {n0 : Nat} {bf : ab_B} : decode (ab_code (zx σ n0 bf).1 4121) 291 = .ok (.aload_n 0, 1) := zd zm_4121 (by decide +kernel)
theorem d_4121_292 {σ : Nat → Nat} {n0 : Nat} {bf : ab_B} : decode (ab_code (zx σ n0 bf).1 4121) 292 = .ok (.aload 5, 2) := zd zm_4121 (by decide +kernel)
theorem d_4121_294 {σ : Nat → Nat} {n0 : Nat} {bf : ab_B} : decode (ab_code (zx σ n0 bf).1 4121) 294 = .ok (.invokevirtual 801, 3) := zd zm_4121 (by decide +kernel)
theorem d_4121_297 {σ : Nat → Nat} {n0 : Nat} {bf : ab_B} : decode (ab_code (zx σ n0 bf).1 4121) 297 = .ok (.aload_n 0, 1) := zd zm_4121 (by decide +kernel)
theorem d_4121_298 {σ : Nat → Nat} {n0 : Nat} {bf : ab_B} : decode (ab_code (zx σ n0 bf).1 4121) 298 = .ok (.bipush 48, 2) := zd zm_4121 (by decide +kernel)
theorem d_4121_300 {σ : Nat → Nat} {n0 : Nat} {bf : ab_B} : decode (ab_code (zx σ n0 bf).1 4121) 300 = .ok (.iload_n 2, 1) := zd zm_4121 (by decide +kernel)
theorem d_4121_301 {σ : Nat → Nat} {n0 : Nat} {bf : ab_B} : decode (ab_code (zx σ n0 bf).1 4121) 301 = .ok (.aload 4, 2) := zd zm_4121 (by decide +kernel)
theorem d_4121_303 {σ : Nat → Nat} {n0 : Nat} {bf : ab_B} : decode (ab_code (zx σ n0 bf).1 4121) 303 = .ok (.getfield 297, 3) := zd zm_4121 (by decide +kernel)
theorem d_4121_306 {σ : Nat → Nat} {n0 : Nat} {bf : ab_B} : decode (ab_code (zx σ n0 bf).1 4121) 306 = .ok (.getfield 137, 3) := zd zm_4121 (by decide +kernel)
theorem d_4121_309 {σ : Nat → Nat} {n0 : Nat} {bf : ab_B} : decode (ab_code (zx σ n0 bf).1 4121) 309 = .ok (.invokevirtual 712, 3) := zd zm_4121 (by decide +kernel)
theorem d_4121_312 {σ : Nat → Nat} {n0 : Nat} {bf : ab_B} : decode (ab_code (zx σ n0 bf).1 4121) 312 = .ok (.return_, 1) := zd zm_4121 (by decide +kernel)
def w_X5_one_87 (X : zs_X) (d : Nat) (q0 : Option Nat) (q1 : Int32) (q2 : Int32) (q3 : Int32) (S : zs_T) (Q : zs_Q) : Prop :=
  (∃ b1, q0 = some b1 ∧ zs_K S b1 = some (.inl 4) ∧ zs_C X d 4097 [.ref b1, .int q1, .int q2, .int q3] S (zs_kV (fun S4 => (Q (.returned none) S4)) Q))
theorem u_X5_one_87 {σ : Nat → Nat} {n0 : Nat} {bf : ab_B} {d : Nat} {q0 : Option Nat} {q1 : Int32} {q2 : Int32} {q3 : Int32} {S : zs_T} {Q : zs_Q} (hB : zt_B bf) (h : w_X5_one_87 (zx σ n0 bf) d q0 q1 q2 q3 S Q) : zs_U (zx σ n0 bf) d 4121 87 [] [.int q3, .int q2, .int q1, va_rf q0] S Q := by
  unfold w_X5_one_87 at h
  obtain ⟨b1, e2, h⟩ := h
  refine zs_stk3 (zs_rfe e2) ?_
  obtain ⟨k3, h⟩ := h
  refine zc_4_712 (x0 := q1) (x1 := q2) (x2 := q3) hB rfl k3 d_4121_87 (Nat.le_of_ble_eq_true rfl) h (fun S4 h => ?_)
  exact zu_vret d_4121_90 zr_4121 h
def w_X5_one_48 (X : zs_X) (d : Nat) (p0 : Nat) (p2 : Int32) (p4 : Option Nat) (S : zs_T) (Q : zs_Q) : Prop :=
  (zs_K S p0 = some (.inl 4) ∧ zs_C X d 4096 [.ref p0, va_rf p4] S (zs_kV (fun S2 => (∃ b4, p4 = some b4 ∧ zs_K S2 b4 = some (.inl 11) ∧ ∃ b7, (zs_R S2 11002 b4) = some b7 ∧ zs_K S2 b7 = some (.inl 6) ∧ ((¬ (zs_I S2 6000 b7) = (6 : Int32) → (zs_C X d 6001 [.ref b7] S2 (zs_kR (fun v12 S11 => (∃ b13, v12 = some b13 ∧ zs_K S11 b13 = some (.inl 6) ∧ w_X5_one_87 X d (some p0) (51 : Int32) p2 (zs_I S11 6000 b13) S11 Q)) Q))) ∧ (¬ (¬ (zs_I S2 6000 b7) = (6 : Int32)) → (w_X5_one_87 X d (some p0) (51 : Int32) p2 (6 : Int32) S2 Q))))) Q))
theorem u_X5_one_48 {σ : Nat → Nat} {n0 : Nat} {bf : ab_B} {d : Nat} {p0 : Nat} {p2 : Int32} {p4 : Option Nat} {S : zs_T} {Q : zs_Q} (hB : zt_B bf) (h : w_X5_one_48 (zx σ n0 bf) d p0 p2 p4 S Q) : zs_U (zx σ n0 bf) d 4121 48 [(0, .ref p0), (2, .int p2), (4, va_rf p4)] [] S Q := by
  unfold w_X5_one_48 at h
  refine zu_aload_n d_4121_48 rfl (zs_ra _) ?_
  refine zu_aload d_4121_49 rfl (zs_rr _) ?_
  obtain ⟨k1, h⟩ := h
  refine zc_4_721 (x0 := p4) hB rfl k1 d_4121_51 (Nat.le_of_ble_eq_true rfl) h (fun S2 h => ?_)
  refine zu_aload_n d_4121_54 rfl (zs_ra _) ?_
  refine zu_bipush d_4121_55 zj_51 ?_
  refine zu_iload_n d_4121_57 rfl ?_
  refine zu_aload d_4121_58 rfl (zs_rr _) ?_
  obtain ⟨b4, e5, h⟩ := h
  refine zs_stk0 (zs_rfe e5) ?_
  obtain ⟨k6, h⟩ := h
  refine zg_4_297 rfl d_4121_60 k6 ?_
  obtain ⟨b7, e8, h⟩ := h
  refine zs_stk0 (zs_rfe e8) ?_
  obtain ⟨k9, h⟩ := h
  refine zg_4_369 rfl d_4121_63 k9 ?_
  refine zu_bipush d_4121_66 zj_6 ?_
  refine zu_cmpne (t := 76) d_4121_68 rfl (fun c10 => ?_) (fun c10 => ?_)
  · have h := h.1 c10
    refine zu_aload d_4121_76 rfl (zs_rr _) ?_
    refine zs_stk0 (zs_rfe e5) ?_
    refine zg_4_297 rfl d_4121_78 k6 ?_
    refine zs_stk0 (zs_rfe e8) ?_
    refine zc_4_450  hB rfl k9 d_4121_81 (Nat.le_of_ble_eq_true rfl) h (fun v12 S11 h => ?_)
    obtain ⟨b13, e14, h⟩ := h
    refine zs_stk0 (zs_rfe e14) ?_
    obtain ⟨k15, h⟩ := h
    refine zg_4_369 rfl d_4121_84 k15 ?_
    exact (u_X5_one_87 hB h).weak trivial
  · have h := h.2 c10
    refine zu_bipush d_4121_71 zj_6 ?_
    refine zu_goto (t := 87) d_4121_73 rfl ?_
    exact (u_X5_one_87 hB h).weak trivial
def w_X5_one_12 (X : zs_X) (d : Nat) (p0 : Nat) (p2 : Int32) (S : zs_T) (Q : zs_Q) : Prop :=
  (zs_K S p0 = some (.inl 4) ∧ zs_C X d 4014 [.ref p0] S (zs_kR (fun v3 S2 => (∃ b4, v3 = some b4 ∧ zs_K S2 b4 = some (.inl 11) ∧ ∃ b7, (zs_R S2 11002 b4) = some b7 ∧ zs_K S2 b7 = some (.inl 6) ∧ zs_C X d 6002 [.ref b7] S2 (zs_kI (fun v11 S10 => (((¬ v11 = 0 → w_X5_one_48 X d p0 p2 v3 S10 Q) ∧ (¬ (¬ v11 = 0) → (zs_K S10 b4 = some (.inl 11) ∧ ∃ b14, (zs_R S10 11002 b4) = some b14 ∧ zs_K S10 b14 = some (.inl 6) ∧ (((zs_I S10 6000 b14) = (6 : Int32) → w_X5_one_48 X d p0 p2 v3 S10 Q) ∧ (¬ ((zs_I S10 6000 b14) = (6 : Int32)) → (zs_K S10 p0 = some (.inl 4) ∧ zs_C X d 4006 [.ref p0, .int (5 : Int32)] S10 (zs_kR (fun v20 S19 => (∃ b21, v20 = some b21 ∧ Q (.threw b21) S19)) Q))))))))) Q))) Q))
theorem u_X5_one_12 {σ : Nat → Nat} {n0 : Nat} {bf : ab_B} {d : Nat} {p0 : Nat} {p2 : Int32} {S : zs_T} {Q : zs_Q} (hB : zt_B bf) (h : w_X5_one_12 (zx σ n0 bf) d p0 p2 S Q) : zs_U (zx σ n0 bf) d 4121 12 [(0, .ref p0), (2, .int p2)] [] S Q := by
  unfold w_X5_one_12 at h
  refine zu_aload_n d_4121_12 rfl (zs_ra _) ?_
  obtain ⟨k1, h⟩ := h
  refine zc_4_569  hB rfl k1 d_4121_13 (Nat.le_of_ble_eq_true rfl) h (fun v3 S2 h => ?_)
  refine zu_astore d_4121_16 (zs_rr _) (zs_lt zq_4121 rfl) ?_
  refine zu_aload d_4121_18 rfl (zs_rr _) ?_
  obtain ⟨b4, e5, h⟩ := h
  refine zs_stk0 (zs_rfe e5) ?_
  obtain ⟨k6, h⟩ := h
  refine zg_4_297 rfl d_4121_20 k6 ?_
  obtain ⟨b7, e8, h⟩ := h
  refine zs_stk0 (zs_rfe e8) ?_
  obtain ⟨k9, h⟩ := h
  refine zc_4_335  hB rfl k9 d_4121_23 (Nat.le_of_ble_eq_true rfl) h (fun v11 S10 h => ?_)
  refine zu_ifne (t := 48) d_4121_26 rfl (fun c12 => ?_) (fun c12 => ?_)
  · have h := h.1 c12
    exact (u_X5_one_48 hB h).weak ⟨rfl, rfl, rfl, trivial⟩
  · have h := h.2 c12
    refine zu_aload d_4121_29 rfl (zs_rr _) ?_
    refine zs_stk0 (zs_rfe e5) ?_
    obtain ⟨k13, h⟩ := h
    refine zg_4_297 rfl d_4121_31 k13 ?_
    obtain ⟨b14, e15, h⟩ := h
    refine zs_stk0 (zs_rfe e15) ?_
    obtain ⟨k16, h⟩ := h
    refine zg_4_369 rfl d_4121_34 k16 ?_
    refine zu_bipush d_4121_37 zj_6 ?_
    refine zu_cmpeq (t := 48) d_4121_39 rfl (fun c17 => ?_) (fun c17 => ?_)
    · have h := h.1 c17
      exact (u_X5_one_48 hB h).weak ⟨rfl, rfl, rfl, trivial⟩
    · have h := h.2 c17
      refine zu_aload_n d_4121_42 rfl (zs_ra _) ?_
      refine zu_iconst d_4121_43 zi_5 ?_
      obtain ⟨k18, h⟩ := h
      refine zc_4_25 (x0 := (5 : Int32)) hB rfl k18 d_4121_44 (Nat.le_of_ble_eq_true rfl) h (fun v20 S19 h => ?_)
      obtain ⟨b21, e22, h⟩ := h
      refine zs_stk0 (zs_rfe e22) ?_
      exact zu_throw d_4121_47 h
def w_X5_one_118 (X : zs_X) (d : Nat) (p0 : Nat) (S : zs_T) (Q : zs_Q) : Prop :=
  (zs_K S p0 = some (.inl 4) ∧ zs_C X d 4006 [.ref p0, .int (5 : Int32)] S (zs_kR (fun v3 S2 => (∃ b4, v3 = some b4 ∧ Q (.threw b4) S2)) Q))
theorem u_X5_one_118 {σ : Nat → Nat} {n0 : Nat} {bf : ab_B} {d : Nat} {p0 : Nat} {S : zs_T} {Q : zs_Q} (hB : zt_B bf) (h : w_X5_one_118 (zx σ n0 bf) d p0 S Q) : zs_U (zx σ n0 bf) d 4121 118 [(0, .ref p0)] [] S Q := by
  unfold w_X5_one_118 at h
  refine zu_aload_n d_4121_118 rfl (zs_ra _) ?_
  refine zu_iconst d_4121_119 zi_5 ?_
  obtain ⟨k1, h⟩ := h
  refine zc_4_25 (x0 := (5 : Int32)) hB rfl k1 d_4121_120 (Nat.le_of_ble_eq_true rfl) h (fun v3 S2 h => ?_)
  obtain ⟨b4, e5, h⟩ := h
  refine zs_stk0 (zs_rfe e5) ?_
  exact zu_throw d_4121_123 h
def w_X5_one_124 (X : zs_X) (d : Nat) (p0 : Nat) (p2 : Int32) (p4 : Option Nat) (S : zs_T) (Q : zs_Q) : Prop :=
  (zs_C X d 4043 [va_rf p4] S (zs_kI (fun v2 S1 => (((¬ v2 = 0 → (zs_K S1 p0 = some (.inl 4) ∧ zs_C X d 4098 [.ref p0, va_rf p4] S1 (zs_kV (fun S5 => (∃ b7, p4 = some b7 ∧ zs_K S5 b7 = some (.inl 11) ∧ ∃ b10, (zs_R S5 11002 b7) = some b10 ∧ zs_K S5 b10 = some (.inl 6) ∧ zs_K S5 p0 = some (.inl 4) ∧ zs_C X d 4097 [.ref p0, .int (50 : Int32), .int p2, .int (zs_I S5 6001 b10)] S5 (zs_kV (fun S14 => (Q (.returned none) S14)) Q))) Q))) ∧ (¬ (¬ v2 = 0) → (zs_K S1 p0 = some (.inl 4) ∧ zs_C X d 4006 [.ref p0, .int (6 : Int32)] S1 (zs_kR (fun v18 S17 => (∃ b19, v18 = some b19 ∧ Q (.threw b19) S17)) Q)))))) Q))
theorem u_X5_one_124 {σ : Nat → Nat} {n0 : Nat} {bf : ab_B} {d : Nat} {p0 : Nat} {p2 : Int32} {p4 : Option Nat} {S : zs_T} {Q : zs_Q} (hB : zt_B bf) (h : w_X5_one_124 (zx σ n0 bf) d p0 p2 p4 S Q) : zs_U (zx σ n0 bf) d 4121 124 [(0, .ref p0), (2, .int p2), (4, va_rf p4)] [] S Q := by
  unfold w_X5_one_124 at h
  refine zu_aload d_4121_124 rfl (zs_rr _) ?_
  refine zc_4_693 (x0 := p4) hB rfl d_4121_126 (Nat.le_of_ble_eq_true rfl) h (fun v2 S1 h => ?_)
  refine zu_ifne (t := 139) d_4121_129 rfl (fun c3 => ?_) (fun c3 => ?_)
  · have h := h.1 c3
    refine zu_aload_n d_4121_139 rfl (zs_ra _) ?_
    refine zu_aload d_4121_140 rfl (zs_rr _) ?_
    obtain ⟨k4, h⟩ := h
    refine zc_4_715 (x0 := p4) hB rfl k4 d_4121_142 (Nat.le_of_ble_eq_true rfl) h (fun S5 h => ?_)
    refine zu_aload_n d_4121_145 rfl (zs_ra _) ?_
    refine zu_bipush d_4121_146 zj_50 ?_
    refine zu_iload_n d_4121_148 rfl ?_
    refine zu_aload d_4121_149 rfl (zs_rr _) ?_
    obtain ⟨b7, e8, h⟩ := h
    refine zs_stk0 (zs_rfe e8) ?_
    obtain ⟨k9, h⟩ := h
    refine zg_4_297 rfl d_4121_151 k9 ?_
    obtain ⟨b10, e11, h⟩ := h
    refine zs_stk0 (zs_rfe e11) ?_
    obtain ⟨k12, h⟩ := h
    refine zg_4_137 rfl d_4121_154 k12 ?_
    obtain ⟨k13, h⟩ := h
    refine zc_4_712 (x0 := (50 : Int32)) (x1 := p2) (x2 := (zs_I S5 6001 b10)) hB rfl k13 d_4121_157 (Nat.le_of_ble_eq_true rfl) h (fun S14 h => ?_)
    exact zu_vret d_4121_160 zr_4121 h
  · have h := h.2 c3
    refine zu_aload_n d_4121_132 rfl (zs_ra _) ?_
    refine zu_bipush d_4121_133 zj_6 ?_
    obtain ⟨k16, h⟩ := h
    refine zc_4_25 (x0 := (6 : Int32)) hB rfl k16 d_4121_135 (Nat.le_of_ble_eq_true rfl) h (fun v18 S17 h => ?_)
    obtain ⟨b19, e20, h⟩ := h
    refine zs_stk0 (zs_rfe e20) ?_
    exact zu_throw d_4121_138 h
def w_X5_one_174 (X : zs_X) (d : Nat) (p0 : Nat) (S : zs_T) (Q : zs_Q) : Prop :=
  (zs_K S p0 = some (.inl 4) ∧ zs_C X d 4006 [.ref p0, .int (5 : Int32)] S (zs_kR (fun v3 S2 => (∃ b4, v3 = some b4 ∧ Q (.threw b4) S2)) Q))
theorem u_X5_one_174 {σ : Nat → Nat} {n0 : Nat} {bf : ab_B} {d : Nat} {p0 : Nat} {S : zs_T} {Q : zs_Q} (hB : zt_B bf) (h : w_X5_one_174 (zx σ n0 bf) d p0 S Q) : zs_U (zx σ n0 bf) d 4121 174 [(0, .ref p0)] [] S Q := by
  unfold w_X5_one_174 at h
  refine zu_aload_n d_4121_174 rfl (zs_ra _) ?_
  refine zu_iconst d_4121_175 zi_5 ?_
  obtain ⟨k1, h⟩ := h
  refine zc_4_25 (x0 := (5 : Int32)) hB rfl k1 d_4121_176 (Nat.le_of_ble_eq_true rfl) h (fun v3 S2 h => ?_)
  obtain ⟨b4, e5, h⟩ := h
  refine zs_stk0 (zs_rfe e5) ?_
  exact zu_throw d_4121_179 h
def w_X5_one_297 (X : zs_X) (d : Nat) (p0 : Nat) (p2 : Int32) (p4 : Option Nat) (S : zs_T) (Q : zs_Q) : Prop :=
  (∃ b1, p4 = some b1 ∧ zs_K S b1 = some (.inl 11) ∧ ∃ b4, (zs_R S 11002 b1) = some b4 ∧ zs_K S b4 = some (.inl 6) ∧ zs_K S p0 = some (.inl 4) ∧ zs_C X d 4097 [.ref p0, .int (48 : Int32), .int p2, .int (zs_I S 6001 b4)] S (zs_kV (fun S8 => (Q (.returned none) S8)) Q))
theorem u_X5_one_297 {σ : Nat → Nat} {n0 : Nat} {bf : ab_B} {d : Nat} {p0 : Nat} {p2 : Int32} {p4 : Option Nat} {S : zs_T} {Q : zs_Q} (hB : zt_B bf) (h : w_X5_one_297 (zx σ n0 bf) d p0 p2 p4 S Q) : zs_U (zx σ n0 bf) d 4121 297 [(0, .ref p0), (2, .int p2), (4, va_rf p4)] [] S Q := by
  unfold w_X5_one_297 at h
  refine zu_aload_n d_4121_297 rfl (zs_ra _) ?_
  refine zu_bipush d_4121_298 zj_48 ?_
  refine zu_iload_n d_4121_300 rfl ?_
  refine zu_aload d_4121_301 rfl (zs_rr _) ?_
  obtain ⟨b1, e2, h⟩ := h
  refine zs_stk0 (zs_rfe e2) ?_
  obtain ⟨k3, h⟩ := h
  refine zg_4_297 rfl d_4121_303 k3 ?_
  obtain ⟨b4, e5, h⟩ := h
  refine zs_stk0 (zs_rfe e5) ?_
  obtain ⟨k6, h⟩ := h
  refine zg_4_137 rfl d_4121_306 k6 ?_
  obtain ⟨k7, h⟩ := h
  refine zc_4_712 (x0 := (48 : Int32)) (x1 := p2) (x2 := (zs_I S 6001 b4)) hB rfl k7 d_4121_309 (Nat.le_of_ble_eq_true rfl) h (fun S8 h => ?_)
  exact zu_vret d_4121_312 zr_4121 h
def w_X5_one_287 (X : zs_X) (d : Nat) (q0 : Option Nat) (q1 : Int32) (S : zs_T) (Q : zs_Q) : Prop :=
  (∃ b1, q0 = some b1 ∧ zs_K S b1 = some (.inl 4) ∧ zs_C X d 4006 [.ref b1, .int q1] S (zs_kR (fun v5 S4 => (∃ b6, v5 = some b6 ∧ Q (.threw b6) S4)) Q))
theorem u_X5_one_287 {σ : Nat → Nat} {n0 : Nat} {bf : ab_B} {d : Nat} {q0 : Option Nat} {q1 : Int32} {S : zs_T} {Q : zs_Q} (hB : zt_B bf) (h : w_X5_one_287 (zx σ n0 bf) d q0 q1 S Q) : zs_U (zx σ n0 bf) d 4121 287 [] [.int q1, va_rf q0] S Q := by
  unfold w_X5_one_287 at h
  obtain ⟨b1, e2, h⟩ := h
  refine zs_stk1 (zs_rfe e2) ?_
  obtain ⟨k3, h⟩ := h
  refine zc_4_25 (x0 := q1) hB rfl k3 d_4121_287 (Nat.le_of_ble_eq_true rfl) h (fun v5 S4 h => ?_)
  obtain ⟨b6, e7, h⟩ := h
  refine zs_stk0 (zs_rfe e7) ?_
  exact zu_throw d_4121_290 h
def w_X5_one_257 (X : zs_X) (d : Nat) (p0 : Nat) (p2 : Int32) (p4 : Option Nat) (p5 : Option Nat) (S : zs_T) (Q : zs_Q) : Prop :=
  (zs_K S p0 = some (.inl 4) ∧ ∃ b2, (zs_R S 4000 p0) = some b2 ∧ zs_K S b2 = some (.inl 5) ∧ zs_C X d 5017 [.ref b2, .int (44 : Int32)] S (zs_kI (fun v6 S5 => (((¬ v6 = 0 → (zs_K S5 p0 = some (.inl 4) ∧ zs_C X d 4122 [.ref p0, va_rf p5] S5 (zs_kV (fun S9 => w_X5_one_297 X d p0 p2 p4 S9 Q) Q))) ∧ (¬ (¬ v6 = 0) → (zs_K S5 p0 = some (.inl 4) ∧ ∃ b12, (zs_R S5 4000 p0) = some b12 ∧ zs_K S5 b12 = some (.inl 5) ∧ zs_C X d 5017 [.ref b12, .int (41 : Int32)] S5 (zs_kI (fun v16 S15 => (((v16 = 0 → (w_X5_one_287 X d (some p0) (2 : Int32) S15 Q)) ∧ (¬ (v16 = 0) → (w_X5_one_287 X d (some p0) (5 : Int32) S15 Q))))) Q)))))) Q))
theorem u_X5_one_257 {σ : Nat → Nat} {n0 : Nat} {bf : ab_B} {d : Nat} {p0 : Nat} {p2 : Int32} {p4 : Option Nat} {p5 : Option Nat} {S : zs_T} {Q : zs_Q} (hB : zt_B bf) (h : w_X5_one_257 (zx σ n0 bf) d p0 p2 p4 p5 S Q) : zs_U (zx σ n0 bf) d 4121 257 [(0, .ref p0), (2, .int p2), (4, va_rf p4), (5, va_rf p5)] [] S Q := by
  unfold w_X5_one_257 at h
  refine zu_aload_n d_4121_257 rfl (zs_ra _) ?_
  obtain ⟨k1, h⟩ := h
  refine zg_4_5 rfl d_4121_258 k1 ?_
  refine zu_bipush d_4121_261 zj_44 ?_
  obtain ⟨b2, e3, h⟩ := h
  refine zs_stk1 (zs_rfe e3) ?_
  obtain ⟨k4, h⟩ := h
  refine zc_4_21 (x0 := (44 : Int32)) hB rfl k4 d_4121_263 (Nat.le_of_ble_eq_true rfl) h (fun v6 S5 h => ?_)
  refine zu_ifne (t := 291) d_4121_266 rfl (fun c7 => ?_) (fun c7 => ?_)
  · have h := h.1 c7
    refine zu_aload_n d_4121_291 rfl (zs_ra _) ?_
    refine zu_aload d_4121_292 rfl (zs_rr _) ?_
    obtain ⟨k8, h⟩ := h
    refine zc_4_801 (x0 := p5) hB rfl k8 d_4121_294 (Nat.le_of_ble_eq_true rfl) h (fun S9 h => ?_)
    exact (u_X5_one_297 hB h).weak ⟨rfl, rfl, rfl, trivial⟩
  · have h := h.2 c7
    refine zu_aload_n d_4121_269 rfl (zs_ra _) ?_
    refine zu_aload_n d_4121_270 rfl (zs_ra _) ?_
    obtain ⟨k11, h⟩ := h
    refine zg_4_5 rfl d_4121_271 k11 ?_
    refine zu_bipush d_4121_274 zj_41 ?_
    obtain ⟨b12, e13, h⟩ := h
    refine zs_stk1 (zs_rfe e13) ?_
    obtain ⟨k14, h⟩ := h
    refine zc_4_21 (x0 := (41 : Int32)) hB rfl k14 d_4121_276 (Nat.le_of_ble_eq_true rfl) h (fun v16 S15 h => ?_)
    refine zu_ifeq (t := 286) d_4121_279 rfl (fun c17 => ?_) (fun c17 => ?_)
    · have h := h.1 c17
      refine zu_iconst d_4121_286 zi_2 ?_
      exact (u_X5_one_287 hB h).weak trivial
    · have h := h.2 c17
      refine zu_iconst d_4121_282 zi_5 ?_
      refine zu_goto (t := 287) d_4121_283 rfl ?_
      exact (u_X5_one_287 hB h).weak trivial
def w_X5_one_215 (X : zs_X) (d : Nat)  (S : zs_T) (Q : zs_Q) : Prop :=
  (Q (.returned none) S)
theorem u_X5_one_215 {σ : Nat → Nat} {n0 : Nat} {bf : ab_B} {d : Nat}  {S : zs_T} {Q : zs_Q} (hB : zt_B bf) (h : w_X5_one_215 (zx σ n0 bf) d  S Q) : zs_U (zx σ n0 bf) d 4121 215 [] [] S Q := by
  unfold w_X5_one_215 at h
  exact zu_vret d_4121_215 zr_4121 h
def w_X5_one_180 (X : zs_X) (d : Nat) (p0 : Nat) (p1 : Int32) (p2 : Int32) (p4 : Option Nat) (S : zs_T) (Q : zs_Q) : Prop :=
  (((¬ p1 = (19 : Int32) → (zs_C X d 4043 [va_rf p4] S (zs_kI (fun v3 S2 => (((¬ v3 = 0 → (zs_K S2 p0 = some (.inl 4) ∧ zs_C X d 4098 [.ref p0, va_rf p4] S2 (zs_kV (fun S6 => (∃ b8, p4 = some b8 ∧ zs_K S6 b8 = some (.inl 11) ∧ ∃ b11, (zs_R S6 11002 b8) = some b11 ∧ zs_K S6 b11 = some (.inl 6) ∧ ∃ b14, (zs_R S6 6002 b11) = some b14 ∧ zs_K S6 b14 = some (.inl 6) ∧ ((¬ (zs_I S6 6000 b14) = (10 : Int32) → w_X5_one_297 X d p0 p2 p4 S6 Q) ∧ (¬ (¬ (zs_I S6 6000 b14) = (10 : Int32)) → w_X5_one_257 X d p0 p2 p4 (zs_R S6 6002 b11) S6 Q)))) Q))) ∧ (¬ (¬ v3 = 0) → (zs_K S2 p0 = some (.inl 4) ∧ zs_C X d 4006 [.ref p0, .int (6 : Int32)] S2 (zs_kR (fun v20 S19 => (∃ b21, v20 = some b21 ∧ Q (.threw b21) S19)) Q)))))) Q))) ∧ (¬ (¬ p1 = (19 : Int32)) → (zs_K S p0 = some (.inl 4) ∧ zs_C X d 4098 [.ref p0, va_rf p4] S (zs_kV (fun S24 => (∃ b26, p4 = some b26 ∧ zs_K S24 b26 = some (.inl 11) ∧ ∃ b29, (zs_R S24 11002 b26) = some b29 ∧ zs_K S24 b29 = some (.inl 6) ∧ zs_K S24 p0 = some (.inl 4) ∧ zs_C X d 4097 [.ref p0, .int (8 : Int32), .int p2, .int (zs_I S24 6001 b29)] S24 (zs_kV (fun S33 => (zs_K S33 p0 = some (.inl 4) ∧ zs_C X d 4094 [.ref p0, .int (49 : Int32), .int p2] S33 (zs_kI (fun v37 S36 => (w_X5_one_215 X d  S36 Q)) Q))) Q))) Q)))))
theorem u_X5_one_180 {σ : Nat → Nat} {n0 : Nat} {bf : ab_B} {d : Nat} {p0 : Nat} {p1 : Int32} {p2 : Int32} {p4 : Option Nat} {S : zs_T} {Q : zs_Q} (hB : zt_B bf) (h : w_X5_one_180 (zx σ n0 bf) d p0 p1 p2 p4 S Q) : zs_U (zx σ n0 bf) d 4121 180 [(0, .ref p0), (1, .int p1), (2, .int p2), (4, va_rf p4)] [] S Q := by
  unfold w_X5_one_180 at h
  refine zu_iload_n d_4121_180 rfl ?_
  refine zu_bipush d_4121_181 zj_19 ?_
  refine zu_cmpne (t := 216) d_4121_183 rfl (fun c1 => ?_) (fun c1 => ?_)
  · have h := h.1 c1
    refine zu_aload d_4121_216 rfl (zs_rr _) ?_
    refine zc_4_693 (x0 := p4) hB rfl d_4121_218 (Nat.le_of_ble_eq_true rfl) h (fun v3 S2 h => ?_)
    refine zu_ifne (t := 231) d_4121_221 rfl (fun c4 => ?_) (fun c4 => ?_)
    · have h := h.1 c4
      refine zu_aload_n d_4121_231 rfl (zs_ra _) ?_
      refine zu_aload d_4121_232 rfl (zs_rr _) ?_
      obtain ⟨k5, h⟩ := h
      refine zc_4_715 (x0 := p4) hB rfl k5 d_4121_234 (Nat.le_of_ble_eq_true rfl) h (fun S6 h => ?_)
      refine zu_aload d_4121_237 rfl (zs_rr _) ?_
      obtain ⟨b8, e9, h⟩ := h
      refine zs_stk0 (zs_rfe e9) ?_
      obtain ⟨k10, h⟩ := h
      refine zg_4_297 rfl d_4121_239 k10 ?_
      obtain ⟨b11, e12, h⟩ := h
      refine zs_stk0 (zs_rfe e12) ?_
      obtain ⟨k13, h⟩ := h
      refine zg_4_320 rfl d_4121_242 k13 ?_
      refine zu_astore d_4121_245 (zs_rr _) (zs_lt zq_4121 rfl) ?_
      refine zs_U.weak (L1 := [(5, va_rf (zs_R S6 6002 b11)), (0, .ref p0), (1, .int p1), (2, .int p2), (4, va_rf p4)]) ?_ ⟨rfl, zs_gp1 rfl (Or.inl rfl) rfl, zs_gp1 rfl (Or.inl rfl) rfl, zs_gp1 rfl (Or.inl rfl) rfl, zs_gp1 rfl (Or.inl (zs_cat _)) rfl, trivial⟩
      refine zu_aload d_4121_247 rfl (zs_rr _) ?_
      obtain ⟨b14, e15, h⟩ := h
      refine zs_stk0 (zs_rfe e15) ?_
      obtain ⟨k16, h⟩ := h
      refine zg_4_369 rfl d_4121_249 k16 ?_
      refine zu_bipush d_4121_252 zj_10 ?_
      refine zu_cmpne (t := 297) d_4121_254 rfl (fun c17 => ?_) (fun c17 => ?_)
      · have h := h.1 c17
        exact (u_X5_one_297 hB h).weak ⟨rfl, rfl, rfl, trivial⟩
      · have h := h.2 c17
        exact (u_X5_one_257 hB h).weak ⟨rfl, rfl, rfl, rfl, trivial⟩
    · have h := h.2 c4
      refine zu_aload_n d_4121_224 rfl (zs_ra _) ?_
      refine zu_bipush d_4121_225 zj_6 ?_
      obtain ⟨k18, h⟩ := h
      refine zc_4_25 (x0 := (6 : Int32)) hB rfl k18 d_4121_227 (Nat.le_of_ble_eq_true rfl) h (fun v20 S19 h => ?_)
      obtain ⟨b21, e22, h⟩ := h
      refine zs_stk0 (zs_rfe e22) ?_
      exact zu_throw d_4121_230 h
  · have h := h.2 c1
    refine zu_aload_n d_4121_186 rfl (zs_ra _) ?_
    refine zu_aload d_4121_187 rfl (zs_rr _) ?_
    obtain ⟨k23, h⟩ := h
    refine zc_4_715 (x0 := p4) hB rfl k23 d_4121_189 (Nat.le_of_ble_eq_true rfl) h (fun S24 h => ?_)
    refine zu_aload_n d_4121_192 rfl (zs_ra _) ?_
    refine zu_bipush d_4121_193 zj_8 ?_
    refine zu_iload_n d_4121_195 rfl ?_
    refine zu_aload d_4121_196 rfl (zs_rr _) ?_
    obtain ⟨b26, e27, h⟩ := h
    refine zs_stk0 (zs_rfe e27) ?_
    obtain ⟨k28, h⟩ := h
    refine zg_4_297 rfl d_4121_198 k28 ?_
    obtain ⟨b29, e30, h⟩ := h
    refine zs_stk0 (zs_rfe e30) ?_
    obtain ⟨k31, h⟩ := h
    refine zg_4_137 rfl d_4121_201 k31 ?_
    obtain ⟨k32, h⟩ := h
    refine zc_4_712 (x0 := (8 : Int32)) (x1 := p2) (x2 := (zs_I S24 6001 b29)) hB rfl k32 d_4121_204 (Nat.le_of_ble_eq_true rfl) h (fun S33 h => ?_)
    refine zu_aload_n d_4121_207 rfl (zs_ra _) ?_
    refine zu_bipush d_4121_208 zj_49 ?_
    refine zu_iload_n d_4121_210 rfl ?_
    obtain ⟨k35, h⟩ := h
    refine zc_4_273 (x0 := (49 : Int32)) (x1 := p2) hB rfl k35 d_4121_211 (Nat.le_of_ble_eq_true rfl) h (fun v37 S36 h => ?_)
    refine zu_pop d_4121_214 rfl ?_
    exact (u_X5_one_215 hB h).weak trivial
def w_X5_one (X : zs_X) (d : Nat) (p0 : Nat) (p1 : Int32) (p2 : Int32) (p3 : Int32) (S : zs_T) (Q : zs_Q) : Prop :=
  (((p1 = (21 : Int32) → w_X5_one_12 X d p0 p2 S Q) ∧ (¬ (p1 = (21 : Int32)) → (((¬ p1 = (22 : Int32) → (zs_K S p0 = some (.inl 4) ∧ zs_C X d 4117 [.ref p0] S (zs_kR (fun v5 S4 => (((¬ p1 = (20 : Int32) → (∃ b7, v5 = some b7 ∧ zs_K S4 b7 = some (.inl 11) ∧ ∃ b10, (zs_R S4 11002 b7) = some b10 ∧ zs_K S4 b10 = some (.inl 6) ∧ (((zs_I S4 6000 b10) = (9 : Int32) → w_X5_one_180 X d p0 p1 p2 v5 S4 Q) ∧ (¬ ((zs_I S4 6000 b10) = (9 : Int32)) → w_X5_one_174 X d p0 S4 Q)))) ∧ (¬ (¬ p1 = (20 : Int32)) → (∃ b14, v5 = some b14 ∧ zs_K S4 b14 = some (.inl 11) ∧ ∃ b17, (zs_R S4 11002 b14) = some b17 ∧ zs_K S4 b17 = some (.inl 6) ∧ zs_C X d 6001 [.ref b17] S4 (zs_kR (fun v21 S20 => (zs_K S20 p0 = some (.inl 4) ∧ ((v21 = (zs_R S20 4002 p0) → w_X5_one_124 X d p0 p2 v5 S20 Q) ∧ (¬ (v21 = (zs_R S20 4002 p0)) → w_X5_one_118 X d p0 S20 Q)))) Q)))))) Q))) ∧ (¬ (¬ p1 = (22 : Int32)) → w_X5_one_12 X d p0 p2 S Q))))))
theorem u_X5_one {σ : Nat → Nat} {n0 : Nat} {bf : ab_B} {d : Nat} {p0 : Nat} {p1 : Int32} {p2 : Int32} {p3 : Int32} {S : zs_T} {Q : zs_Q} (hB : zt_B bf) (hd : 1 ≤ d) (h : w_X5_one (zx σ n0 bf) (d - 1) p0 p1 p2 p3 S Q) : zs_C (zx σ n0 bf) d 4121 [.ref p0, .int p1, .int p2, .int p3] S Q := by
  have hL : lv_args 0 [.ref p0, .int p1, .int p2, .int p3] = [(0, .ref p0), (1, .int p1), (2, .int p2), (3, .int p3)] := rfl
  refine zs_C.of1 (hB.2 4121 (by decide) (by decide)) hd (by rw [hL]; exact zs_sub_self _ (by exact ⟨rfl, rfl, rfl, rfl, trivial⟩)) ?_
  rw [hL]
  clear hL
  unfold w_X5_one at h
  refine zu_iload_n d_4121_0 rfl ?_
  refine zu_bipush d_4121_1 zj_21 ?_
  refine zu_cmpeq (t := 12) d_4121_3 rfl (fun c1 => ?_) (fun c1 => ?_)
  · have h := h.1 c1
    exact (u_X5_one_12 hB h).weak ⟨rfl, rfl, trivial⟩
  · have h := h.2 c1
    refine zu_iload_n d_4121_6 rfl ?_
    refine zu_bipush d_4121_7 zj_22 ?_
    refine zu_cmpne (t := 91) d_4121_9 rfl (fun c2 => ?_) (fun c2 => ?_)
    · have h := h.1 c2
      refine zu_aload_n d_4121_91 rfl (zs_ra _) ?_
      obtain ⟨k3, h⟩ := h
      refine zc_4_785  hB rfl k3 d_4121_92 (Nat.le_of_ble_eq_true rfl) h (fun v5 S4 h => ?_)
      refine zu_astore d_4121_95 (zs_rr _) (zs_lt zq_4121 rfl) ?_
      refine zu_iload_n d_4121_97 rfl ?_
      refine zu_bipush d_4121_98 zj_20 ?_
      refine zu_cmpne (t := 161) d_4121_100 rfl (fun c6 => ?_) (fun c6 => ?_)
      · have h := h.1 c6
        refine zu_aload d_4121_161 rfl (zs_rr _) ?_
        obtain ⟨b7, e8, h⟩ := h
        refine zs_stk0 (zs_rfe e8) ?_
        obtain ⟨k9, h⟩ := h
        refine zg_4_297 rfl d_4121_163 k9 ?_
        obtain ⟨b10, e11, h⟩ := h
        refine zs_stk0 (zs_rfe e11) ?_
        obtain ⟨k12, h⟩ := h
        refine zg_4_369 rfl d_4121_166 k12 ?_
        refine zu_bipush d_4121_169 zj_9 ?_
        refine zu_cmpeq (t := 180) d_4121_171 rfl (fun c13 => ?_) (fun c13 => ?_)
        · have h := h.1 c13
          exact (u_X5_one_180 hB h).weak ⟨rfl, rfl, rfl, rfl, trivial⟩
        · have h := h.2 c13
          exact (u_X5_one_174 hB h).weak ⟨rfl, trivial⟩
      · have h := h.2 c6
        refine zu_aload d_4121_103 rfl (zs_rr _) ?_
        obtain ⟨b14, e15, h⟩ := h
        refine zs_stk0 (zs_rfe e15) ?_
        obtain ⟨k16, h⟩ := h
        refine zg_4_297 rfl d_4121_105 k16 ?_
        obtain ⟨b17, e18, h⟩ := h
        refine zs_stk0 (zs_rfe e18) ?_
        obtain ⟨k19, h⟩ := h
        refine zc_4_450  hB rfl k19 d_4121_108 (Nat.le_of_ble_eq_true rfl) h (fun v21 S20 h => ?_)
        refine zu_aload_n d_4121_111 rfl (zs_ra _) ?_
        obtain ⟨k22, h⟩ := h
        refine zg_4_147 rfl d_4121_112 k22 ?_
        refine zu_acmpeq (u := v21) (w := (zs_R S20 4002 p0)) (t := 124) d_4121_115 rfl rfl rfl (fun c23 => ?_) (fun c23 => ?_)
        · have h := h.1 c23
          exact (u_X5_one_124 hB h).weak ⟨rfl, rfl, rfl, trivial⟩
        · have h := h.2 c23
          exact (u_X5_one_118 hB h).weak ⟨rfl, trivial⟩
    · have h := h.2 c2
      exact (u_X5_one_12 hB h).weak ⟨rfl, rfl, trivial⟩
/-! SchemaPascal$Reader.newValues(LSchemaPascal$Type;)V -/
theorem zm_4122 {σ : Nat → Nat} {n0 : Nat} {bf : ab_B} : ab_code (zx σ n0 bf).1 4122 = prog_9_method_115_code := rfl
theorem zq_4122 {σ : Nat → Nat} {n0 : Nat} {bf : ab_B} : ab_maxL (zx σ n0 bf).1 4122 = 4 := rfl
theorem zr_4122 {σ : Nat → Nat} {n0 : Nat} {bf : ab_B} : ab_ret (zx σ n0 bf).1 4122 = (Option.none : Option Jvm.ClassFile.FieldType) := rfl
theorem d_4122_0 {σ : Nat → Nat} {n0 : Nat} {bf : ab_B} : decode (ab_code (zx σ n0 bf).1 4122) 0 = .ok (.iconst 0, 1) := zd zm_4122 (by decide +kernel)
theorem d_4122_1 {σ : Nat → Nat} {n0 : Nat} {bf : ab_B} : decode (ab_code (zx σ n0 bf).1 4122) 1 = .ok (.istore_n 2, 1) := zd zm_4122 (by decide +kernel)
theorem d_4122_2 {σ : Nat → Nat} {n0 : Nat} {bf : ab_B} : decode (ab_code (zx σ n0 bf).1 4122) 2 = .ok (.iload_n 2, 1) := zd zm_4122 (by decide +kernel)
theorem d_4122_3 {σ : Nat → Nat} {n0 : Nat} {bf : ab_B} : decode (ab_code (zx σ n0 bf).1 4122) 3 = .ok (.aload_n 1, 1) := zd zm_4122 (by decide +kernel)
theorem d_4122_4 {σ : Nat → Nat} {n0 : Nat} {bf : ab_B} : decode (ab_code (zx σ n0 bf).1 4122) 4 = .ok (.getfield 323, 3) := zd zm_4122 (by decide +kernel)
theorem d_4122_7 {σ : Nat → Nat} {n0 : Nat} {bf : ab_B} : decode (ab_code (zx σ n0 bf).1 4122) 7 = .ok (.invokevirtual 50, 3) := zd zm_4122 (by decide +kernel)
theorem d_4122_10 {σ : Nat → Nat} {n0 : Nat} {bf : ab_B} : decode (ab_code (zx σ n0 bf).1 4122) 10 = .ok (.if_icmp .ge 103, 3) := zd zm_4122 (by decide +kernel)
theorem d_4122_13 {σ : Nat → Nat} {n0 : Nat} {bf : ab_B} : decode (ab_code (zx σ n0 bf).1 4122) 13 = .ok (.aload_n 0, 1) := zd zm_4122 (by decide +kernel)
theorem d_4122_14 {σ : Nat → Nat} {n0 : Nat} {bf : ab_B} : decode (ab_code (zx σ n0 bf).1 4122) 14 = .ok (.getfield 5, 3) := zd zm_4122 (by decide +kernel)
theorem d_4122_17 {σ : Nat → Nat} {n0 : Nat} {bf : ab_B} : decode (ab_code (zx σ n0 bf).1 4122) 17 = .ok (.bipush 44, 2) := zd zm_4122 (by decide +kernel)
theorem d_4122_19 {σ : Nat → Nat} {n0 : Nat} {bf : ab_B} : decode (ab_code (zx σ n0 bf).1 4122) 19 = .ok (.invokevirtual 21, 3) := zd zm_4122 (by decide +kernel)
theorem d_4122_22 {σ : Nat → Nat} {n0 : Nat} {bf : ab_B} : decode (ab_code (zx σ n0 bf).1 4122) 22 = .ok (.ifCond .ne 25, 3) := zd zm_4122 (by decide +kernel)
theorem d_4122_25 {σ : Nat → Nat} {n0 : Nat} {bf : ab_B} : decode (ab_code (zx σ n0 bf).1 4122) 25 = .ok (.aload_n 0, 1) := zd zm_4122 (by decide +kernel)
theorem d_4122_26 {σ : Nat → Nat} {n0 : Nat} {bf : ab_B} : decode (ab_code (zx σ n0 bf).1 4122) 26 = .ok (.aload_n 0, 1) := zd zm_4122 (by decide +kernel)
theorem d_4122_27 {σ : Nat → Nat} {n0 : Nat} {bf : ab_B} : decode (ab_code (zx σ n0 bf).1 4122) 27 = .ok (.getfield 5, 3) := zd zm_4122 (by decide +kernel)
theorem d_4122_30 {σ : Nat → Nat} {n0 : Nat} {bf : ab_B} : decode (ab_code (zx σ n0 bf).1 4122) 30 = .ok (.bipush 41, 2) := zd zm_4122 (by decide +kernel)
theorem d_4122_32 {σ : Nat → Nat} {n0 : Nat} {bf : ab_B} : decode (ab_code (zx σ n0 bf).1 4122) 32 = .ok (.invokevirtual 21, 3) := zd zm_4122 (by decide +kernel)
theorem d_4122_35 {σ : Nat → Nat} {n0 : Nat} {bf : ab_B} : decode (ab_code (zx σ n0 bf).1 4122) 35 = .ok (.ifCond .eq 7, 3) := zd zm_4122 (by decide +kernel)
theorem d_4122_38 {σ : Nat → Nat} {n0 : Nat} {bf : ab_B} : decode (ab_code (zx σ n0 bf).1 4122) 38 = .ok (.iconst 5, 1) := zd zm_4122 (by decide +kernel)
theorem d_4122_39 {σ : Nat → Nat} {n0 : Nat} {bf : ab_B} : decode (ab_code (zx σ n0 bf).1 4122) 39 = .ok (.goto 4, 3) := zd zm_4122 (by decide +kernel)
theorem d_4122_42 {σ : Nat → Nat} {n0 : Nat} {bf : ab_B} : decode (ab_code (zx σ n0 bf).1 4122) 42 = .ok (.iconst 2, 1) := zd zm_4122 (by decide +kernel)
theorem d_4122_43 {σ : Nat → Nat} {n0 : Nat} {bf : ab_B} : decode (ab_code (zx σ n0 bf).1 4122) 43 = .ok (.invokevirtual 25, 3) := zd zm_4122 (by decide +kernel)
theorem d_4122_46 {σ : Nat → Nat} {n0 : Nat} {bf : ab_B} : decode (ab_code (zx σ n0 bf).1 4122) 46 = .ok (.athrow, 1) := zd zm_4122 (by decide +kernel)
theorem d_4122_47 {σ : Nat → Nat} {n0 : Nat} {bf : ab_B} : decode (ab_code (zx σ n0 bf).1 4122) 47 = .ok (.aload_n 0, 1) := zd zm_4122 (by decide +kernel)
theorem d_4122_48 {σ : Nat → Nat} {n0 : Nat} {bf : ab_B} : decode (ab_code (zx σ n0 bf).1 4122) 48 = .ok (.getfield 5, 3) := zd zm_4122 (by decide +kernel)
theorem d_4122_51 {σ : Nat → Nat} {n0 : Nat} {bf : ab_B} : decode (ab_code (zx σ n0 bf).1 4122) 51 = .ok (.invokevirtual 29, 3) := zd zm_4122 (by decide +kernel)
theorem d_4122_54 {σ : Nat → Nat} {n0 : Nat} {bf : ab_B} : decode (ab_code (zx σ n0 bf).1 4122) 54 = .ok (.aload_n 0, 1) := zd zm_4122 (by decide +kernel)
theorem d_4122_55 {σ : Nat → Nat} {n0 : Nat} {bf : ab_B} : decode (ab_code (zx σ n0 bf).1 4122) 55 = .ok (.invokevirtual 569, 3) := zd zm_4122 (by decide +kernel)
theorem d_4122_58 {σ : Nat → Nat} {n0 : Nat} {bf : ab_B} : decode (ab_code (zx σ n0 bf).1 4122) 58 = .ok (.astore_n 3, 1) := zd zm_4122 (by decide +kernel)
theorem d_4122_59 {σ : Nat → Nat} {n0 : Nat} {bf : ab_B} : decode (ab_code (zx σ n0 bf).1 4122) 59 = .ok (.aload_n 3, 1) := zd zm_4122 (by decide +kernel)
theorem d_4122_60 {σ : Nat → Nat} {n0 : Nat} {bf : ab_B} : decode (ab_code (zx σ n0 bf).1 4122) 60 = .ok (.getfield 297, 3) := zd zm_4122 (by decide +kernel)
theorem d_4122_63 {σ : Nat → Nat} {n0 : Nat} {bf : ab_B} : decode (ab_code (zx σ n0 bf).1 4122) 63 = .ok (.invokevirtual 335, 3) := zd zm_4122 (by decide +kernel)
theorem d_4122_66 {σ : Nat → Nat} {n0 : Nat} {bf : ab_B} : decode (ab_code (zx σ n0 bf).1 4122) 66 = .ok (.ifCond .eq 30, 3) := zd zm_4122 (by decide +kernel)
theorem d_4122_69 {σ : Nat → Nat} {n0 : Nat} {bf : ab_B} : decode (ab_code (zx σ n0 bf).1 4122) 69 = .ok (.aload_n 3, 1) := zd zm_4122 (by decide +kernel)
theorem d_4122_70 {σ : Nat → Nat} {n0 : Nat} {bf : ab_B} : decode (ab_code (zx σ n0 bf).1 4122) 70 = .ok (.getfield 297, 3) := zd zm_4122 (by decide +kernel)
theorem d_4122_73 {σ : Nat → Nat} {n0 : Nat} {bf : ab_B} : decode (ab_code (zx σ n0 bf).1 4122) 73 = .ok (.invokevirtual 450, 3) := zd zm_4122 (by decide +kernel)
theorem d_4122_76 {σ : Nat → Nat} {n0 : Nat} {bf : ab_B} : decode (ab_code (zx σ n0 bf).1 4122) 76 = .ok (.aload_n 1, 1) := zd zm_4122 (by decide +kernel)
theorem d_4122_77 {σ : Nat → Nat} {n0 : Nat} {bf : ab_B} : decode (ab_code (zx σ n0 bf).1 4122) 77 = .ok (.getfield 323, 3) := zd zm_4122 (by decide +kernel)
theorem d_4122_80 {σ : Nat → Nat} {n0 : Nat} {bf : ab_B} : decode (ab_code (zx σ n0 bf).1 4122) 80 = .ok (.iload_n 2, 1) := zd zm_4122 (by decide +kernel)
theorem d_4122_81 {σ : Nat → Nat} {n0 : Nat} {bf : ab_B} : decode (ab_code (zx σ n0 bf).1 4122) 81 = .ok (.invokevirtual 56, 3) := zd zm_4122 (by decide +kernel)
theorem d_4122_84 {σ : Nat → Nat} {n0 : Nat} {bf : ab_B} : decode (ab_code (zx σ n0 bf).1 4122) 84 = .ok (.checkcast 93, 3) := zd zm_4122 (by decide +kernel)
theorem d_4122_87 {σ : Nat → Nat} {n0 : Nat} {bf : ab_B} : decode (ab_code (zx σ n0 bf).1 4122) 87 = .ok (.getfield 96, 3) := zd zm_4122 (by decide +kernel)
theorem d_4122_90 {σ : Nat → Nat} {n0 : Nat} {bf : ab_B} : decode (ab_code (zx σ n0 bf).1 4122) 90 = .ok (.invokevirtual 450, 3) := zd zm_4122 (by decide +kernel)
theorem d_4122_93 {σ : Nat → Nat} {n0 : Nat} {bf : ab_B} : decode (ab_code (zx σ n0 bf).1 4122) 93 = .ok (.if_acmp .eq 9, 3) := zd zm_4122 (by decide +kernel)
theorem d_4122_96 {σ : Nat → Nat} {n0 : Nat} {bf : ab_B} : decode (ab_code (zx σ n0 bf).1 4122) 96 = .ok (.aload_n 0, 1) := zd zm_4122 (by decide +kernel)
theorem d_4122_97 {σ : Nat → Nat} {n0 : Nat} {bf : ab_B} : decode (ab_code (zx σ n0 bf).1 4122) 97 = .ok (.iconst 5, 1) := zd zm_4122 (by decide +kernel)
theorem d_4122_98 {σ : Nat → Nat} {n0 : Nat} {bf : ab_B} : decode (ab_code (zx σ n0 bf).1 4122) 98 = .ok (.invokevirtual 25, 3) := zd zm_4122 (by decide +kernel)
theorem d_4122_101 {σ : Nat → Nat} {n0 : Nat} {bf : ab_B} : decode (ab_code (zx σ n0 bf).1 4122) 101 = .ok (.athrow, 1) := zd zm_4122 (by decide +kernel)
theorem d_4122_102 {σ : Nat → Nat} {n0 : Nat} {bf : ab_B} : decode (ab_code (zx σ n0 bf).1 4122) 102 = .ok (.aload_n 0, 1) := zd zm_4122 (by decide +kernel)
theorem d_4122_103 {σ : Nat → Nat} {n0 : Nat} {bf : ab_B} : decode (ab_code (zx σ n0 bf).1 4122) 103 = .ok (.aload_n 3, 1) := zd zm_4122 (by decide +kernel)
theorem d_4122_104 {σ : Nat → Nat} {n0 : Nat} {bf : ab_B} : decode (ab_code (zx σ n0 bf).1 4122) 104 = .ok (.invokevirtual 721, 3) := zd zm_4122 (by decide +kernel)
theorem d_4122_107 {σ : Nat → Nat} {n0 : Nat} {bf : ab_B} : decode (ab_code (zx σ n0 bf).1 4122) 107 = .ok (.iinc 2 1, 3) := zd zm_4122 (by decide +kernel)
theorem d_4122_110 {σ : Nat → Nat} {n0 : Nat} {bf : ab_B} : decode (ab_code (zx σ n0 bf).1 4122) 110 = .ok (.goto (-108), 3) := zd zm_4122 (by decide +kernel)
theorem d_4122_113 {σ : Nat → Nat} {n0 : Nat} {bf : ab_B} : decode (ab_code (zx σ n0 bf).1 4122) 113 = .ok (.return_, 1) := zd zm_4122 (by decide +kernel)
def w_X5_newValues_96 (X : zs_X) (d : Nat) (p0 : Nat) (S : zs_T) (Q : zs_Q) : Prop :=
  (zs_K S p0 = some (.inl 4) ∧ zs_C X d 4006 [.ref p0, .int (5 : Int32)] S (zs_kR (fun v3 S2 => (∃ b4, v3 = some b4 ∧ Q (.threw b4) S2)) Q))
theorem u_X5_newValues_96 {σ : Nat → Nat} {n0 : Nat} {bf : ab_B} {d : Nat} {p0 : Nat} {S : zs_T} {Q : zs_Q} (hB : zt_B bf) (h : w_X5_newValues_96 (zx σ n0 bf) d p0 S Q) : zs_U (zx σ n0 bf) d 4122 96 [(0, .ref p0)] [] S Q := by
  unfold w_X5_newValues_96 at h
  refine zu_aload_n d_4122_96 rfl (zs_ra _) ?_
  refine zu_iconst d_4122_97 zi_5 ?_
  obtain ⟨k1, h⟩ := h
  refine zc_4_25 (x0 := (5 : Int32)) hB rfl k1 d_4122_98 (Nat.le_of_ble_eq_true rfl) h (fun v3 S2 h => ?_)
  obtain ⟨b4, e5, h⟩ := h
  refine zs_stk0 (zs_rfe e5) ?_
  exact zu_throw d_4122_101 h
def w_X5_newValues_107 (X : zs_X) (d : Nat) (p0 : Nat) (p1 : Option Nat) (p2 : Int32) (S : zs_T) (Q : zs_Q) : Prop :=
  (zs_U X d 4122 2 [(0, .ref p0), (1, va_rf p1), (2, .int (p2 + (1 : Int32)))] [] S Q)
theorem u_X5_newValues_107 {σ : Nat → Nat} {n0 : Nat} {bf : ab_B} {d : Nat} {p0 : Nat} {p1 : Option Nat} {p2 : Int32} {S : zs_T} {Q : zs_Q} (hB : zt_B bf) (h : w_X5_newValues_107 (zx σ n0 bf) d p0 p1 p2 S Q) : zs_U (zx σ n0 bf) d 4122 107 [(0, .ref p0), (1, va_rf p1), (2, .int p2)] [] S Q := by
  unfold w_X5_newValues_107 at h
  refine zu_iinc d_4122_107 rfl zi_1 (zs_lt zq_4122 rfl) ?_
  refine zs_U.weak (L1 := [(2, .int (p2 + (1 : Int32))), (0, .ref p0), (1, va_rf p1)]) ?_ ⟨rfl, zs_gp1 rfl (Or.inl rfl) rfl, zs_gp1 rfl (Or.inl (zs_cat _)) rfl, trivial⟩
  refine zu_goto (t := 2) d_4122_110 rfl ?_
  exact h.weak ⟨rfl, rfl, rfl, trivial⟩
def w_X5_newValues_59 (X : zs_X) (d : Nat) (p0 : Nat) (p1 : Option Nat) (p2 : Int32) (p3 : Option Nat) (S : zs_T) (Q : zs_Q) : Prop :=
  (∃ b1, p3 = some b1 ∧ zs_K S b1 = some (.inl 11) ∧ ∃ b4, (zs_R S 11002 b1) = some b4 ∧ zs_K S b4 = some (.inl 6) ∧ zs_C X d 6002 [.ref b4] S (zs_kI (fun v8 S7 => (((v8 = 0 → w_X5_newValues_96 X d p0 S7 Q) ∧ (¬ (v8 = 0) → (zs_K S7 b1 = some (.inl 11) ∧ ∃ b11, (zs_R S7 11002 b1) = some b11 ∧ zs_K S7 b11 = some (.inl 6) ∧ zs_C X d 6001 [.ref b11] S7 (zs_kR (fun v15 S14 => (∃ b16, p1 = some b16 ∧ zs_K S14 b16 = some (.inl 6) ∧ ∃ b19, (zs_R S14 6007 b16) = some b19 ∧ zs_K S14 b19 = some (.inl 16) ∧ zs_C X d 16009 [.ref b19, .int p2] S14 (zs_kR (fun v23 S22 => ((∀ a, v23 = some a → zs_K S22 a = some (.inl 12)) ∧ ∃ b25, v23 = some b25 ∧ zs_K S22 b25 = some (.inl 12) ∧ ∃ b28, (zs_R S22 12001 b25) = some b28 ∧ zs_K S22 b28 = some (.inl 6) ∧ zs_C X d 6001 [.ref b28] S22 (zs_kR (fun v32 S31 => (((v15 = v32 → (zs_K S31 p0 = some (.inl 4) ∧ zs_C X d 4096 [.ref p0, va_rf p3] S31 (zs_kV (fun S35 => w_X5_newValues_107 X d p0 p1 p2 S35 Q) Q))) ∧ (¬ (v15 = v32) → w_X5_newValues_96 X d p0 S31 Q)))) Q))) Q))) Q)))))) Q))
theorem u_X5_newValues_59 {σ : Nat → Nat} {n0 : Nat} {bf : ab_B} {d : Nat} {p0 : Nat} {p1 : Option Nat} {p2 : Int32} {p3 : Option Nat} {S : zs_T} {Q : zs_Q} (hB : zt_B bf) (h : w_X5_newValues_59 (zx σ n0 bf) d p0 p1 p2 p3 S Q) : zs_U (zx σ n0 bf) d 4122 59 [(0, .ref p0), (1, va_rf p1), (2, .int p2), (3, va_rf p3)] [] S Q := by
  unfold w_X5_newValues_59 at h
  refine zu_aload_n d_4122_59 rfl (zs_rr _) ?_
  obtain ⟨b1, e2, h⟩ := h
  refine zs_stk0 (zs_rfe e2) ?_
  obtain ⟨k3, h⟩ := h
  refine zg_4_297 rfl d_4122_60 k3 ?_
  obtain ⟨b4, e5, h⟩ := h
  refine zs_stk0 (zs_rfe e5) ?_
  obtain ⟨k6, h⟩ := h
  refine zc_4_335  hB rfl k6 d_4122_63 (Nat.le_of_ble_eq_true rfl) h (fun v8 S7 h => ?_)
  refine zu_ifeq (t := 96) d_4122_66 rfl (fun c9 => ?_) (fun c9 => ?_)
  · have h := h.1 c9
    exact (u_X5_newValues_96 hB h).weak ⟨rfl, trivial⟩
  · have h := h.2 c9
    refine zu_aload_n d_4122_69 rfl (zs_rr _) ?_
    refine zs_stk0 (zs_rfe e2) ?_
    obtain ⟨k10, h⟩ := h
    refine zg_4_297 rfl d_4122_70 k10 ?_
    obtain ⟨b11, e12, h⟩ := h
    refine zs_stk0 (zs_rfe e12) ?_
    obtain ⟨k13, h⟩ := h
    refine zc_4_450  hB rfl k13 d_4122_73 (Nat.le_of_ble_eq_true rfl) h (fun v15 S14 h => ?_)
    refine zu_aload_n d_4122_76 rfl (zs_rr _) ?_
    obtain ⟨b16, e17, h⟩ := h
    refine zs_stk0 (zs_rfe e17) ?_
    obtain ⟨k18, h⟩ := h
    refine zg_4_323 rfl d_4122_77 k18 ?_
    refine zu_iload_n d_4122_80 rfl ?_
    obtain ⟨b19, e20, h⟩ := h
    refine zs_stk1 (zs_rfe e20) ?_
    obtain ⟨k21, h⟩ := h
    refine zc_4_56 (x0 := p2) hB rfl k21 d_4122_81 (by simp only [List.map_cons, List.map_nil, List.sum_cons, List.sum_nil, zs_cat, zs_cI, zs_cJ, zs_cA]; exact Nat.le_of_ble_eq_true rfl) h (fun v23 S22 h => ?_)
    obtain ⟨k24, h⟩ := h
    refine zk_4_93 (o := v23) rfl d_4122_84 k24 ?_
    obtain ⟨b25, e26, h⟩ := h
    refine zs_stk0 (zs_rfe e26) ?_
    obtain ⟨k27, h⟩ := h
    refine zg_4_96 rfl d_4122_87 k27 ?_
    obtain ⟨b28, e29, h⟩ := h
    refine zs_stk0 (zs_rfe e29) ?_
    obtain ⟨k30, h⟩ := h
    refine zc_4_450  hB rfl k30 d_4122_90 (by simp only [List.map_cons, List.map_nil, List.sum_cons, List.sum_nil, zs_cat, zs_cI, zs_cJ, zs_cA]; exact Nat.le_of_ble_eq_true rfl) h (fun v32 S31 h => ?_)
    refine zu_acmpeq (u := v15) (w := v32) (t := 102) d_4122_93 rfl rfl rfl (fun c33 => ?_) (fun c33 => ?_)
    · have h := h.1 c33
      refine zu_aload_n d_4122_102 rfl (zs_ra _) ?_
      refine zu_aload_n d_4122_103 rfl (zs_rr _) ?_
      obtain ⟨k34, h⟩ := h
      refine zc_4_721 (x0 := p3) hB rfl k34 d_4122_104 (Nat.le_of_ble_eq_true rfl) h (fun S35 h => ?_)
      exact (u_X5_newValues_107 hB h).weak ⟨rfl, rfl, rfl, trivial⟩
    · have h := h.2 c33
      exact (u_X5_newValues_96 hB h).weak ⟨rfl, trivial⟩
def w_X5_newValues_43 (X : zs_X) (d : Nat) (q0 : Option Nat) (q1 : Int32) (S : zs_T) (Q : zs_Q) : Prop :=
  (∃ b1, q0 = some b1 ∧ zs_K S b1 = some (.inl 4) ∧ zs_C X d 4006 [.ref b1, .int q1] S (zs_kR (fun v5 S4 => (∃ b6, v5 = some b6 ∧ Q (.threw b6) S4)) Q))
theorem u_X5_newValues_43 {σ : Nat → Nat} {n0 : Nat} {bf : ab_B} {d : Nat} {q0 : Option Nat} {q1 : Int32} {S : zs_T} {Q : zs_Q} (hB : zt_B bf) (h : w_X5_newValues_43 (zx σ n0 bf) d q0 q1 S Q) : zs_U (zx σ n0 bf) d 4122 43 [] [.int q1, va_rf q0] S Q := by
  unfold w_X5_newValues_43 at h
  obtain ⟨b1, e2, h⟩ := h
  refine zs_stk1 (zs_rfe e2) ?_
  obtain ⟨k3, h⟩ := h
  refine zc_4_25 (x0 := q1) hB rfl k3 d_4122_43 (Nat.le_of_ble_eq_true rfl) h (fun v5 S4 h => ?_)
  obtain ⟨b6, e7, h⟩ := h
  refine zs_stk0 (zs_rfe e7) ?_
  exact zu_throw d_4122_46 h
def w_X5_newValues_2 (X : zs_X) (d : Nat) (p0 : Nat) (p1 : Option Nat) (p2 : Int32) (S : zs_T) (Q : zs_Q) : Prop :=
  (∃ b1, p1 = some b1 ∧ zs_K S b1 = some (.inl 6) ∧ ∃ b4, (zs_R S 6007 b1) = some b4 ∧ zs_K S b4 = some (.inl 16) ∧ zs_C X d 16001 [.ref b4] S (zs_kI (fun v8 S7 => (((v8 ≤ p2 → (Q (.returned none) S7)) ∧ (¬ (v8 ≤ p2) → (zs_K S7 p0 = some (.inl 4) ∧ ∃ b11, (zs_R S7 4000 p0) = some b11 ∧ zs_K S7 b11 = some (.inl 5) ∧ zs_C X d 5017 [.ref b11, .int (44 : Int32)] S7 (zs_kI (fun v15 S14 => (((¬ v15 = 0 → (zs_K S14 p0 = some (.inl 4) ∧ ∃ b18, (zs_R S14 4000 p0) = some b18 ∧ zs_K S14 b18 = some (.inl 5) ∧ zs_C X d 5004 [.ref b18] S14 (zs_kV (fun S21 => (zs_K S21 p0 = some (.inl 4) ∧ zs_C X d 4014 [.ref p0] S21 (zs_kR (fun v25 S24 => (w_X5_newValues_59 X d p0 p1 p2 v25 S24 Q)) Q))) Q))) ∧ (¬ (¬ v15 = 0) → (zs_K S14 p0 = some (.inl 4) ∧ ∃ b27, (zs_R S14 4000 p0) = some b27 ∧ zs_K S14 b27 = some (.inl 5) ∧ zs_C X d 5017 [.ref b27, .int (41 : Int32)] S14 (zs_kI (fun v31 S30 => (((v31 = 0 → (w_X5_newValues_43 X d (some p0) (2 : Int32) S30 Q)) ∧ (¬ (v31 = 0) → (w_X5_newValues_43 X d (some p0) (5 : Int32) S30 Q))))) Q)))))) Q)))))) Q))
theorem u_X5_newValues_2 {σ : Nat → Nat} {n0 : Nat} {bf : ab_B} {d : Nat} {p0 : Nat} {p1 : Option Nat} {p2 : Int32} {S : zs_T} {Q : zs_Q} (hB : zt_B bf) (h : w_X5_newValues_2 (zx σ n0 bf) d p0 p1 p2 S Q) : zs_U (zx σ n0 bf) d 4122 2 [(0, .ref p0), (1, va_rf p1), (2, .int p2)] [] S Q := by
  unfold w_X5_newValues_2 at h
  refine zu_iload_n d_4122_2 rfl ?_
  refine zu_aload_n d_4122_3 rfl (zs_rr _) ?_
  obtain ⟨b1, e2, h⟩ := h
  refine zs_stk0 (zs_rfe e2) ?_
  obtain ⟨k3, h⟩ := h
  refine zg_4_323 rfl d_4122_4 k3 ?_
  obtain ⟨b4, e5, h⟩ := h
  refine zs_stk0 (zs_rfe e5) ?_
  obtain ⟨k6, h⟩ := h
  refine zc_4_50  hB rfl k6 d_4122_7 (Nat.le_of_ble_eq_true rfl) h (fun v8 S7 h => ?_)
  refine zu_cmpge (t := 113) d_4122_10 rfl (fun c9 => ?_) (fun c9 => ?_)
  · have h := h.1 c9
    exact zu_vret d_4122_113 zr_4122 h
  · have h := h.2 c9
    refine zu_aload_n d_4122_13 rfl (zs_ra _) ?_
    obtain ⟨k10, h⟩ := h
    refine zg_4_5 rfl d_4122_14 k10 ?_
    refine zu_bipush d_4122_17 zj_44 ?_
    obtain ⟨b11, e12, h⟩ := h
    refine zs_stk1 (zs_rfe e12) ?_
    obtain ⟨k13, h⟩ := h
    refine zc_4_21 (x0 := (44 : Int32)) hB rfl k13 d_4122_19 (Nat.le_of_ble_eq_true rfl) h (fun v15 S14 h => ?_)
    refine zu_ifne (t := 47) d_4122_22 rfl (fun c16 => ?_) (fun c16 => ?_)
    · have h := h.1 c16
      refine zu_aload_n d_4122_47 rfl (zs_ra _) ?_
      obtain ⟨k17, h⟩ := h
      refine zg_4_5 rfl d_4122_48 k17 ?_
      obtain ⟨b18, e19, h⟩ := h
      refine zs_stk0 (zs_rfe e19) ?_
      obtain ⟨k20, h⟩ := h
      refine zc_4_29  hB rfl k20 d_4122_51 (Nat.le_of_ble_eq_true rfl) h (fun S21 h => ?_)
      refine zu_aload_n d_4122_54 rfl (zs_ra _) ?_
      obtain ⟨k23, h⟩ := h
      refine zc_4_569  hB rfl k23 d_4122_55 (Nat.le_of_ble_eq_true rfl) h (fun v25 S24 h => ?_)
      refine zu_astore_n d_4122_58 (zs_rr _) (zs_lt zq_4122 rfl) ?_
      exact (u_X5_newValues_59 hB h).weak ⟨rfl, rfl, rfl, rfl, trivial⟩
    · have h := h.2 c16
      refine zu_aload_n d_4122_25 rfl (zs_ra _) ?_
      refine zu_aload_n d_4122_26 rfl (zs_ra _) ?_
      obtain ⟨k26, h⟩ := h
      refine zg_4_5 rfl d_4122_27 k26 ?_
      refine zu_bipush d_4122_30 zj_41 ?_
      obtain ⟨b27, e28, h⟩ := h
      refine zs_stk1 (zs_rfe e28) ?_
      obtain ⟨k29, h⟩ := h
      refine zc_4_21 (x0 := (41 : Int32)) hB rfl k29 d_4122_32 (Nat.le_of_ble_eq_true rfl) h (fun v31 S30 h => ?_)
      refine zu_ifeq (t := 42) d_4122_35 rfl (fun c32 => ?_) (fun c32 => ?_)
      · have h := h.1 c32
        refine zu_iconst d_4122_42 zi_2 ?_
        exact (u_X5_newValues_43 hB h).weak trivial
      · have h := h.2 c32
        refine zu_iconst d_4122_38 zi_5 ?_
        refine zu_goto (t := 43) d_4122_39 rfl ?_
        exact (u_X5_newValues_43 hB h).weak trivial
def w_X5_newValues (X : zs_X) (d : Nat) (p0 : Nat) (p1 : Option Nat) (S : zs_T) (Q : zs_Q) : Prop :=
  (zs_U X d 4122 2 [(0, .ref p0), (1, va_rf p1), (2, .int (0 : Int32))] [] S Q)
theorem u_X5_newValues {σ : Nat → Nat} {n0 : Nat} {bf : ab_B} {d : Nat} {p0 : Nat} {p1 : Option Nat} {S : zs_T} {Q : zs_Q} (hB : zt_B bf) (hd : 1 ≤ d) (h : w_X5_newValues (zx σ n0 bf) (d - 1) p0 p1 S Q) : zs_C (zx σ n0 bf) d 4122 [.ref p0, va_rf p1] S Q := by
  have hL : lv_args 0 [.ref p0, va_rf p1] = [(0, .ref p0), (1, va_rf p1)] := by simp [lv_args, zs_cat, zs_cI, zs_cJ, zs_cA]
  refine zs_C.of1 (hB.2 4122 (by decide) (by decide)) hd (by rw [hL]; exact zs_sub_self _ (by exact ⟨rfl, rfl, trivial⟩)) ?_
  rw [hL]
  clear hL
  unfold w_X5_newValues at h
  refine zu_iconst d_4122_0 zi_0 ?_
  refine zu_istore_n d_4122_1 (zs_lt zq_4122 rfl) ?_
  refine zs_U.weak (L1 := [(2, .int (0 : Int32)), (0, .ref p0), (1, va_rf p1)]) ?_ ⟨rfl, zs_gp1 rfl (Or.inl rfl) rfl, zs_gp1 rfl (Or.inl (zs_cat _)) rfl, trivial⟩
  exact h.weak ⟨rfl, rfl, rfl, trivial⟩
/-! SchemaPascal$Reader.becomes(LSchemaPascal$Node;)V -/
theorem zm_4123 {σ : Nat → Nat} {n0 : Nat} {bf : ab_B} : ab_code (zx σ n0 bf).1 4123 = prog_9_method_112_code := rfl
theorem zq_4123 {σ : Nat → Nat} {n0 : Nat} {bf : ab_B} : ab_maxL (zx σ n0 bf).1 4123 = 4 := rfl
theorem zr_4123 {σ : Nat → Nat} {n0 : Nat} {bf : ab_B} : ab_ret (zx σ n0 bf).1 4123 = (Option.none : Option Jvm.ClassFile.FieldType) := rfl
theorem d_4123_0 {σ : Nat → Nat} {n0 : Nat} {bf : ab_B} : decode (ab_code (zx σ n0 bf).1 4123) 0 = .ok (.aload_n 0, 1) := zd zm_4123 (by decide +kernel)
theorem d_4123_1 {σ : Nat → Nat} {n0 : Nat} {bf : ab_B} : decode (ab_code (zx σ n0 bf).1 4123) 1 = .ok (.getfield 5, 3) := zd zm_4123 (by decide +kernel)
theorem d_4123_4 {σ : Nat → Nat} {n0 : Nat} {bf : ab_B} : decode (ab_code (zx σ n0 bf).1 4123) 4 = .ok (.getfield 11, 3) := zd zm_4123 (by decide +kernel)
theorem d_4123_7 {σ : Nat → Nat} {n0 : Nat} {bf : ab_B} : decode (ab_code (zx σ n0 bf).1 4123) 7 = .ok (.istore_n 2, 1) := zd zm_4123 (by decide +kernel)
theorem d_4123_8 {σ : Nat → Nat} {n0 : Nat} {bf : ab_B} : decode (ab_code (zx σ n0 bf).1 4123) 8 = .ok (.aload_n 0, 1) := zd zm_4123 (by decide +kernel)
theorem d_4123_9 {σ : Nat → Nat} {n0 : Nat} {bf : ab_B} : decode (ab_code (zx σ n0 bf).1 4123) 9 = .ok (.getfield 5, 3) := zd zm_4123 (by decide +kernel)
theorem d_4123_12 {σ : Nat → Nat} {n0 : Nat} {bf : ab_B} : decode (ab_code (zx σ n0 bf).1 4123) 12 = .ok (.sipush 259, 3) := zd zm_4123 (by decide +kernel)
theorem d_4123_15 {σ : Nat → Nat} {n0 : Nat} {bf : ab_B} : decode (ab_code (zx σ n0 bf).1 4123) 15 = .ok (.invokevirtual 21, 3) := zd zm_4123 (by decide +kernel)
theorem d_4123_18 {σ : Nat → Nat} {n0 : Nat} {bf : ab_B} : decode (ab_code (zx σ n0 bf).1 4123) 18 = .ok (.ifCond .eq 17, 3) := zd zm_4123 (by decide +kernel)
theorem d_4123_21 {σ : Nat → Nat} {n0 : Nat} {bf : ab_B} : decode (ab_code (zx σ n0 bf).1 4123) 21 = .ok (.aload_n 1, 1) := zd zm_4123 (by decide +kernel)
theorem d_4123_22 {σ : Nat → Nat} {n0 : Nat} {bf : ab_B} : decode (ab_code (zx σ n0 bf).1 4123) 22 = .ok (.invokestatic 703, 3) := zd zm_4123 (by decide +kernel)
theorem d_4123_25 {σ : Nat → Nat} {n0 : Nat} {bf : ab_B} : decode (ab_code (zx σ n0 bf).1 4123) 25 = .ok (.ifCond .eq 10, 3) := zd zm_4123 (by decide +kernel)
theorem d_4123_28 {σ : Nat → Nat} {n0 : Nat} {bf : ab_B} : decode (ab_code (zx σ n0 bf).1 4123) 28 = .ok (.aload_n 0, 1) := zd zm_4123 (by decide +kernel)
theorem d_4123_29 {σ : Nat → Nat} {n0 : Nat} {bf : ab_B} : decode (ab_code (zx σ n0 bf).1 4123) 29 = .ok (.bipush 6, 2) := zd zm_4123 (by decide +kernel)
theorem d_4123_31 {σ : Nat → Nat} {n0 : Nat} {bf : ab_B} : decode (ab_code (zx σ n0 bf).1 4123) 31 = .ok (.invokevirtual 25, 3) := zd zm_4123 (by decide +kernel)
theorem d_4123_34 {σ : Nat → Nat} {n0 : Nat} {bf : ab_B} : decode (ab_code (zx σ n0 bf).1 4123) 34 = .ok (.athrow, 1) := zd zm_4123 (by decide +kernel)
theorem d_4123_35 {σ : Nat → Nat} {n0 : Nat} {bf : ab_B} : decode (ab_code (zx σ n0 bf).1 4123) 35 = .ok (.aload_n 0, 1) := zd zm_4123 (by decide +kernel)
theorem d_4123_36 {σ : Nat → Nat} {n0 : Nat} {bf : ab_B} : decode (ab_code (zx σ n0 bf).1 4123) 36 = .ok (.sipush 259, 3) := zd zm_4123 (by decide +kernel)
theorem d_4123_39 {σ : Nat → Nat} {n0 : Nat} {bf : ab_B} : decode (ab_code (zx σ n0 bf).1 4123) 39 = .ok (.invokevirtual 224, 3) := zd zm_4123 (by decide +kernel)
theorem d_4123_42 {σ : Nat → Nat} {n0 : Nat} {bf : ab_B} : decode (ab_code (zx σ n0 bf).1 4123) 42 = .ok (.aload_n 0, 1) := zd zm_4123 (by decide +kernel)
theorem d_4123_43 {σ : Nat → Nat} {n0 : Nat} {bf : ab_B} : decode (ab_code (zx σ n0 bf).1 4123) 43 = .ok (.aload_n 1, 1) := zd zm_4123 (by decide +kernel)
theorem d_4123_44 {σ : Nat → Nat} {n0 : Nat} {bf : ab_B} : decode (ab_code (zx σ n0 bf).1 4123) 44 = .ok (.invokevirtual 715, 3) := zd zm_4123 (by decide +kernel)
theorem d_4123_47 {σ : Nat → Nat} {n0 : Nat} {bf : ab_B} : decode (ab_code (zx σ n0 bf).1 4123) 47 = .ok (.aload_n 0, 1) := zd zm_4123 (by decide +kernel)
theorem d_4123_48 {σ : Nat → Nat} {n0 : Nat} {bf : ab_B} : decode (ab_code (zx σ n0 bf).1 4123) 48 = .ok (.invokevirtual 569, 3) := zd zm_4123 (by decide +kernel)
theorem d_4123_51 {σ : Nat → Nat} {n0 : Nat} {bf : ab_B} : decode (ab_code (zx σ n0 bf).1 4123) 51 = .ok (.astore_n 3, 1) := zd zm_4123 (by decide +kernel)
theorem d_4123_52 {σ : Nat → Nat} {n0 : Nat} {bf : ab_B} : decode (ab_code (zx σ n0 bf).1 4123) 52 = .ok (.aload_n 0, 1) := zd zm_4123 (by decide +kernel)
theorem d_4123_53 {σ : Nat → Nat} {n0 : Nat} {bf : ab_B} : decode (ab_code (zx σ n0 bf).1 4123) 53 = .ok (.aload_n 1, 1) := zd zm_4123 (by decide +kernel)
theorem d_4123_54 {σ : Nat → Nat} {n0 : Nat} {bf : ab_B} : decode (ab_code (zx σ n0 bf).1 4123) 54 = .ok (.getfield 297, 3) := zd zm_4123 (by decide +kernel)
theorem d_4123_57 {σ : Nat → Nat} {n0 : Nat} {bf : ab_B} : decode (ab_code (zx σ n0 bf).1 4123) 57 = .ok (.aload_n 3, 1) := zd zm_4123 (by decide +kernel)
theorem d_4123_58 {σ : Nat → Nat} {n0 : Nat} {bf : ab_B} : decode (ab_code (zx σ n0 bf).1 4123) 58 = .ok (.invokevirtual 696, 3) := zd zm_4123 (by decide +kernel)
theorem d_4123_61 {σ : Nat → Nat} {n0 : Nat} {bf : ab_B} : decode (ab_code (zx σ n0 bf).1 4123) 61 = .ok (.ifCond .ne 9, 3) := zd zm_4123 (by decide +kernel)
theorem d_4123_64 {σ : Nat → Nat} {n0 : Nat} {bf : ab_B} : decode (ab_code (zx σ n0 bf).1 4123) 64 = .ok (.aload_n 0, 1) := zd zm_4123 (by decide +kernel)
theorem d_4123_65 {σ : Nat → Nat} {n0 : Nat} {bf : ab_B} : decode (ab_code (zx σ n0 bf).1 4123) 65 = .ok (.iconst 5, 1) := zd zm_4123 (by decide +kernel)
theorem d_4123_66 {σ : Nat → Nat} {n0 : Nat} {bf : ab_B} : decode (ab_code (zx σ n0 bf).1 4123) 66 = .ok (.invokevirtual 25, 3) := zd zm_4123 (by decide +kernel)
theorem d_4123_69 {σ : Nat → Nat} {n0 : Nat} {bf : ab_B} : decode (ab_code (zx σ n0 bf).1 4123) 69 = .ok (.athrow, 1) := zd zm_4123 (by decide +kernel)
theorem d_4123_70 {σ : Nat → Nat} {n0 : Nat} {bf : ab_B} : decode (ab_code (zx σ n0 bf).1 4123) 70 = .ok (.aload_n 1, 1) := zd zm_4123 (by decide +kernel)
theorem d_4123_71 {σ : Nat → Nat} {n0 : Nat} {bf : ab_B} : decode (ab_code (zx σ n0 bf).1 4123) 71 = .ok (.getfield 297, 3) := zd zm_4123 (by decide +kernel)
theorem d_4123_74 {σ : Nat → Nat} {n0 : Nat} {bf : ab_B} : decode (ab_code (zx σ n0 bf).1 4123) 74 = .ok (.invokevirtual 335, 3) := zd zm_4123 (by decide +kernel)
theorem d_4123_77 {σ : Nat → Nat} {n0 : Nat} {bf : ab_B} : decode (ab_code (zx σ n0 bf).1 4123) 77 = .ok (.ifCond .ne 65, 3) := zd zm_4123 (by decide +kernel)
theorem d_4123_80 {σ : Nat → Nat} {n0 : Nat} {bf : ab_B} : decode (ab_code (zx σ n0 bf).1 4123) 80 = .ok (.aload_n 3, 1) := zd zm_4123 (by decide +kernel)
theorem d_4123_81 {σ : Nat → Nat} {n0 : Nat} {bf : ab_B} : decode (ab_code (zx σ n0 bf).1 4123) 81 = .ok (.invokevirtual 625, 3) := zd zm_4123 (by decide +kernel)
theorem d_4123_84 {σ : Nat → Nat} {n0 : Nat} {bf : ab_B} : decode (ab_code (zx σ n0 bf).1 4123) 84 = .ok (.ifCond .eq 58, 3) := zd zm_4123 (by decide +kernel)
theorem d_4123_87 {σ : Nat → Nat} {n0 : Nat} {bf : ab_B} : decode (ab_code (zx σ n0 bf).1 4123) 87 = .ok (.aload_n 1, 1) := zd zm_4123 (by decide +kernel)
theorem d_4123_88 {σ : Nat → Nat} {n0 : Nat} {bf : ab_B} : decode (ab_code (zx σ n0 bf).1 4123) 88 = .ok (.getfield 297, 3) := zd zm_4123 (by decide +kernel)
theorem d_4123_91 {σ : Nat → Nat} {n0 : Nat} {bf : ab_B} : decode (ab_code (zx σ n0 bf).1 4123) 91 = .ok (.getfield 369, 3) := zd zm_4123 (by decide +kernel)
theorem d_4123_94 {σ : Nat → Nat} {n0 : Nat} {bf : ab_B} : decode (ab_code (zx σ n0 bf).1 4123) 94 = .ok (.iconst 5, 1) := zd zm_4123 (by decide +kernel)
theorem d_4123_95 {σ : Nat → Nat} {n0 : Nat} {bf : ab_B} : decode (ab_code (zx σ n0 bf).1 4123) 95 = .ok (.if_icmp .eq 47, 3) := zd zm_4123 (by decide +kernel)
theorem d_4123_98 {σ : Nat → Nat} {n0 : Nat} {bf : ab_B} : decode (ab_code (zx σ n0 bf).1 4123) 98 = .ok (.aload_n 1, 1) := zd zm_4123 (by decide +kernel)
theorem d_4123_99 {σ : Nat → Nat} {n0 : Nat} {bf : ab_B} : decode (ab_code (zx σ n0 bf).1 4123) 99 = .ok (.getfield 297, 3) := zd zm_4123 (by decide +kernel)
theorem d_4123_102 {σ : Nat → Nat} {n0 : Nat} {bf : ab_B} : decode (ab_code (zx σ n0 bf).1 4123) 102 = .ok (.getfield 369, 3) := zd zm_4123 (by decide +kernel)
theorem d_4123_105 {σ : Nat → Nat} {n0 : Nat} {bf : ab_B} : decode (ab_code (zx σ n0 bf).1 4123) 105 = .ok (.bipush 9, 2) := zd zm_4123 (by decide +kernel)
theorem d_4123_107 {σ : Nat → Nat} {n0 : Nat} {bf : ab_B} : decode (ab_code (zx σ n0 bf).1 4123) 107 = .ok (.if_icmp .eq 35, 3) := zd zm_4123 (by decide +kernel)
theorem d_4123_110 {σ : Nat → Nat} {n0 : Nat} {bf : ab_B} : decode (ab_code (zx σ n0 bf).1 4123) 110 = .ok (.aload_n 1, 1) := zd zm_4123 (by decide +kernel)
theorem d_4123_111 {σ : Nat → Nat} {n0 : Nat} {bf : ab_B} : decode (ab_code (zx σ n0 bf).1 4123) 111 = .ok (.getfield 297, 3) := zd zm_4123 (by decide +kernel)
theorem d_4123_114 {σ : Nat → Nat} {n0 : Nat} {bf : ab_B} : decode (ab_code (zx σ n0 bf).1 4123) 114 = .ok (.getfield 369, 3) := zd zm_4123 (by decide +kernel)
theorem d_4123_117 {σ : Nat → Nat} {n0 : Nat} {bf : ab_B} : decode (ab_code (zx σ n0 bf).1 4123) 117 = .ok (.bipush 6, 2) := zd zm_4123 (by decide +kernel)
theorem d_4123_119 {σ : Nat → Nat} {n0 : Nat} {bf : ab_B} : decode (ab_code (zx σ n0 bf).1 4123) 119 = .ok (.if_icmp .eq 23, 3) := zd zm_4123 (by decide +kernel)
theorem d_4123_122 {σ : Nat → Nat} {n0 : Nat} {bf : ab_B} : decode (ab_code (zx σ n0 bf).1 4123) 122 = .ok (.aload_n 0, 1) := zd zm_4123 (by decide +kernel)
theorem d_4123_123 {σ : Nat → Nat} {n0 : Nat} {bf : ab_B} : decode (ab_code (zx σ n0 bf).1 4123) 123 = .ok (.aload_n 3, 1) := zd zm_4123 (by decide +kernel)
theorem d_4123_124 {σ : Nat → Nat} {n0 : Nat} {bf : ab_B} : decode (ab_code (zx σ n0 bf).1 4123) 124 = .ok (.invokevirtual 715, 3) := zd zm_4123 (by decide +kernel)
theorem d_4123_127 {σ : Nat → Nat} {n0 : Nat} {bf : ab_B} : decode (ab_code (zx σ n0 bf).1 4123) 127 = .ok (.aload_n 0, 1) := zd zm_4123 (by decide +kernel)
theorem d_4123_128 {σ : Nat → Nat} {n0 : Nat} {bf : ab_B} : decode (ab_code (zx σ n0 bf).1 4123) 128 = .ok (.bipush 14, 2) := zd zm_4123 (by decide +kernel)
theorem d_4123_130 {σ : Nat → Nat} {n0 : Nat} {bf : ab_B} : decode (ab_code (zx σ n0 bf).1 4123) 130 = .ok (.iload_n 2, 1) := zd zm_4123 (by decide +kernel)
theorem d_4123_131 {σ : Nat → Nat} {n0 : Nat} {bf : ab_B} : decode (ab_code (zx σ n0 bf).1 4123) 131 = .ok (.aload_n 1, 1) := zd zm_4123 (by decide +kernel)
theorem d_4123_132 {σ : Nat → Nat} {n0 : Nat} {bf : ab_B} : decode (ab_code (zx σ n0 bf).1 4123) 132 = .ok (.getfield 297, 3) := zd zm_4123 (by decide +kernel)
theorem d_4123_135 {σ : Nat → Nat} {n0 : Nat} {bf : ab_B} : decode (ab_code (zx σ n0 bf).1 4123) 135 = .ok (.getfield 137, 3) := zd zm_4123 (by decide +kernel)
theorem d_4123_138 {σ : Nat → Nat} {n0 : Nat} {bf : ab_B} : decode (ab_code (zx σ n0 bf).1 4123) 138 = .ok (.invokevirtual 712, 3) := zd zm_4123 (by decide +kernel)
theorem d_4123_141 {σ : Nat → Nat} {n0 : Nat} {bf : ab_B} : decode (ab_code (zx σ n0 bf).1 4123) 141 = .ok (.return_, 1) := zd zm_4123 (by decide +kernel)
theorem d_4123_142 {σ : Nat → Nat} {n0 : Nat} {bf : ab_B} : decode (ab_code (zx σ n0 bf).1 4123) 142 = .ok (.aload_n 0, 1) := zd zm_4123 (by decide +kernel)
theorem d_4123_143 {σ : Nat → Nat} {n0 : Nat} {bf : ab_B} : decode (ab_code (zx σ n0 bf).1 4123) 143 = .ok (.aload_n 3, 1) := zd zm_4123 (by decide +kernel)
theorem d_4123_144 {σ : Nat → Nat} {n0 : Nat} {bf : ab_B} : decode (ab_code (zx σ n0 bf).1 4123) 144 = .ok (.invokevirtual 721, 3) := zd zm_4123 (by decide +kernel)
theorem d_4123_147 {σ : Nat → Nat} {n0 : Nat} {bf : ab_B} : decode (ab_code (zx σ n0 bf).1 4123) 147 = .ok (.aload_n 1, 1) := zd zm_4123 (by decide +kernel)
theorem d_4123_148 {σ : Nat → Nat} {n0 : Nat} {bf : ab_B} : decode (ab_code (zx σ n0 bf).1 4123) 148 = .ok (.getfield 297, 3) := zd zm_4123 (by decide +kernel)
theorem d_4123_151 {σ : Nat → Nat} {n0 : Nat} {bf : ab_B} : decode (ab_code (zx σ n0 bf).1 4123) 151 = .ok (.getfield 369, 3) := zd zm_4123 (by decide +kernel)
theorem d_4123_154 {σ : Nat → Nat} {n0 : Nat} {bf : ab_B} : decode (ab_code (zx σ n0 bf).1 4123) 154 = .ok (.bipush 6, 2) := zd zm_4123 (by decide +kernel)
theorem d_4123_156 {σ : Nat → Nat} {n0 : Nat} {bf : ab_B} : decode (ab_code (zx σ n0 bf).1 4123) 156 = .ok (.if_icmp .ne 25, 3) := zd zm_4123 (by decide +kernel)
theorem d_4123_159 {σ : Nat → Nat} {n0 : Nat} {bf : ab_B} : decode (ab_code (zx σ n0 bf).1 4123) 159 = .ok (.aload_n 0, 1) := zd zm_4123 (by decide +kernel)
theorem d_4123_160 {σ : Nat → Nat} {n0 : Nat} {bf : ab_B} : decode (ab_code (zx σ n0 bf).1 4123) 160 = .ok (.aload_n 3, 1) := zd zm_4123 (by decide +kernel)
theorem d_4123_161 {σ : Nat → Nat} {n0 : Nat} {bf : ab_B} : decode (ab_code (zx σ n0 bf).1 4123) 161 = .ok (.invokevirtual 724, 3) := zd zm_4123 (by decide +kernel)
theorem d_4123_164 {σ : Nat → Nat} {n0 : Nat} {bf : ab_B} : decode (ab_code (zx σ n0 bf).1 4123) 164 = .ok (.aload_n 0, 1) := zd zm_4123 (by decide +kernel)
theorem d_4123_165 {σ : Nat → Nat} {n0 : Nat} {bf : ab_B} : decode (ab_code (zx σ n0 bf).1 4123) 165 = .ok (.bipush 12, 2) := zd zm_4123 (by decide +kernel)
theorem d_4123_167 {σ : Nat → Nat} {n0 : Nat} {bf : ab_B} : decode (ab_code (zx σ n0 bf).1 4123) 167 = .ok (.iload_n 2, 1) := zd zm_4123 (by decide +kernel)
theorem d_4123_168 {σ : Nat → Nat} {n0 : Nat} {bf : ab_B} : decode (ab_code (zx σ n0 bf).1 4123) 168 = .ok (.aload_n 1, 1) := zd zm_4123 (by decide +kernel)
theorem d_4123_169 {σ : Nat → Nat} {n0 : Nat} {bf : ab_B} : decode (ab_code (zx σ n0 bf).1 4123) 169 = .ok (.getfield 297, 3) := zd zm_4123 (by decide +kernel)
theorem d_4123_172 {σ : Nat → Nat} {n0 : Nat} {bf : ab_B} : decode (ab_code (zx σ n0 bf).1 4123) 172 = .ok (.getfield 137, 3) := zd zm_4123 (by decide +kernel)
theorem d_4123_175 {σ : Nat → Nat} {n0 : Nat} {bf : ab_B} : decode (ab_code (zx σ n0 bf).1 4123) 175 = .ok (.invokevirtual 712, 3) := zd zm_4123 (by decide +kernel)
theorem d_4123_178 {σ : Nat → Nat} {n0 : Nat} {bf : ab_B} : decode (ab_code (zx σ n0 bf).1 4123) 178 = .ok (.goto 85, 3) := zd zm_4123 (by decide +kernel)
theorem d_4123_181 {σ : Nat → Nat} {n0 : Nat} {bf : ab_B} : decode (ab_code (zx σ n0 bf).1 4123) 181 = .ok (.aload_n 1, 1) := zd zm_4123 (by decide +kernel)
theorem d_4123_182 {σ : Nat → Nat} {n0 : Nat} {bf : ab_B} : decode (ab_code (zx σ n0 bf).1 4123) 182 = .ok (.getfield 512, 3) := zd zm_4123 (by decide +kernel)
theorem d_4123_185 {σ : Nat → Nat} {n0 : Nat} {bf : ab_B} : decode (ab_code (zx σ n0 bf).1 4123) 185 = .ok (.iconst 4, 1) := zd zm_4123 (by decide +kernel)
theorem d_4123_186 {σ : Nat → Nat} {n0 : Nat} {bf : ab_B} : decode (ab_code (zx σ n0 bf).1 4123) 186 = .ok (.if_icmp .ne 63, 3) := zd zm_4123 (by decide +kernel)
theorem d_4123_189 {σ : Nat → Nat} {n0 : Nat} {bf : ab_B} : decode (ab_code (zx σ n0 bf).1 4123) 189 = .ok (.aload_n 1, 1) := zd zm_4123 (by decide +kernel)
theorem d_4123_190 {σ : Nat → Nat} {n0 : Nat} {bf : ab_B} : decode (ab_code (zx σ n0 bf).1 4123) 190 = .ok (.getfield 670, 3) := zd zm_4123 (by decide +kernel)
theorem d_4123_193 {σ : Nat → Nat} {n0 : Nat} {bf : ab_B} : decode (ab_code (zx σ n0 bf).1 4123) 193 = .ok (.getfield 504, 3) := zd zm_4123 (by decide +kernel)
theorem d_4123_196 {σ : Nat → Nat} {n0 : Nat} {bf : ab_B} : decode (ab_code (zx σ n0 bf).1 4123) 196 = .ok (.ifnull 53, 3) := zd zm_4123 (by decide +kernel)
theorem d_4123_199 {σ : Nat → Nat} {n0 : Nat} {bf : ab_B} : decode (ab_code (zx σ n0 bf).1 4123) 199 = .ok (.aload_n 0, 1) := zd zm_4123 (by decide +kernel)
theorem d_4123_200 {σ : Nat → Nat} {n0 : Nat} {bf : ab_B} : decode (ab_code (zx σ n0 bf).1 4123) 200 = .ok (.bipush 13, 2) := zd zm_4123 (by decide +kernel)
theorem d_4123_202 {σ : Nat → Nat} {n0 : Nat} {bf : ab_B} : decode (ab_code (zx σ n0 bf).1 4123) 202 = .ok (.iload_n 2, 1) := zd zm_4123 (by decide +kernel)
theorem d_4123_203 {σ : Nat → Nat} {n0 : Nat} {bf : ab_B} : decode (ab_code (zx σ n0 bf).1 4123) 203 = .ok (.aload_n 1, 1) := zd zm_4123 (by decide +kernel)
theorem d_4123_204 {σ : Nat → Nat} {n0 : Nat} {bf : ab_B} : decode (ab_code (zx σ n0 bf).1 4123) 204 = .ok (.getfield 297, 3) := zd zm_4123 (by decide +kernel)
theorem d_4123_207 {σ : Nat → Nat} {n0 : Nat} {bf : ab_B} : decode (ab_code (zx σ n0 bf).1 4123) 207 = .ok (.getfield 137, 3) := zd zm_4123 (by decide +kernel)
theorem d_4123_210 {σ : Nat → Nat} {n0 : Nat} {bf : ab_B} : decode (ab_code (zx σ n0 bf).1 4123) 210 = .ok (.invokevirtual 712, 3) := zd zm_4123 (by decide +kernel)
theorem d_4123_213 {σ : Nat → Nat} {n0 : Nat} {bf : ab_B} : decode (ab_code (zx σ n0 bf).1 4123) 213 = .ok (.aload_n 0, 1) := zd zm_4123 (by decide +kernel)
theorem d_4123_214 {σ : Nat → Nat} {n0 : Nat} {bf : ab_B} : decode (ab_code (zx σ n0 bf).1 4123) 214 = .ok (.getfield 128, 3) := zd zm_4123 (by decide +kernel)
theorem d_4123_217 {σ : Nat → Nat} {n0 : Nat} {bf : ab_B} : decode (ab_code (zx σ n0 bf).1 4123) 217 = .ok (.aload_n 0, 1) := zd zm_4123 (by decide +kernel)
theorem d_4123_218 {σ : Nat → Nat} {n0 : Nat} {bf : ab_B} : decode (ab_code (zx σ n0 bf).1 4123) 218 = .ok (.getfield 128, 3) := zd zm_4123 (by decide +kernel)
theorem d_4123_221 {σ : Nat → Nat} {n0 : Nat} {bf : ab_B} : decode (ab_code (zx σ n0 bf).1 4123) 221 = .ok (.getfield 741, 3) := zd zm_4123 (by decide +kernel)
theorem d_4123_224 {σ : Nat → Nat} {n0 : Nat} {bf : ab_B} : decode (ab_code (zx σ n0 bf).1 4123) 224 = .ok (.invokevirtual 50, 3) := zd zm_4123 (by decide +kernel)
theorem d_4123_227 {σ : Nat → Nat} {n0 : Nat} {bf : ab_B} : decode (ab_code (zx σ n0 bf).1 4123) 227 = .ok (.invokevirtual 709, 3) := zd zm_4123 (by decide +kernel)
theorem d_4123_230 {σ : Nat → Nat} {n0 : Nat} {bf : ab_B} : decode (ab_code (zx σ n0 bf).1 4123) 230 = .ok (.pop, 1) := zd zm_4123 (by decide +kernel)
theorem d_4123_231 {σ : Nat → Nat} {n0 : Nat} {bf : ab_B} : decode (ab_code (zx σ n0 bf).1 4123) 231 = .ok (.aload_n 0, 1) := zd zm_4123 (by decide +kernel)
theorem d_4123_232 {σ : Nat → Nat} {n0 : Nat} {bf : ab_B} : decode (ab_code (zx σ n0 bf).1 4123) 232 = .ok (.getfield 128, 3) := zd zm_4123 (by decide +kernel)
theorem d_4123_235 {σ : Nat → Nat} {n0 : Nat} {bf : ab_B} : decode (ab_code (zx σ n0 bf).1 4123) 235 = .ok (.getfield 741, 3) := zd zm_4123 (by decide +kernel)
theorem d_4123_238 {σ : Nat → Nat} {n0 : Nat} {bf : ab_B} : decode (ab_code (zx σ n0 bf).1 4123) 238 = .ok (.aload_n 1, 1) := zd zm_4123 (by decide +kernel)
theorem d_4123_239 {σ : Nat → Nat} {n0 : Nat} {bf : ab_B} : decode (ab_code (zx σ n0 bf).1 4123) 239 = .ok (.getfield 670, 3) := zd zm_4123 (by decide +kernel)
theorem d_4123_242 {σ : Nat → Nat} {n0 : Nat} {bf : ab_B} : decode (ab_code (zx σ n0 bf).1 4123) 242 = .ok (.invokevirtual 140, 3) := zd zm_4123 (by decide +kernel)
theorem d_4123_245 {σ : Nat → Nat} {n0 : Nat} {bf : ab_B} : decode (ab_code (zx σ n0 bf).1 4123) 245 = .ok (.pop, 1) := zd zm_4123 (by decide +kernel)
theorem d_4123_246 {σ : Nat → Nat} {n0 : Nat} {bf : ab_B} : decode (ab_code (zx σ n0 bf).1 4123) 246 = .ok (.goto 17, 3) := zd zm_4123 (by decide +kernel)
theorem d_4123_249 {σ : Nat → Nat} {n0 : Nat} {bf : ab_B} : decode (ab_code (zx σ n0 bf).1 4123) 249 = .ok (.aload_n 0, 1) := zd zm_4123 (by decide +kernel)
theorem d_4123_250 {σ : Nat → Nat} {n0 : Nat} {bf : ab_B} : decode (ab_code (zx σ n0 bf).1 4123) 250 = .ok (.bipush 11, 2) := zd zm_4123 (by decide +kernel)
theorem d_4123_252 {σ : Nat → Nat} {n0 : Nat} {bf : ab_B} : decode (ab_code (zx σ n0 bf).1 4123) 252 = .ok (.iload_n 2, 1) := zd zm_4123 (by decide +kernel)
theorem d_4123_253 {σ : Nat → Nat} {n0 : Nat} {bf : ab_B} : decode (ab_code (zx σ n0 bf).1 4123) 253 = .ok (.aload_n 1, 1) := zd zm_4123 (by decide +kernel)
theorem d_4123_254 {σ : Nat → Nat} {n0 : Nat} {bf : ab_B} : decode (ab_code (zx σ n0 bf).1 4123) 254 = .ok (.getfield 297, 3) := zd zm_4123 (by decide +kernel)
theorem d_4123_257 {σ : Nat → Nat} {n0 : Nat} {bf : ab_B} : decode (ab_code (zx σ n0 bf).1 4123) 257 = .ok (.getfield 137, 3) := zd zm_4123 (by decide +kernel)
theorem d_4123_260 {σ : Nat → Nat} {n0 : Nat} {bf : ab_B} : decode (ab_code (zx σ n0 bf).1 4123) 260 = .ok (.invokevirtual 712, 3) := zd zm_4123 (by decide +kernel)
theorem d_4123_263 {σ : Nat → Nat} {n0 : Nat} {bf : ab_B} : decode (ab_code (zx σ n0 bf).1 4123) 263 = .ok (.return_, 1) := zd zm_4123 (by decide +kernel)
def w_X5_becomes_249 (X : zs_X) (d : Nat) (p0 : Nat) (p1 : Option Nat) (p2 : Int32) (S : zs_T) (Q : zs_Q) : Prop :=
  (∃ b1, p1 = some b1 ∧ zs_K S b1 = some (.inl 11) ∧ ∃ b4, (zs_R S 11002 b1) = some b4 ∧ zs_K S b4 = some (.inl 6) ∧ zs_K S p0 = some (.inl 4) ∧ zs_C X d 4097 [.ref p0, .int (11 : Int32), .int p2, .int (zs_I S 6001 b4)] S (zs_kV (fun S8 => (Q (.returned none) S8)) Q))
theorem u_X5_becomes_249 {σ : Nat → Nat} {n0 : Nat} {bf : ab_B} {d : Nat} {p0 : Nat} {p1 : Option Nat} {p2 : Int32} {S : zs_T} {Q : zs_Q} (hB : zt_B bf) (h : w_X5_becomes_249 (zx σ n0 bf) d p0 p1 p2 S Q) : zs_U (zx σ n0 bf) d 4123 249 [(0, .ref p0), (1, va_rf p1), (2, .int p2)] [] S Q := by
  unfold w_X5_becomes_249 at h
  refine zu_aload_n d_4123_249 rfl (zs_ra _) ?_
  refine zu_bipush d_4123_250 zj_11 ?_
  refine zu_iload_n d_4123_252 rfl ?_
  refine zu_aload_n d_4123_253 rfl (zs_rr _) ?_
  obtain ⟨b1, e2, h⟩ := h
  refine zs_stk0 (zs_rfe e2) ?_
  obtain ⟨k3, h⟩ := h
  refine zg_4_297 rfl d_4123_254 k3 ?_
  obtain ⟨b4, e5, h⟩ := h
  refine zs_stk0 (zs_rfe e5) ?_
  obtain ⟨k6, h⟩ := h
  refine zg_4_137 rfl d_4123_257 k6 ?_
  obtain ⟨k7, h⟩ := h
  refine zc_4_712 (x0 := (11 : Int32)) (x1 := p2) (x2 := (zs_I S 6001 b4)) hB rfl k7 d_4123_260 (Nat.le_of_ble_eq_true rfl) h (fun S8 h => ?_)
  exact zu_vret d_4123_263 zr_4123 h
def w_X5_becomes_246 (X : zs_X) (d : Nat)  (S : zs_T) (Q : zs_Q) : Prop :=
  (Q (.returned none) S)
theorem u_X5_becomes_246 {σ : Nat → Nat} {n0 : Nat} {bf : ab_B} {d : Nat}  {S : zs_T} {Q : zs_Q} (hB : zt_B bf) (h : w_X5_becomes_246 (zx σ n0 bf) d  S Q) : zs_U (zx σ n0 bf) d 4123 246 [] [] S Q := by
  unfold w_X5_becomes_246 at h
  refine zu_goto (t := 263) d_4123_246 rfl ?_
  exact zu_vret d_4123_263 zr_4123 h
def w_X5_becomes_199 (X : zs_X) (d : Nat) (p0 : Nat) (p1 : Option Nat) (p2 : Int32) (S : zs_T) (Q : zs_Q) : Prop :=
  (∃ b1, p1 = some b1 ∧ zs_K S b1 = some (.inl 11) ∧ ∃ b4, (zs_R S 11002 b1) = some b4 ∧ zs_K S b4 = some (.inl 6) ∧ zs_K S p0 = some (.inl 4) ∧ zs_C X d 4097 [.ref p0, .int (13 : Int32), .int p2, .int (zs_I S 6001 b4)] S (zs_kV (fun S8 => (zs_K S8 p0 = some (.inl 4) ∧ ∃ b11, (zs_R S8 4001 p0) = some b11 ∧ zs_K S8 b11 = some (.inl 3) ∧ ∃ b14, (zs_R S8 3003 b11) = some b14 ∧ zs_K S8 b14 = some (.inl 16) ∧ zs_C X d 16001 [.ref b14] S8 (zs_kI (fun v18 S17 => (zs_K S17 b11 = some (.inl 3) ∧ zs_C X d 3002 [.ref b11, .int v18] S17 (zs_kI (fun v21 S20 => (zs_K S20 p0 = some (.inl 4) ∧ ∃ b23, (zs_R S20 4001 p0) = some b23 ∧ zs_K S20 b23 = some (.inl 3) ∧ zs_K S20 b1 = some (.inl 11) ∧ ∃ b27, (zs_R S20 3003 b23) = some b27 ∧ zs_K S20 b27 = some (.inl 16) ∧ zs_C X d 16002 [.ref b27, va_rf (zs_R S20 11010 b1)] S20 (zs_kI (fun v31 S30 => (w_X5_becomes_246 X d  S30 Q)) Q))) Q))) Q))) Q))
theorem u_X5_becomes_199 {σ : Nat → Nat} {n0 : Nat} {bf : ab_B} {d : Nat} {p0 : Nat} {p1 : Option Nat} {p2 : Int32} {S : zs_T} {Q : zs_Q} (hB : zt_B bf) (h : w_X5_becomes_199 (zx σ n0 bf) d p0 p1 p2 S Q) : zs_U (zx σ n0 bf) d 4123 199 [(0, .ref p0), (1, va_rf p1), (2, .int p2)] [] S Q := by
  unfold w_X5_becomes_199 at h
  refine zu_aload_n d_4123_199 rfl (zs_ra _) ?_
  refine zu_bipush d_4123_200 zj_13 ?_
  refine zu_iload_n d_4123_202 rfl ?_
  refine zu_aload_n d_4123_203 rfl (zs_rr _) ?_
  obtain ⟨b1, e2, h⟩ := h
  refine zs_stk0 (zs_rfe e2) ?_
  obtain ⟨k3, h⟩ := h
  refine zg_4_297 rfl d_4123_204 k3 ?_
  obtain ⟨b4, e5, h⟩ := h
  refine zs_stk0 (zs_rfe e5) ?_
  obtain ⟨k6, h⟩ := h
  refine zg_4_137 rfl d_4123_207 k6 ?_
  obtain ⟨k7, h⟩ := h
  refine zc_4_712 (x0 := (13 : Int32)) (x1 := p2) (x2 := (zs_I S 6001 b4)) hB rfl k7 d_4123_210 (Nat.le_of_ble_eq_true rfl) h (fun S8 h => ?_)
  refine zu_aload_n d_4123_213 rfl (zs_ra _) ?_
  obtain ⟨k10, h⟩ := h
  refine zg_4_128 rfl d_4123_214 k10 ?_
  refine zu_aload_n d_4123_217 rfl (zs_ra _) ?_
  refine zg_4_128 rfl d_4123_218 k10 ?_
  obtain ⟨b11, e12, h⟩ := h
  refine zs_stk0 (zs_rfe e12) ?_
  obtain ⟨k13, h⟩ := h
  refine zg_4_741 rfl d_4123_221 k13 ?_
  obtain ⟨b14, e15, h⟩ := h
  refine zs_stk0 (zs_rfe e15) ?_
  obtain ⟨k16, h⟩ := h
  refine zc_4_50  hB rfl k16 d_4123_224 (by simp only [List.map_cons, List.map_nil, List.sum_cons, List.sum_nil, zs_cat, zs_cI, zs_cJ, zs_cA]; exact Nat.le_of_ble_eq_true rfl) h (fun v18 S17 h => ?_)
  refine zs_stk1 (zs_rfe e12) ?_
  obtain ⟨k19, h⟩ := h
  refine zc_4_709 (x0 := v18) hB rfl k19 d_4123_227 (Nat.le_of_ble_eq_true rfl) h (fun v21 S20 h => ?_)
  refine zu_pop d_4123_230 rfl ?_
  refine zu_aload_n d_4123_231 rfl (zs_ra _) ?_
  obtain ⟨k22, h⟩ := h
  refine zg_4_128 rfl d_4123_232 k22 ?_
  obtain ⟨b23, e24, h⟩ := h
  refine zs_stk0 (zs_rfe e24) ?_
  obtain ⟨k25, h⟩ := h
  refine zg_4_741 rfl d_4123_235 k25 ?_
  refine zu_aload_n d_4123_238 rfl (zs_rr _) ?_
  refine zs_stk0 (zs_rfe e2) ?_
  obtain ⟨k26, h⟩ := h
  refine zg_4_670 rfl d_4123_239 k26 ?_
  obtain ⟨b27, e28, h⟩ := h
  refine zs_stk1 (zs_rfe e28) ?_
  obtain ⟨k29, h⟩ := h
  refine zc_4_140 (x0 := (zs_R S20 11010 b1)) hB rfl k29 d_4123_242 (Nat.le_of_ble_eq_true rfl) h (fun v31 S30 h => ?_)
  refine zu_pop d_4123_245 rfl ?_
  exact (u_X5_becomes_246 hB h).weak trivial
def w_X5_becomes_178 (X : zs_X) (d : Nat)  (S : zs_T) (Q : zs_Q) : Prop :=
  (Q (.returned none) S)
theorem u_X5_becomes_178 {σ : Nat → Nat} {n0 : Nat} {bf : ab_B} {d : Nat}  {S : zs_T} {Q : zs_Q} (hB : zt_B bf) (h : w_X5_becomes_178 (zx σ n0 bf) d  S Q) : zs_U (zx σ n0 bf) d 4123 178 [] [] S Q := by
  unfold w_X5_becomes_178 at h
  refine zu_goto (t := 263) d_4123_178 rfl ?_
  exact zu_vret d_4123_263 zr_4123 h
def w_X5_becomes_142 (X : zs_X) (d : Nat) (p0 : Nat) (p1 : Option Nat) (p2 : Int32) (p3 : Option Nat) (S : zs_T) (Q : zs_Q) : Prop :=
  (zs_K S p0 = some (.inl 4) ∧ zs_C X d 4096 [.ref p0, va_rf p3] S (zs_kV (fun S2 => (∃ b4, p1 = some b4 ∧ zs_K S2 b4 = some (.inl 11) ∧ ∃ b7, (zs_R S2 11002 b4) = some b7 ∧ zs_K S2 b7 = some (.inl 6) ∧ ((¬ (zs_I S2 6000 b7) = (6 : Int32) → (((¬ (zs_I S2 11000 b4) = (4 : Int32) → w_X5_becomes_249 X d p0 p1 p2 S2 Q) ∧ (¬ (¬ (zs_I S2 11000 b4) = (4 : Int32)) → (∃ b12, (zs_R S2 11010 b4) = some b12 ∧ zs_K S2 b12 = some (.inl 12) ∧ (((zs_R S2 12003 b12) = none → w_X5_becomes_249 X d p0 p1 p2 S2 Q) ∧ (∀ b15, (zs_R S2 12003 b12) = some b15 → w_X5_becomes_199 X d p0 p1 p2 S2 Q))))))) ∧ (¬ (¬ (zs_I S2 6000 b7) = (6 : Int32)) → (zs_K S2 p0 = some (.inl 4) ∧ zs_C X d 4101 [.ref p0, va_rf p3] S2 (zs_kV (fun S18 => (zs_K S18 b4 = some (.inl 11) ∧ ∃ b21, (zs_R S18 11002 b4) = some b21 ∧ zs_K S18 b21 = some (.inl 6) ∧ zs_K S18 p0 = some (.inl 4) ∧ zs_C X d 4097 [.ref p0, .int (12 : Int32), .int p2, .int (zs_I S18 6001 b21)] S18 (zs_kV (fun S25 => w_X5_becomes_178 X d  S25 Q) Q))) Q)))))) Q))
theorem u_X5_becomes_142 {σ : Nat → Nat} {n0 : Nat} {bf : ab_B} {d : Nat} {p0 : Nat} {p1 : Option Nat} {p2 : Int32} {p3 : Option Nat} {S : zs_T} {Q : zs_Q} (hB : zt_B bf) (h : w_X5_becomes_142 (zx σ n0 bf) d p0 p1 p2 p3 S Q) : zs_U (zx σ n0 bf) d 4123 142 [(0, .ref p0), (1, va_rf p1), (2, .int p2), (3, va_rf p3)] [] S Q := by
  unfold w_X5_becomes_142 at h
  refine zu_aload_n d_4123_142 rfl (zs_ra _) ?_
  refine zu_aload_n d_4123_143 rfl (zs_rr _) ?_
  obtain ⟨k1, h⟩ := h
  refine zc_4_721 (x0 := p3) hB rfl k1 d_4123_144 (Nat.le_of_ble_eq_true rfl) h (fun S2 h => ?_)
  refine zu_aload_n d_4123_147 rfl (zs_rr _) ?_
  obtain ⟨b4, e5, h⟩ := h
  refine zs_stk0 (zs_rfe e5) ?_
  obtain ⟨k6, h⟩ := h
  refine zg_4_297 rfl d_4123_148 k6 ?_
  obtain ⟨b7, e8, h⟩ := h
  refine zs_stk0 (zs_rfe e8) ?_
  obtain ⟨k9, h⟩ := h
  refine zg_4_369 rfl d_4123_151 k9 ?_
  refine zu_bipush d_4123_154 zj_6 ?_
  refine zu_cmpne (t := 181) d_4123_156 rfl (fun c10 => ?_) (fun c10 => ?_)
  · have h := h.1 c10
    refine zu_aload_n d_4123_181 rfl (zs_rr _) ?_
    refine zs_stk0 (zs_rfe e5) ?_
    refine zg_4_512 rfl d_4123_182 k6 ?_
    refine zu_iconst d_4123_185 zi_4 ?_
    refine zu_cmpne (t := 249) d_4123_186 rfl (fun c11 => ?_) (fun c11 => ?_)
    · have h := h.1 c11
      exact (u_X5_becomes_249 hB h).weak ⟨rfl, rfl, rfl, trivial⟩
    · have h := h.2 c11
      refine zu_aload_n d_4123_189 rfl (zs_rr _) ?_
      refine zs_stk0 (zs_rfe e5) ?_
      refine zg_4_670 rfl d_4123_190 k6 ?_
      obtain ⟨b12, e13, h⟩ := h
      refine zs_stk0 (zs_rfe e13) ?_
      obtain ⟨k14, h⟩ := h
      refine zg_4_504 rfl d_4123_193 k14 ?_
      refine zu_ifnull (u := (zs_R S2 12003 b12)) (t := 249) d_4123_196 rfl rfl (fun e16 => ?_) (fun b15 e16 => ?_)
      · have h := h.1 e16
        exact (u_X5_becomes_249 hB h).weak ⟨rfl, rfl, rfl, trivial⟩
      · have h := h.2 b15 e16
        exact (u_X5_becomes_199 hB h).weak ⟨rfl, rfl, rfl, trivial⟩
  · have h := h.2 c10
    refine zu_aload_n d_4123_159 rfl (zs_ra _) ?_
    refine zu_aload_n d_4123_160 rfl (zs_rr _) ?_
    obtain ⟨k17, h⟩ := h
    refine zc_4_724 (x0 := p3) hB rfl k17 d_4123_161 (Nat.le_of_ble_eq_true rfl) h (fun S18 h => ?_)
    refine zu_aload_n d_4123_164 rfl (zs_ra _) ?_
    refine zu_bipush d_4123_165 zj_12 ?_
    refine zu_iload_n d_4123_167 rfl ?_
    refine zu_aload_n d_4123_168 rfl (zs_rr _) ?_
    refine zs_stk0 (zs_rfe e5) ?_
    obtain ⟨k20, h⟩ := h
    refine zg_4_297 rfl d_4123_169 k20 ?_
    obtain ⟨b21, e22, h⟩ := h
    refine zs_stk0 (zs_rfe e22) ?_
    obtain ⟨k23, h⟩ := h
    refine zg_4_137 rfl d_4123_172 k23 ?_
    obtain ⟨k24, h⟩ := h
    refine zc_4_712 (x0 := (12 : Int32)) (x1 := p2) (x2 := (zs_I S18 6001 b21)) hB rfl k24 d_4123_175 (Nat.le_of_ble_eq_true rfl) h (fun S25 h => ?_)
    exact (u_X5_becomes_178 hB h).weak trivial
def w_X5_becomes_122 (X : zs_X) (d : Nat) (p0 : Nat) (p1 : Option Nat) (p2 : Int32) (p3 : Option Nat) (S : zs_T) (Q : zs_Q) : Prop :=
  (zs_K S p0 = some (.inl 4) ∧ zs_C X d 4098 [.ref p0, va_rf p3] S (zs_kV (fun S2 => (∃ b4, p1 = some b4 ∧ zs_K S2 b4 = some (.inl 11) ∧ ∃ b7, (zs_R S2 11002 b4) = some b7 ∧ zs_K S2 b7 = some (.inl 6) ∧ zs_K S2 p0 = some (.inl 4) ∧ zs_C X d 4097 [.ref p0, .int (14 : Int32), .int p2, .int (zs_I S2 6001 b7)] S2 (zs_kV (fun S11 => (Q (.returned none) S11)) Q))) Q))
theorem u_X5_becomes_122 {σ : Nat → Nat} {n0 : Nat} {bf : ab_B} {d : Nat} {p0 : Nat} {p1 : Option Nat} {p2 : Int32} {p3 : Option Nat} {S : zs_T} {Q : zs_Q} (hB : zt_B bf) (h : w_X5_becomes_122 (zx σ n0 bf) d p0 p1 p2 p3 S Q) : zs_U (zx σ n0 bf) d 4123 122 [(0, .ref p0), (1, va_rf p1), (2, .int p2), (3, va_rf p3)] [] S Q := by
  unfold w_X5_becomes_122 at h
  refine zu_aload_n d_4123_122 rfl (zs_ra _) ?_
  refine zu_aload_n d_4123_123 rfl (zs_rr _) ?_
  obtain ⟨k1, h⟩ := h
  refine zc_4_715 (x0 := p3) hB rfl k1 d_4123_124 (Nat.le_of_ble_eq_true rfl) h (fun S2 h => ?_)
  refine zu_aload_n d_4123_127 rfl (zs_ra _) ?_
  refine zu_bipush d_4123_128 zj_14 ?_
  refine zu_iload_n d_4123_130 rfl ?_
  refine zu_aload_n d_4123_131 rfl (zs_rr _) ?_
  obtain ⟨b4, e5, h⟩ := h
  refine zs_stk0 (zs_rfe e5) ?_
  obtain ⟨k6, h⟩ := h
  refine zg_4_297 rfl d_4123_132 k6 ?_
  obtain ⟨b7, e8, h⟩ := h
  refine zs_stk0 (zs_rfe e8) ?_
  obtain ⟨k9, h⟩ := h
  refine zg_4_137 rfl d_4123_135 k9 ?_
  obtain ⟨k10, h⟩ := h
  refine zc_4_712 (x0 := (14 : Int32)) (x1 := p2) (x2 := (zs_I S2 6001 b7)) hB rfl k10 d_4123_138 (Nat.le_of_ble_eq_true rfl) h (fun S11 h => ?_)
  exact zu_vret d_4123_141 zr_4123 h
def w_X5_becomes_80 (X : zs_X) (d : Nat) (p0 : Nat) (p1 : Option Nat) (p2 : Int32) (p3 : Option Nat) (S : zs_T) (Q : zs_Q) : Prop :=
  (∃ b1, p3 = some b1 ∧ zs_K S b1 = some (.inl 11) ∧ zs_C X d 11001 [.ref b1] S (zs_kI (fun v5 S4 => (((v5 = 0 → w_X5_becomes_142 X d p0 p1 p2 p3 S4 Q) ∧ (¬ (v5 = 0) → (∃ b7, p1 = some b7 ∧ zs_K S4 b7 = some (.inl 11) ∧ ∃ b10, (zs_R S4 11002 b7) = some b10 ∧ zs_K S4 b10 = some (.inl 6) ∧ (((zs_I S4 6000 b10) = (5 : Int32) → w_X5_becomes_142 X d p0 p1 p2 p3 S4 Q) ∧ (¬ ((zs_I S4 6000 b10) = (5 : Int32)) → ((((zs_I S4 6000 b10) = (9 : Int32) → w_X5_becomes_142 X d p0 p1 p2 p3 S4 Q) ∧ (¬ ((zs_I S4 6000 b10) = (9 : Int32)) → ((((zs_I S4 6000 b10) = (6 : Int32) → w_X5_becomes_142 X d p0 p1 p2 p3 S4 Q) ∧ (¬ ((zs_I S4 6000 b10) = (6 : Int32)) → w_X5_becomes_122 X d p0 p1 p2 p3 S4 Q))))))))))))) Q))
theorem u_X5_becomes_80 {σ : Nat → Nat} {n0 : Nat} {bf : ab_B} {d : Nat} {p0 : Nat} {p1 : Option Nat} {p2 : Int32} {p3 : Option Nat} {S : zs_T} {Q : zs_Q} (hB : zt_B bf) (h : w_X5_becomes_80 (zx σ n0 bf) d p0 p1 p2 p3 S Q) : zs_U (zx σ n0 bf) d 4123 80 [(0, .ref p0), (1, va_rf p1), (2, .int p2), (3, va_rf p3)] [] S Q := by
  unfold w_X5_becomes_80 at h
  refine zu_aload_n d_4123_80 rfl (zs_rr _) ?_
  obtain ⟨b1, e2, h⟩ := h
  refine zs_stk0 (zs_rfe e2) ?_
  obtain ⟨k3, h⟩ := h
  refine zc_4_625  hB rfl k3 d_4123_81 (Nat.le_of_ble_eq_true rfl) h (fun v5 S4 h => ?_)
  refine zu_ifeq (t := 142) d_4123_84 rfl (fun c6 => ?_) (fun c6 => ?_)
  · have h := h.1 c6
    exact (u_X5_becomes_142 hB h).weak ⟨rfl, rfl, rfl, rfl, trivial⟩
  · have h := h.2 c6
    refine zu_aload_n d_4123_87 rfl (zs_rr _) ?_
    obtain ⟨b7, e8, h⟩ := h
    refine zs_stk0 (zs_rfe e8) ?_
    obtain ⟨k9, h⟩ := h
    refine zg_4_297 rfl d_4123_88 k9 ?_
    obtain ⟨b10, e11, h⟩ := h
    refine zs_stk0 (zs_rfe e11) ?_
    obtain ⟨k12, h⟩ := h
    refine zg_4_369 rfl d_4123_91 k12 ?_
    refine zu_iconst d_4123_94 zi_5 ?_
    refine zu_cmpeq (t := 142) d_4123_95 rfl (fun c13 => ?_) (fun c13 => ?_)
    · have h := h.1 c13
      exact (u_X5_becomes_142 hB h).weak ⟨rfl, rfl, rfl, rfl, trivial⟩
    · have h := h.2 c13
      refine zu_aload_n d_4123_98 rfl (zs_rr _) ?_
      refine zs_stk0 (zs_rfe e8) ?_
      refine zg_4_297 rfl d_4123_99 k9 ?_
      refine zs_stk0 (zs_rfe e11) ?_
      refine zg_4_369 rfl d_4123_102 k12 ?_
      refine zu_bipush d_4123_105 zj_9 ?_
      refine zu_cmpeq (t := 142) d_4123_107 rfl (fun c14 => ?_) (fun c14 => ?_)
      · have h := h.1 c14
        exact (u_X5_becomes_142 hB h).weak ⟨rfl, rfl, rfl, rfl, trivial⟩
      · have h := h.2 c14
        refine zu_aload_n d_4123_110 rfl (zs_rr _) ?_
        refine zs_stk0 (zs_rfe e8) ?_
        refine zg_4_297 rfl d_4123_111 k9 ?_
        refine zs_stk0 (zs_rfe e11) ?_
        refine zg_4_369 rfl d_4123_114 k12 ?_
        refine zu_bipush d_4123_117 zj_6 ?_
        refine zu_cmpeq (t := 142) d_4123_119 rfl (fun c15 => ?_) (fun c15 => ?_)
        · have h := h.1 c15
          exact (u_X5_becomes_142 hB h).weak ⟨rfl, rfl, rfl, rfl, trivial⟩
        · have h := h.2 c15
          exact (u_X5_becomes_122 hB h).weak ⟨rfl, rfl, rfl, rfl, trivial⟩
def w_X5_becomes_35 (X : zs_X) (d : Nat) (p0 : Nat) (p1 : Option Nat) (p2 : Int32) (S : zs_T) (Q : zs_Q) : Prop :=
  (zs_K S p0 = some (.inl 4) ∧ zs_C X d 4008 [.ref p0, .int (259 : Int32)] S (zs_kV (fun S2 => (zs_K S2 p0 = some (.inl 4) ∧ zs_C X d 4098 [.ref p0, va_rf p1] S2 (zs_kV (fun S5 => (zs_K S5 p0 = some (.inl 4) ∧ zs_C X d 4014 [.ref p0] S5 (zs_kR (fun v9 S8 => (∃ b10, p1 = some b10 ∧ zs_K S8 b10 = some (.inl 11) ∧ zs_K S8 p0 = some (.inl 4) ∧ zs_C X d 4033 [.ref p0, va_rf (zs_R S8 11002 b10), va_rf v9] S8 (zs_kI (fun v15 S14 => (((¬ v15 = 0 → (zs_K S14 b10 = some (.inl 11) ∧ ∃ b18, (zs_R S14 11002 b10) = some b18 ∧ zs_K S14 b18 = some (.inl 6) ∧ zs_C X d 6002 [.ref b18] S14 (zs_kI (fun v22 S21 => (((¬ v22 = 0 → w_X5_becomes_142 X d p0 p1 p2 v9 S21 Q) ∧ (¬ (¬ v22 = 0) → w_X5_becomes_80 X d p0 p1 p2 v9 S21 Q)))) Q))) ∧ (¬ (¬ v15 = 0) → (zs_K S14 p0 = some (.inl 4) ∧ zs_C X d 4006 [.ref p0, .int (5 : Int32)] S14 (zs_kR (fun v26 S25 => (∃ b27, v26 = some b27 ∧ Q (.threw b27) S25)) Q)))))) Q))) Q))) Q))) Q))
theorem u_X5_becomes_35 {σ : Nat → Nat} {n0 : Nat} {bf : ab_B} {d : Nat} {p0 : Nat} {p1 : Option Nat} {p2 : Int32} {S : zs_T} {Q : zs_Q} (hB : zt_B bf) (h : w_X5_becomes_35 (zx σ n0 bf) d p0 p1 p2 S Q) : zs_U (zx σ n0 bf) d 4123 35 [(0, .ref p0), (1, va_rf p1), (2, .int p2)] [] S Q := by
  unfold w_X5_becomes_35 at h
  refine zu_aload_n d_4123_35 rfl (zs_ra _) ?_
  refine zu_sipush d_4123_36 zh_259 ?_
  obtain ⟨k1, h⟩ := h
  refine zc_4_224 (x0 := (259 : Int32)) hB rfl k1 d_4123_39 (Nat.le_of_ble_eq_true rfl) h (fun S2 h => ?_)
  refine zu_aload_n d_4123_42 rfl (zs_ra _) ?_
  refine zu_aload_n d_4123_43 rfl (zs_rr _) ?_
  obtain ⟨k4, h⟩ := h
  refine zc_4_715 (x0 := p1) hB rfl k4 d_4123_44 (Nat.le_of_ble_eq_true rfl) h (fun S5 h => ?_)
  refine zu_aload_n d_4123_47 rfl (zs_ra _) ?_
  obtain ⟨k7, h⟩ := h
  refine zc_4_569  hB rfl k7 d_4123_48 (Nat.le_of_ble_eq_true rfl) h (fun v9 S8 h => ?_)
  refine zu_astore_n d_4123_51 (zs_rr _) (zs_lt zq_4123 rfl) ?_
  refine zu_aload_n d_4123_52 rfl (zs_ra _) ?_
  refine zu_aload_n d_4123_53 rfl (zs_rr _) ?_
  obtain ⟨b10, e11, h⟩ := h
  refine zs_stk0 (zs_rfe e11) ?_
  obtain ⟨k12, h⟩ := h
  refine zg_4_297 rfl d_4123_54 k12 ?_
  refine zu_aload_n d_4123_57 rfl (zs_rr _) ?_
  obtain ⟨k13, h⟩ := h
  refine zc_4_696 (x0 := (zs_R S8 11002 b10)) (x1 := v9) hB rfl k13 d_4123_58 (Nat.le_of_ble_eq_true rfl) h (fun v15 S14 h => ?_)
  refine zu_ifne (t := 70) d_4123_61 rfl (fun c16 => ?_) (fun c16 => ?_)
  · have h := h.1 c16
    refine zu_aload_n d_4123_70 rfl (zs_rr _) ?_
    refine zs_stk0 (zs_rfe e11) ?_
    obtain ⟨k17, h⟩ := h
    refine zg_4_297 rfl d_4123_71 k17 ?_
    obtain ⟨b18, e19, h⟩ := h
    refine zs_stk0 (zs_rfe e19) ?_
    obtain ⟨k20, h⟩ := h
    refine zc_4_335  hB rfl k20 d_4123_74 (Nat.le_of_ble_eq_true rfl) h (fun v22 S21 h => ?_)
    refine zu_ifne (t := 142) d_4123_77 rfl (fun c23 => ?_) (fun c23 => ?_)
    · have h := h.1 c23
      exact (u_X5_becomes_142 hB h).weak ⟨rfl, rfl, rfl, rfl, trivial⟩
    · have h := h.2 c23
      exact (u_X5_becomes_80 hB h).weak ⟨rfl, rfl, rfl, rfl, trivial⟩
  · have h := h.2 c16
    refine zu_aload_n d_4123_64 rfl (zs_ra _) ?_
    refine zu_iconst d_4123_65 zi_5 ?_
    obtain ⟨k24, h⟩ := h
    refine zc_4_25 (x0 := (5 : Int32)) hB rfl k24 d_4123_66 (Nat.le_of_ble_eq_true rfl) h (fun v26 S25 h => ?_)
    obtain ⟨b27, e28, h⟩ := h
    refine zs_stk0 (zs_rfe e28) ?_
    exact zu_throw d_4123_69 h
def w_X5_becomes (X : zs_X) (d : Nat) (p0 : Nat) (p1 : Option Nat) (S : zs_T) (Q : zs_Q) : Prop :=
  (zs_K S p0 = some (.inl 4) ∧ ∃ b2, (zs_R S 4000 p0) = some b2 ∧ zs_K S b2 = some (.inl 5) ∧ zs_C X d 5017 [.ref b2, .int (259 : Int32)] S (zs_kI (fun v6 S5 => (((v6 = 0 → w_X5_becomes_35 X d p0 p1 (zs_I S 5005 b2) S5 Q) ∧ (¬ (v6 = 0) → (zs_C X d 4044 [va_rf p1] S5 (zs_kI (fun v9 S8 => (((v9 = 0 → w_X5_becomes_35 X d p0 p1 (zs_I S 5005 b2) S8 Q) ∧ (¬ (v9 = 0) → (zs_K S8 p0 = some (.inl 4) ∧ zs_C X d 4006 [.ref p0, .int (6 : Int32)] S8 (zs_kR (fun v13 S12 => (∃ b14, v13 = some b14 ∧ Q (.threw b14) S12)) Q)))))) Q)))))) Q))
theorem u_X5_becomes {σ : Nat → Nat} {n0 : Nat} {bf : ab_B} {d : Nat} {p0 : Nat} {p1 : Option Nat} {S : zs_T} {Q : zs_Q} (hB : zt_B bf) (hd : 1 ≤ d) (h : w_X5_becomes (zx σ n0 bf) (d - 1) p0 p1 S Q) : zs_C (zx σ n0 bf) d 4123 [.ref p0, va_rf p1] S Q := by
  have hL : lv_args 0 [.ref p0, va_rf p1] = [(0, .ref p0), (1, va_rf p1)] := by simp [lv_args, zs_cat, zs_cI, zs_cJ, zs_cA]
  refine zs_C.of1 (hB.2 4123 (by decide) (by decide)) hd (by rw [hL]; exact zs_sub_self _ (by exact ⟨rfl, rfl, trivial⟩)) ?_
  rw [hL]
  clear hL
  unfold w_X5_becomes at h
  refine zu_aload_n d_4123_0 rfl (zs_ra _) ?_
  obtain ⟨k1, h⟩ := h
  refine zg_4_5 rfl d_4123_1 k1 ?_
  obtain ⟨b2, e3, h⟩ := h
  refine zs_stk0 (zs_rfe e3) ?_
  obtain ⟨k4, h⟩ := h
  refine zg_4_11 rfl d_4123_4 k4 ?_
  refine zu_istore_n d_4123_7 (zs_lt zq_4123 rfl) ?_
  refine zs_U.weak (L1 := [(2, .int (zs_I S 5005 b2)), (0, .ref p0), (1, va_rf p1)]) ?_ ⟨rfl, zs_gp1 rfl (Or.inl rfl) rfl, zs_gp1 rfl (Or.inl (zs_cat _)) rfl, trivial⟩
  refine zu_aload_n d_4123_8 rfl (zs_ra _) ?_
  refine zg_4_5 rfl d_4123_9 k1 ?_
  refine zu_sipush d_4123_12 zh_259 ?_
  refine zs_stk1 (zs_rfe e3) ?_
  refine zc_4_21 (x0 := (259 : Int32)) hB rfl k4 d_4123_15 (Nat.le_of_ble_eq_true rfl) h (fun v6 S5 h => ?_)
  refine zu_ifeq (t := 35) d_4123_18 rfl (fun c7 => ?_) (fun c7 => ?_)
  · have h := h.1 c7
    exact (u_X5_becomes_35 hB h).weak ⟨rfl, rfl, rfl, trivial⟩
  · have h := h.2 c7
    refine zu_aload_n d_4123_21 rfl (zs_rr _) ?_
    refine zc_4_703 (x0 := p1) hB rfl d_4123_22 (Nat.le_of_ble_eq_true rfl) h (fun v9 S8 h => ?_)
    refine zu_ifeq (t := 35) d_4123_25 rfl (fun c10 => ?_) (fun c10 => ?_)
    · have h := h.1 c10
      exact (u_X5_becomes_35 hB h).weak ⟨rfl, rfl, rfl, trivial⟩
    · have h := h.2 c10
      refine zu_aload_n d_4123_28 rfl (zs_ra _) ?_
      refine zu_bipush d_4123_29 zj_6 ?_
      obtain ⟨k11, h⟩ := h
      refine zc_4_25 (x0 := (6 : Int32)) hB rfl k11 d_4123_31 (Nat.le_of_ble_eq_true rfl) h (fun v13 S12 h => ?_)
      obtain ⟨b14, e15, h⟩ := h
      refine zs_stk0 (zs_rfe e15) ?_
      exact zu_throw d_4123_34 h
