/-! printed by gen_all.py: what the methods compute -/
set_option maxRecDepth 100000
/-! SchemaPascal$Type.<init>(I)V -/
theorem zm_6000 {σ : Nat → Nat} {n0 : Nat} {bf : ab_B} : ab_code (zx σ n0 bf).1 6000 = prog_13_method_1_code := rfl
theorem zq_6000 {σ : Nat → Nat} {n0 : Nat} {bf : ab_B} : ab_maxL (zx σ n0 bf).1 6000 = 2 := rfl
theorem zr_6000 {σ : Nat → Nat} {n0 : Nat} {bf : ab_B} : ab_ret (zx σ n0 bf).1 6000 = (Option.none : Option Jvm.ClassFile.FieldType) := rfl
theorem d_6000_0 {σ : Nat → Nat} {n0 : Nat} {bf : ab_B} : decode (ab_code (zx σ n0 bf).1 6000) 0 = .ok (.aload_n 0, 1) := zd zm_6000 (by decide +kernel)
theorem d_6000_1 {σ : Nat → Nat} {n0 : Nat} {bf : ab_B} : decode (ab_code (zx σ n0 bf).1 6000) 1 = .ok (.invokespecial 3, 3) := zd zm_6000 (by decide +kernel)
theorem d_6000_4 {σ : Nat → Nat} {n0 : Nat} {bf : ab_B} : decode (ab_code (zx σ n0 bf).1 6000) 4 = .ok (.aload_n 0, 1) := zd zm_6000 (by decide +kernel)
theorem d_6000_5 {σ : Nat → Nat} {n0 : Nat} {bf : ab_B} : decode (ab_code (zx σ n0 bf).1 6000) 5 = .ok (.new 9, 3) := zd zm_6000 (by decide +kernel)
theorem d_6000_8 {σ : Nat → Nat} {n0 : Nat} {bf : ab_B} : decode (ab_code (zx σ n0 bf).1 6000) 8 = .ok (.dup, 1) := zd zm_6000 (by decide +kernel)
theorem d_6000_9 {σ : Nat → Nat} {n0 : Nat} {bf : ab_B} : decode (ab_code (zx σ n0 bf).1 6000) 9 = .ok (.invokespecial 11, 3) := zd zm_6000 (by decide +kernel)
theorem d_6000_12 {σ : Nat → Nat} {n0 : Nat} {bf : ab_B} : decode (ab_code (zx σ n0 bf).1 6000) 12 = .ok (.putfield 12, 3) := zd zm_6000 (by decide +kernel)
theorem d_6000_15 {σ : Nat → Nat} {n0 : Nat} {bf : ab_B} : decode (ab_code (zx σ n0 bf).1 6000) 15 = .ok (.aload_n 0, 1) := zd zm_6000 (by decide +kernel)
theorem d_6000_16 {σ : Nat → Nat} {n0 : Nat} {bf : ab_B} : decode (ab_code (zx σ n0 bf).1 6000) 16 = .ok (.iconst 1, 1) := zd zm_6000 (by decide +kernel)
theorem d_6000_17 {σ : Nat → Nat} {n0 : Nat} {bf : ab_B} : decode (ab_code (zx σ n0 bf).1 6000) 17 = .ok (.putfield 18, 3) := zd zm_6000 (by decide +kernel)
theorem d_6000_20 {σ : Nat → Nat} {n0 : Nat} {bf : ab_B} : decode (ab_code (zx σ n0 bf).1 6000) 20 = .ok (.aload_n 0, 1) := zd zm_6000 (by decide +kernel)
theorem d_6000_21 {σ : Nat → Nat} {n0 : Nat} {bf : ab_B} : decode (ab_code (zx σ n0 bf).1 6000) 21 = .ok (.iconst (-1), 1) := zd zm_6000 (by decide +kernel)
theorem d_6000_22 {σ : Nat → Nat} {n0 : Nat} {bf : ab_B} : decode (ab_code (zx σ n0 bf).1 6000) 22 = .ok (.putfield 22, 3) := zd zm_6000 (by decide +kernel)
theorem d_6000_25 {σ : Nat → Nat} {n0 : Nat} {bf : ab_B} : decode (ab_code (zx σ n0 bf).1 6000) 25 = .ok (.aload_n 0, 1) := zd zm_6000 (by decide +kernel)
theorem d_6000_26 {σ : Nat → Nat} {n0 : Nat} {bf : ab_B} : decode (ab_code (zx σ n0 bf).1 6000) 26 = .ok (.ldc2_w 25, 3) := zd zm_6000 (by decide +kernel)
theorem d_6000_29 {σ : Nat → Nat} {n0 : Nat} {bf : ab_B} : decode (ab_code (zx σ n0 bf).1 6000) 29 = .ok (.putfield 27, 3) := zd zm_6000 (by decide +kernel)
theorem d_6000_32 {σ : Nat → Nat} {n0 : Nat} {bf : ab_B} : decode (ab_code (zx σ n0 bf).1 6000) 32 = .ok (.aload_n 0, 1) := zd zm_6000 (by decide +kernel)
theorem d_6000_33 {σ : Nat → Nat} {n0 : Nat} {bf : ab_B} : decode (ab_code (zx σ n0 bf).1 6000) 33 = .ok (.iload_n 1, 1) := zd zm_6000 (by decide +kernel)
theorem d_6000_34 {σ : Nat → Nat} {n0 : Nat} {bf : ab_B} : decode (ab_code (zx σ n0 bf).1 6000) 34 = .ok (.putfield 31, 3) := zd zm_6000 (by decide +kernel)
theorem d_6000_37 {σ : Nat → Nat} {n0 : Nat} {bf : ab_B} : decode (ab_code (zx σ n0 bf).1 6000) 37 = .ok (.return_, 1) := zd zm_6000 (by decide +kernel)
def w_X7_init_32 (X : zs_X) (d : Nat) (p0 : Nat) (p1 : Int32) (S : zs_T) (Q : zs_Q) : Prop :=
  (zs_K S p0 = some (.inl 6) ∧ ab_n0 X.1 ≤ p0 ∧ ∀ S3, S3 = zs_sI S 6000 p0 p1 → Q (.returned none) S3)
theorem u_X7_init_32 {σ : Nat → Nat} {n0 : Nat} {bf : ab_B} {d : Nat} {p0 : Nat} {p1 : Int32} {S : zs_T} {Q : zs_Q} (hB : zt_B bf) (h : w_X7_init_32 (zx σ n0 bf) d p0 p1 S Q) : zs_U (zx σ n0 bf) d 6000 32 [(0, .ref p0), (1, .int p1)] [] S Q := by
  unfold w_X7_init_32 at h
  refine zu_aload_n d_6000_32 rfl (zs_ra _) ?_
  refine zu_iload_n d_6000_33 rfl ?_
  obtain ⟨k1, h⟩ := h
  obtain ⟨k2, h⟩ := h
  refine zp_6_31 (v := p1) rfl d_6000_34 k1 k2 ?_
  generalize e4 : zs_sI S 6000 p0 p1 = S3
  have h := h S3 e4.symm
  have K5 : ∀ b, zs_K S3 b = zs_K S b := zs_Kt e4 (zs_KsI _ _ _ _) (fun _ => rfl)
  exact zu_vret d_6000_37 zr_6000 h
def w_X7_init (X : zs_X) (d : Nat) (p0 : Nat) (p1 : Int32) (S : zs_T) (Q : zs_Q) : Prop :=
  (zs_C X d 39000 [.ref p0] S (zs_kV (fun S1 => (∀ a3 S4, a3 = zs_N S1 → S4 = zs_nw S1 (.inl 16) 3 → zs_C X d 16000 [.ref a3] S4 (zs_kV (fun S8 => (zs_K S8 p0 = some (.inl 6) ∧ ab_n0 X.1 ≤ p0 ∧ ∀ S12, S12 = zs_sR S8 6007 p0 (some a3) → ∀ S15, S15 = zs_sI S12 6009 p0 (1 : Int32) → ∀ S18, S18 = zs_sI S15 6011 p0 (-1 : Int32) → ∀ S21, S21 = zs_sJ S18 6012 p0 (-1 : Int64) → w_X7_init_32 X d p0 p1 S21 Q)) Q))) Q))
theorem u_X7_init {σ : Nat → Nat} {n0 : Nat} {bf : ab_B} {d : Nat} {p0 : Nat} {p1 : Int32} {S : zs_T} {Q : zs_Q} (hB : zt_B bf) (hd : 1 ≤ d) (h : w_X7_init (zx σ n0 bf) (d - 1) p0 p1 S Q) : zs_C (zx σ n0 bf) d 6000 [.ref p0, .int p1] S Q := by
  have hL : lv_args 0 [.ref p0, .int p1] = [(0, .ref p0), (1, .int p1)] := rfl
  refine zs_C.of1 (hB.2 6000 (by decide) (by decide)) hd (by rw [hL]; exact zs_sub_self _ (by exact ⟨rfl, rfl, trivial⟩)) ?_
  rw [hL]
  clear hL
  unfold w_X7_init at h
  refine zu_aload_n d_6000_0 rfl (zs_ra _) ?_
  refine zc_6_3  hB rfl d_6000_1 (Nat.le_of_ble_eq_true rfl) h (fun S1 h => ?_)
  refine zu_aload_n d_6000_4 rfl (zs_ra _) ?_
  refine zn_6_9 rfl d_6000_5 ?_
  generalize e6 : zs_nw S1 (.inl 16) 3 = S4
  generalize e5 : zs_N S1 = a3
  have h := h a3 S4 e5.symm e6.symm
  have k7 := zs_kn e5 e6
  refine zu_dup d_6000_8 rfl ?_
  refine zc_6_11  hB rfl d_6000_9 (Nat.le_of_ble_eq_true rfl) h (fun S8 h => ?_)
  obtain ⟨k10, h⟩ := h
  obtain ⟨k11, h⟩ := h
  refine zp_6_12 (v := (some a3)) rfl d_6000_12 k10 k11 ?_
  generalize e13 : zs_sR S8 6007 p0 (some a3) = S12
  have h := h S12 e13.symm
  have K14 : ∀ b, zs_K S12 b = zs_K S8 b := zs_Kt e13 (zs_KsR _ _ _ _) (fun _ => rfl)
  refine zu_aload_n d_6000_15 rfl (zs_ra _) ?_
  refine zu_iconst d_6000_16 zi_1 ?_
  refine zp_6_18 (v := (1 : Int32)) rfl d_6000_17 ((K14 _).trans k10) k11 ?_
  generalize e16 : zs_sI S12 6009 p0 (1 : Int32) = S15
  have h := h S15 e16.symm
  have K17 : ∀ b, zs_K S15 b = zs_K S8 b := zs_Kt e16 (zs_KsI _ _ _ _) K14
  refine zu_aload_n d_6000_20 rfl (zs_ra _) ?_
  refine zu_iconst d_6000_21 zi_m1 ?_
  refine zp_6_22 (v := (-1 : Int32)) rfl d_6000_22 ((K17 _).trans k10) k11 ?_
  generalize e19 : zs_sI S15 6011 p0 (-1 : Int32) = S18
  have h := h S18 e19.symm
  have K20 : ∀ b, zs_K S18 b = zs_K S8 b := zs_Kt e19 (zs_KsI _ _ _ _) K17
  refine zu_aload_n d_6000_25 rfl (zs_ra _) ?_
  refine zl2_6_25 rfl d_6000_26 ?_
  refine zp_6_27 (v := (-1 : Int64)) rfl d_6000_29 ((K20 _).trans k10) k11 ?_
  generalize e22 : zs_sJ S18 6012 p0 (-1 : Int64) = S21
  have h := h S21 e22.symm
  have K23 : ∀ b, zs_K S21 b = zs_K S8 b := zs_Kt e22 (zs_KsJ _ _ _ _) K20
  exact (u_X7_init_32 hB h).weak ⟨rfl, rfl, trivial⟩
/-! SchemaPascal$Type.host()LSchemaPascal$Type; -/
theorem zm_6001 {σ : Nat → Nat} {n0 : Nat} {bf : ab_B} : ab_code (zx σ n0 bf).1 6001 = prog_13_method_3_code := rfl
theorem zq_6001 {σ : Nat → Nat} {n0 : Nat} {bf : ab_B} : ab_maxL (zx σ n0 bf).1 6001 = 1 := rfl
theorem zr_6001 {σ : Nat → Nat} {n0 : Nat} {bf : ab_B} : ab_ret (zx σ n0 bf).1 6001 = (Option.some (Jvm.ClassFile.FieldType.object "SchemaPascal$Type")) := rfl
theorem d_6001_0 {σ : Nat → Nat} {n0 : Nat} {bf : ab_B} : decode (ab_code (zx σ n0 bf).1 6001) 0 = .ok (.aload_n 0, 1) := zd zm_6001 (by decide +kernel)
theorem d_6001_1 {σ : Nat → Nat} {n0 : Nat} {bf : ab_B} : decode (ab_code (zx σ n0 bf).1 6001) 1 = .ok (.getfield 31, 3) := zd zm_6001 (by decide +kernel)
theorem d_6001_4 {σ : Nat → Nat} {n0 : Nat} {bf : ab_B} : decode (ab_code (zx σ n0 bf).1 6001) 4 = .ok (.iconst 4, 1) := zd zm_6001 (by decide +kernel)
theorem d_6001_5 {σ : Nat → Nat} {n0 : Nat} {bf : ab_B} : decode (ab_code (zx σ n0 bf).1 6001) 5 = .ok (.if_icmp .ne 10, 3) := zd zm_6001 (by decide +kernel)
theorem d_6001_8 {σ : Nat → Nat} {n0 : Nat} {bf : ab_B} : decode (ab_code (zx σ n0 bf).1 6001) 8 = .ok (.aload_n 0, 1) := zd zm_6001 (by decide +kernel)
theorem d_6001_9 {σ : Nat → Nat} {n0 : Nat} {bf : ab_B} : decode (ab_code (zx σ n0 bf).1 6001) 9 = .ok (.getfield 34, 3) := zd zm_6001 (by decide +kernel)
theorem d_6001_12 {σ : Nat → Nat} {n0 : Nat} {bf : ab_B} : decode (ab_code (zx σ n0 bf).1 6001) 12 = .ok (.goto 4, 3) := zd zm_6001 (by decide +kernel)
theorem d_6001_15 {σ : Nat → Nat} {n0 : Nat} {bf : ab_B} : decode (ab_code (zx σ n0 bf).1 6001) 15 = .ok (.aload_n 0, 1) := zd zm_6001 (by decide +kernel)
theorem d_6001_16 {σ : Nat → Nat} {n0 : Nat} {bf : ab_B} : decode (ab_code (zx σ n0 bf).1 6001) 16 = .ok (.areturn, 1) := zd zm_6001 (by decide +kernel)
def w_X7_host (X : zs_X) (d : Nat) (p0 : Nat) (S : zs_T) (Q : zs_Q) : Prop :=
  (zs_K S p0 = some (.inl 6) ∧ ((¬ (zs_I S 6000 p0) = (4 : Int32) → (Q (.returned (some (.ref p0))) S)) ∧ (¬ (¬ (zs_I S 6000 p0) = (4 : Int32)) → (Q (.returned (some (va_rf (zs_R S 6002 p0)))) S))))
theorem u_X7_host {σ : Nat → Nat} {n0 : Nat} {bf : ab_B} {d : Nat} {p0 : Nat} {S : zs_T} {Q : zs_Q} (hB : zt_B bf) (hd : 1 ≤ d) (h : w_X7_host (zx σ n0 bf) (d - 1) p0 S Q) : zs_C (zx σ n0 bf) d 6001 [.ref p0] S Q := by
  have hL : lv_args 0 [.ref p0] = [(0, .ref p0)] := rfl
  refine zs_C.of1 (hB.2 6001 (by decide) (by decide)) hd (by rw [hL]; exact zs_sub_self _ (by exact ⟨rfl, trivial⟩)) ?_
  rw [hL]
  clear hL
  unfold w_X7_host at h
  refine zu_aload_n d_6001_0 rfl (zs_ra _) ?_
  obtain ⟨k1, h⟩ := h
  refine zg_6_31 rfl d_6001_1 k1 ?_
  refine zu_iconst d_6001_4 zi_4 ?_
  refine zu_cmpne (t := 15) d_6001_5 rfl (fun c2 => ?_) (fun c2 => ?_)
  · have h := h.1 c2
    refine zu_aload_n d_6001_15 rfl (zs_ra _) ?_
    exact zu_aret d_6001_16 zr_6001 (zs_ra _) h
  · have h := h.2 c2
    refine zu_aload_n d_6001_8 rfl (zs_ra _) ?_
    refine zg_6_34 rfl d_6001_9 k1 ?_
    refine zu_goto (t := 16) d_6001_12 rfl ?_
    exact zu_aret d_6001_16 zr_6001 (zs_rr _) h
/-! SchemaPascal$Type.isOrdinal()Z -/
theorem zm_6002 {σ : Nat → Nat} {n0 : Nat} {bf : ab_B} : ab_code (zx σ n0 bf).1 6002 = prog_13_method_2_code := rfl
theorem zq_6002 {σ : Nat → Nat} {n0 : Nat} {bf : ab_B} : ab_maxL (zx σ n0 bf).1 6002 = 1 := rfl
theorem zr_6002 {σ : Nat → Nat} {n0 : Nat} {bf : ab_B} : ab_ret (zx σ n0 bf).1 6002 = (Option.some Jvm.ClassFile.FieldType.boolean) := rfl
theorem d_6002_0 {σ : Nat → Nat} {n0 : Nat} {bf : ab_B} : decode (ab_code (zx σ n0 bf).1 6002) 0 = .ok (.aload_n 0, 1) := zd zm_6002 (by decide +kernel)
theorem d_6002_1 {σ : Nat → Nat} {n0 : Nat} {bf : ab_B} : decode (ab_code (zx σ n0 bf).1 6002) 1 = .ok (.getfield 31, 3) := zd zm_6002 (by decide +kernel)
theorem d_6002_4 {σ : Nat → Nat} {n0 : Nat} {bf : ab_B} : decode (ab_code (zx σ n0 bf).1 6002) 4 = .ok (.iconst 4, 1) := zd zm_6002 (by decide +kernel)
theorem d_6002_5 {σ : Nat → Nat} {n0 : Nat} {bf : ab_B} : decode (ab_code (zx σ n0 bf).1 6002) 5 = .ok (.if_icmp .gt 7, 3) := zd zm_6002 (by decide +kernel)
theorem d_6002_8 {σ : Nat → Nat} {n0 : Nat} {bf : ab_B} : decode (ab_code (zx σ n0 bf).1 6002) 8 = .ok (.iconst 1, 1) := zd zm_6002 (by decide +kernel)
theorem d_6002_9 {σ : Nat → Nat} {n0 : Nat} {bf : ab_B} : decode (ab_code (zx σ n0 bf).1 6002) 9 = .ok (.goto 4, 3) := zd zm_6002 (by decide +kernel)
theorem d_6002_12 {σ : Nat → Nat} {n0 : Nat} {bf : ab_B} : decode (ab_code (zx σ n0 bf).1 6002) 12 = .ok (.iconst 0, 1) := zd zm_6002 (by decide +kernel)
theorem d_6002_13 {σ : Nat → Nat} {n0 : Nat} {bf : ab_B} : decode (ab_code (zx σ n0 bf).1 6002) 13 = .ok (.ireturn, 1) := zd zm_6002 (by decide +kernel)
def w_X7_isOrdinal (X : zs_X) (d : Nat) (p0 : Nat) (S : zs_T) (Q : zs_Q) : Prop :=
  (zs_K S p0 = some (.inl 6) ∧ (((4 : Int32) < (zs_I S 6000 p0) → (Q (.returned (some (.int (0 : Int32)))) S)) ∧ (¬ ((4 : Int32) < (zs_I S 6000 p0)) → (Q (.returned (some (.int (1 : Int32)))) S))))
theorem u_X7_isOrdinal {σ : Nat → Nat} {n0 : Nat} {bf : ab_B} {d : Nat} {p0 : Nat} {S : zs_T} {Q : zs_Q} (hB : zt_B bf) (hd : 1 ≤ d) (h : w_X7_isOrdinal (zx σ n0 bf) (d - 1) p0 S Q) : zs_C (zx σ n0 bf) d 6002 [.ref p0] S Q := by
  have hL : lv_args 0 [.ref p0] = [(0, .ref p0)] := rfl
  refine zs_C.of1 (hB.2 6002 (by decide) (by decide)) hd (by rw [hL]; exact zs_sub_self _ (by exact ⟨rfl, trivial⟩)) ?_
  rw [hL]
  clear hL
  unfold w_X7_isOrdinal at h
  refine zu_aload_n d_6002_0 rfl (zs_ra _) ?_
  obtain ⟨k1, h⟩ := h
  refine zg_6_31 rfl d_6002_1 k1 ?_
  refine zu_iconst d_6002_4 zi_4 ?_
  refine zu_cmpgt (t := 12) d_6002_5 rfl (fun c2 => ?_) (fun c2 => ?_)
  · have h := h.1 c2
    refine zu_iconst d_6002_12 zi_0 ?_
    exact zu_iret d_6002_13 zr_6002 (zs_b_n (Or.inl rfl)) h
  · have h := h.2 c2
    refine zu_iconst d_6002_8 zi_1 ?_
    refine zu_goto (t := 13) d_6002_9 rfl ?_
    exact zu_iret d_6002_13 zr_6002 (zs_b_n (Or.inr rfl)) h
/-! SchemaPascal$Type.body()LSchemaPascal$Type; -/
theorem zm_6003 {σ : Nat → Nat} {n0 : Nat} {bf : ab_B} : ab_code (zx σ n0 bf).1 6003 = prog_13_method_6_code := rfl
theorem zq_6003 {σ : Nat → Nat} {n0 : Nat} {bf : ab_B} : ab_maxL (zx σ n0 bf).1 6003 = 1 := rfl
theorem zr_6003 {σ : Nat → Nat} {n0 : Nat} {bf : ab_B} : ab_ret (zx σ n0 bf).1 6003 = (Option.some (Jvm.ClassFile.FieldType.object "SchemaPascal$Type")) := rfl
theorem d_6003_0 {σ : Nat → Nat} {n0 : Nat} {bf : ab_B} : decode (ab_code (zx σ n0 bf).1 6003) 0 = .ok (.aload_n 0, 1) := zd zm_6003 (by decide +kernel)
theorem d_6003_1 {σ : Nat → Nat} {n0 : Nat} {bf : ab_B} : decode (ab_code (zx σ n0 bf).1 6003) 1 = .ok (.invokevirtual 38, 3) := zd zm_6003 (by decide +kernel)
theorem d_6003_4 {σ : Nat → Nat} {n0 : Nat} {bf : ab_B} : decode (ab_code (zx σ n0 bf).1 6003) 4 = .ok (.ifCond .eq 13, 3) := zd zm_6003 (by decide +kernel)
theorem d_6003_7 {σ : Nat → Nat} {n0 : Nat} {bf : ab_B} : decode (ab_code (zx σ n0 bf).1 6003) 7 = .ok (.aload_n 0, 1) := zd zm_6003 (by decide +kernel)
theorem d_6003_8 {σ : Nat → Nat} {n0 : Nat} {bf : ab_B} : decode (ab_code (zx σ n0 bf).1 6003) 8 = .ok (.invokevirtual 42, 3) := zd zm_6003 (by decide +kernel)
theorem d_6003_11 {σ : Nat → Nat} {n0 : Nat} {bf : ab_B} : decode (ab_code (zx σ n0 bf).1 6003) 11 = .ok (.getfield 34, 3) := zd zm_6003 (by decide +kernel)
theorem d_6003_14 {σ : Nat → Nat} {n0 : Nat} {bf : ab_B} : decode (ab_code (zx σ n0 bf).1 6003) 14 = .ok (.goto 4, 3) := zd zm_6003 (by decide +kernel)
theorem d_6003_17 {σ : Nat → Nat} {n0 : Nat} {bf : ab_B} : decode (ab_code (zx σ n0 bf).1 6003) 17 = .ok (.aload_n 0, 1) := zd zm_6003 (by decide +kernel)
theorem d_6003_18 {σ : Nat → Nat} {n0 : Nat} {bf : ab_B} : decode (ab_code (zx σ n0 bf).1 6003) 18 = .ok (.areturn, 1) := zd zm_6003 (by decide +kernel)
def w_X7_body (X : zs_X) (d : Nat) (p0 : Nat) (S : zs_T) (Q : zs_Q) : Prop :=
  (zs_K S p0 = some (.inl 6) ∧ zs_C X d 6004 [.ref p0] S (zs_kI (fun v3 S2 => (((v3 = 0 → (Q (.returned (some (.ref p0))) S2)) ∧ (¬ (v3 = 0) → (zs_K S2 p0 = some (.inl 6) ∧ zs_C X d 6005 [.ref p0] S2 (zs_kR (fun v7 S6 => (∃ b8, v7 = some b8 ∧ zs_K S6 b8 = some (.inl 6) ∧ Q (.returned (some (va_rf (zs_R S6 6002 b8)))) S6)) Q)))))) Q))
theorem u_X7_body {σ : Nat → Nat} {n0 : Nat} {bf : ab_B} {d : Nat} {p0 : Nat} {S : zs_T} {Q : zs_Q} (hB : zt_B bf) (hd : 1 ≤ d) (h : w_X7_body (zx σ n0 bf) (d - 1) p0 S Q) : zs_C (zx σ n0 bf) d 6003 [.ref p0] S Q := by
  have hL : lv_args 0 [.ref p0] = [(0, .ref p0)] := rfl
  refine zs_C.of1 (hB.2 6003 (by decide) (by decide)) hd (by rw [hL]; exact zs_sub_self _ (by exact ⟨rfl, trivial⟩)) ?_
  rw [hL]
  clear hL
  unfold w_X7_body at h
  refine zu_aload_n d_6003_0 rfl (zs_ra _) ?_
  obtain ⟨k1, h⟩ := h
  refine zc_6_38  hB rfl k1 d_6003_1 (Nat.le_of_ble_eq_true rfl) h (fun v3 S2 h => ?_)
  refine zu_ifeq (t := 17) d_6003_4 rfl (fun c4 => ?_) (fun c4 => ?_)
  · have h := h.1 c4
    refine zu_aload_n d_6003_17 rfl (zs_ra _) ?_
    exact zu_aret d_6003_18 zr_6003 (zs_ra _) h
  · have h := h.2 c4
    refine zu_aload_n d_6003_7 rfl (zs_ra _) ?_
    obtain ⟨k5, h⟩ := h
    refine zc_6_42  hB rfl k5 d_6003_8 (Nat.le_of_ble_eq_true rfl) h (fun v7 S6 h => ?_)
    obtain ⟨b8, e9, h⟩ := h
    refine zs_stk0 (zs_rfe e9) ?_
    obtain ⟨k10, h⟩ := h
    refine zg_6_34 rfl d_6003_11 k10 ?_
    refine zu_goto (t := 18) d_6003_14 rfl ?_
    exact zu_aret d_6003_18 zr_6003 (zs_rr _) h
/-! SchemaPascal$Type.isSchema()Z -/
theorem zm_6004 {σ : Nat → Nat} {n0 : Nat} {bf : ab_B} : ab_code (zx σ n0 bf).1 6004 = prog_13_method_4_code := rfl
theorem zq_6004 {σ : Nat → Nat} {n0 : Nat} {bf : ab_B} : ab_maxL (zx σ n0 bf).1 6004 = 1 := rfl
theorem zr_6004 {σ : Nat → Nat} {n0 : Nat} {bf : ab_B} : ab_ret (zx σ n0 bf).1 6004 = (Option.some Jvm.ClassFile.FieldType.boolean) := rfl
theorem d_6004_0 {σ : Nat → Nat} {n0 : Nat} {bf : ab_B} : decode (ab_code (zx σ n0 bf).1 6004) 0 = .ok (.aload_n 0, 1) := zd zm_6004 (by decide +kernel)
theorem d_6004_1 {σ : Nat → Nat} {n0 : Nat} {bf : ab_B} : decode (ab_code (zx σ n0 bf).1 6004) 1 = .ok (.getfield 31, 3) := zd zm_6004 (by decide +kernel)
theorem d_6004_4 {σ : Nat → Nat} {n0 : Nat} {bf : ab_B} : decode (ab_code (zx σ n0 bf).1 6004) 4 = .ok (.bipush 10, 2) := zd zm_6004 (by decide +kernel)
theorem d_6004_6 {σ : Nat → Nat} {n0 : Nat} {bf : ab_B} : decode (ab_code (zx σ n0 bf).1 6004) 6 = .ok (.if_icmp .eq 12, 3) := zd zm_6004 (by decide +kernel)
theorem d_6004_9 {σ : Nat → Nat} {n0 : Nat} {bf : ab_B} : decode (ab_code (zx σ n0 bf).1 6004) 9 = .ok (.aload_n 0, 1) := zd zm_6004 (by decide +kernel)
theorem d_6004_10 {σ : Nat → Nat} {n0 : Nat} {bf : ab_B} : decode (ab_code (zx σ n0 bf).1 6004) 10 = .ok (.getfield 31, 3) := zd zm_6004 (by decide +kernel)
theorem d_6004_13 {σ : Nat → Nat} {n0 : Nat} {bf : ab_B} : decode (ab_code (zx σ n0 bf).1 6004) 13 = .ok (.bipush 11, 2) := zd zm_6004 (by decide +kernel)
theorem d_6004_15 {σ : Nat → Nat} {n0 : Nat} {bf : ab_B} : decode (ab_code (zx σ n0 bf).1 6004) 15 = .ok (.if_icmp .ne 7, 3) := zd zm_6004 (by decide +kernel)
theorem d_6004_18 {σ : Nat → Nat} {n0 : Nat} {bf : ab_B} : decode (ab_code (zx σ n0 bf).1 6004) 18 = .ok (.iconst 1, 1) := zd zm_6004 (by decide +kernel)
theorem d_6004_19 {σ : Nat → Nat} {n0 : Nat} {bf : ab_B} : decode (ab_code (zx σ n0 bf).1 6004) 19 = .ok (.goto 4, 3) := zd zm_6004 (by decide +kernel)
theorem d_6004_22 {σ : Nat → Nat} {n0 : Nat} {bf : ab_B} : decode (ab_code (zx σ n0 bf).1 6004) 22 = .ok (.iconst 0, 1) := zd zm_6004 (by decide +kernel)
theorem d_6004_23 {σ : Nat → Nat} {n0 : Nat} {bf : ab_B} : decode (ab_code (zx σ n0 bf).1 6004) 23 = .ok (.ireturn, 1) := zd zm_6004 (by decide +kernel)
def w_X7_isSchema (X : zs_X) (d : Nat) (p0 : Nat) (S : zs_T) (Q : zs_Q) : Prop :=
  (zs_K S p0 = some (.inl 6) ∧ (((zs_I S 6000 p0) = (10 : Int32) → (Q (.returned (some (.int (1 : Int32)))) S)) ∧ (¬ ((zs_I S 6000 p0) = (10 : Int32)) → (((¬ (zs_I S 6000 p0) = (11 : Int32) → (Q (.returned (some (.int (0 : Int32)))) S)) ∧ (¬ (¬ (zs_I S 6000 p0) = (11 : Int32)) → (Q (.returned (some (.int (1 : Int32)))) S)))))))
theorem u_X7_isSchema {σ : Nat → Nat} {n0 : Nat} {bf : ab_B} {d : Nat} {p0 : Nat} {S : zs_T} {Q : zs_Q} (hB : zt_B bf) (hd : 1 ≤ d) (h : w_X7_isSchema (zx σ n0 bf) (d - 1) p0 S Q) : zs_C (zx σ n0 bf) d 6004 [.ref p0] S Q := by
  have hL : lv_args 0 [.ref p0] = [(0, .ref p0)] := rfl
  refine zs_C.of1 (hB.2 6004 (by decide) (by decide)) hd (by rw [hL]; exact zs_sub_self _ (by exact ⟨rfl, trivial⟩)) ?_
  rw [hL]
  clear hL
  unfold w_X7_isSchema at h
  refine zu_aload_n d_6004_0 rfl (zs_ra _) ?_
  obtain ⟨k1, h⟩ := h
  refine zg_6_31 rfl d_6004_1 k1 ?_
  refine zu_bipush d_6004_4 zj_10 ?_
  refine zu_cmpeq (t := 18) d_6004_6 rfl (fun c2 => ?_) (fun c2 => ?_)
  · have h := h.1 c2
    refine zu_iconst d_6004_18 zi_1 ?_
    refine zu_goto (t := 23) d_6004_19 rfl ?_
    exact zu_iret d_6004_23 zr_6004 (zs_b_n (Or.inr rfl)) h
  · have h := h.2 c2
    refine zu_aload_n d_6004_9 rfl (zs_ra _) ?_
    refine zg_6_31 rfl d_6004_10 k1 ?_
    refine zu_bipush d_6004_13 zj_11 ?_
    refine zu_cmpne (t := 22) d_6004_15 rfl (fun c3 => ?_) (fun c3 => ?_)
    · have h := h.1 c3
      refine zu_iconst d_6004_22 zi_0 ?_
      exact zu_iret d_6004_23 zr_6004 (zs_b_n (Or.inl rfl)) h
    · have h := h.2 c3
      refine zu_iconst d_6004_18 zi_1 ?_
      refine zu_goto (t := 23) d_6004_19 rfl ?_
      exact zu_iret d_6004_23 zr_6004 (zs_b_n (Or.inr rfl)) h
/-! SchemaPascal$Type.schema()LSchemaPascal$Type; -/
theorem zm_6005 {σ : Nat → Nat} {n0 : Nat} {bf : ab_B} : ab_code (zx σ n0 bf).1 6005 = prog_13_method_5_code := rfl
theorem zq_6005 {σ : Nat → Nat} {n0 : Nat} {bf : ab_B} : ab_maxL (zx σ n0 bf).1 6005 = 1 := rfl
theorem zr_6005 {σ : Nat → Nat} {n0 : Nat} {bf : ab_B} : ab_ret (zx σ n0 bf).1 6005 = (Option.some (Jvm.ClassFile.FieldType.object "SchemaPascal$Type")) := rfl
theorem d_6005_0 {σ : Nat → Nat} {n0 : Nat} {bf : ab_B} : decode (ab_code (zx σ n0 bf).1 6005) 0 = .ok (.aload_n 0, 1) := zd zm_6005 (by decide +kernel)
theorem d_6005_1 {σ : Nat → Nat} {n0 : Nat} {bf : ab_B} : decode (ab_code (zx σ n0 bf).1 6005) 1 = .ok (.getfield 31, 3) := zd zm_6005 (by decide +kernel)
theorem d_6005_4 {σ : Nat → Nat} {n0 : Nat} {bf : ab_B} : decode (ab_code (zx σ n0 bf).1 6005) 4 = .ok (.bipush 11, 2) := zd zm_6005 (by decide +kernel)
theorem d_6005_6 {σ : Nat → Nat} {n0 : Nat} {bf : ab_B} : decode (ab_code (zx σ n0 bf).1 6005) 6 = .ok (.if_icmp .ne 10, 3) := zd zm_6005 (by decide +kernel)
theorem d_6005_9 {σ : Nat → Nat} {n0 : Nat} {bf : ab_B} : decode (ab_code (zx σ n0 bf).1 6005) 9 = .ok (.aload_n 0, 1) := zd zm_6005 (by decide +kernel)
theorem d_6005_10 {σ : Nat → Nat} {n0 : Nat} {bf : ab_B} : decode (ab_code (zx σ n0 bf).1 6005) 10 = .ok (.getfield 34, 3) := zd zm_6005 (by decide +kernel)
theorem d_6005_13 {σ : Nat → Nat} {n0 : Nat} {bf : ab_B} : decode (ab_code (zx σ n0 bf).1 6005) 13 = .ok (.goto 4, 3) := zd zm_6005 (by decide +kernel)
theorem d_6005_16 {σ : Nat → Nat} {n0 : Nat} {bf : ab_B} : decode (ab_code (zx σ n0 bf).1 6005) 16 = .ok (.aload_n 0, 1) := zd zm_6005 (by decide +kernel)
theorem d_6005_17 {σ : Nat → Nat} {n0 : Nat} {bf : ab_B} : decode (ab_code (zx σ n0 bf).1 6005) 17 = .ok (.areturn, 1) := zd zm_6005 (by decide +kernel)
def w_X7_schema (X : zs_X) (d : Nat) (p0 : Nat) (S : zs_T) (Q : zs_Q) : Prop :=
  (zs_K S p0 = some (.inl 6) ∧ ((¬ (zs_I S 6000 p0) = (11 : Int32) → (Q (.returned (some (.ref p0))) S)) ∧ (¬ (¬ (zs_I S 6000 p0) = (11 : Int32)) → (Q (.returned (some (va_rf (zs_R S 6002 p0)))) S))))
theorem u_X7_schema {σ : Nat → Nat} {n0 : Nat} {bf : ab_B} {d : Nat} {p0 : Nat} {S : zs_T} {Q : zs_Q} (hB : zt_B bf) (hd : 1 ≤ d) (h : w_X7_schema (zx σ n0 bf) (d - 1) p0 S Q) : zs_C (zx σ n0 bf) d 6005 [.ref p0] S Q := by
  have hL : lv_args 0 [.ref p0] = [(0, .ref p0)] := rfl
  refine zs_C.of1 (hB.2 6005 (by decide) (by decide)) hd (by rw [hL]; exact zs_sub_self _ (by exact ⟨rfl, trivial⟩)) ?_
  rw [hL]
  clear hL
  unfold w_X7_schema at h
  refine zu_aload_n d_6005_0 rfl (zs_ra _) ?_
  obtain ⟨k1, h⟩ := h
  refine zg_6_31 rfl d_6005_1 k1 ?_
  refine zu_bipush d_6005_4 zj_11 ?_
  refine zu_cmpne (t := 16) d_6005_6 rfl (fun c2 => ?_) (fun c2 => ?_)
  · have h := h.1 c2
    refine zu_aload_n d_6005_16 rfl (zs_ra _) ?_
    exact zu_aret d_6005_17 zr_6005 (zs_ra _) h
  · have h := h.2 c2
    refine zu_aload_n d_6005_9 rfl (zs_ra _) ?_
    refine zg_6_34 rfl d_6005_10 k1 ?_
    refine zu_goto (t := 17) d_6005_13 rfl ?_
    exact zu_aret d_6005_17 zr_6005 (zs_rr _) h
/-! SchemaPascal$Symbol.<init>(II)V -/
theorem zm_7000 {σ : Nat → Nat} {n0 : Nat} {bf : ab_B} : ab_code (zx σ n0 bf).1 7000 = prog_12_method_1_code := rfl
theorem zq_7000 {σ : Nat → Nat} {n0 : Nat} {bf : ab_B} : ab_maxL (zx σ n0 bf).1 7000 = 3 := rfl
theorem zr_7000 {σ : Nat → Nat} {n0 : Nat} {bf : ab_B} : ab_ret (zx σ n0 bf).1 7000 = (Option.none : Option Jvm.ClassFile.FieldType) := rfl
theorem d_7000_0 {σ : Nat → Nat} {n0 : Nat} {bf : ab_B} : decode (ab_code (zx σ n0 bf).1 7000) 0 = .ok (.aload_n 0, 1) := zd zm_7000 (by decide +kernel)
theorem d_7000_1 {σ : Nat → Nat} {n0 : Nat} {bf : ab_B} : decode (ab_code (zx σ n0 bf).1 7000) 1 = .ok (.invokespecial 1, 3) := zd zm_7000 (by decide +kernel)
theorem d_7000_4 {σ : Nat → Nat} {n0 : Nat} {bf : ab_B} : decode (ab_code (zx σ n0 bf).1 7000) 4 = .ok (.aload_n 0, 1) := zd zm_7000 (by decide +kernel)
theorem d_7000_5 {σ : Nat → Nat} {n0 : Nat} {bf : ab_B} : decode (ab_code (zx σ n0 bf).1 7000) 5 = .ok (.iload_n 1, 1) := zd zm_7000 (by decide +kernel)
theorem d_7000_6 {σ : Nat → Nat} {n0 : Nat} {bf : ab_B} : decode (ab_code (zx σ n0 bf).1 7000) 6 = .ok (.putfield 7, 3) := zd zm_7000 (by decide +kernel)
theorem d_7000_9 {σ : Nat → Nat} {n0 : Nat} {bf : ab_B} : decode (ab_code (zx σ n0 bf).1 7000) 9 = .ok (.aload_n 0, 1) := zd zm_7000 (by decide +kernel)
theorem d_7000_10 {σ : Nat → Nat} {n0 : Nat} {bf : ab_B} : decode (ab_code (zx σ n0 bf).1 7000) 10 = .ok (.iload_n 2, 1) := zd zm_7000 (by decide +kernel)
theorem d_7000_11 {σ : Nat → Nat} {n0 : Nat} {bf : ab_B} : decode (ab_code (zx σ n0 bf).1 7000) 11 = .ok (.putfield 13, 3) := zd zm_7000 (by decide +kernel)
theorem d_7000_14 {σ : Nat → Nat} {n0 : Nat} {bf : ab_B} : decode (ab_code (zx σ n0 bf).1 7000) 14 = .ok (.return_, 1) := zd zm_7000 (by decide +kernel)
def w_X8_init (X : zs_X) (d : Nat) (p0 : Nat) (p1 : Int32) (p2 : Int32) (S : zs_T) (Q : zs_Q) : Prop :=
  (zs_C X d 39000 [.ref p0] S (zs_kV (fun S1 => (zs_K S1 p0 = some (.inl 7) ∧ ab_n0 X.1 ≤ p0 ∧ ∀ S5, S5 = zs_sI S1 7000 p0 p1 → ∀ S8, S8 = zs_sI S5 7001 p0 p2 → Q (.returned none) S8)) Q))
theorem u_X8_init {σ : Nat → Nat} {n0 : Nat} {bf : ab_B} {d : Nat} {p0 : Nat} {p1 : Int32} {p2 : Int32} {S : zs_T} {Q : zs_Q} (hB : zt_B bf) (hd : 1 ≤ d) (h : w_X8_init (zx σ n0 bf) (d - 1) p0 p1 p2 S Q) : zs_C (zx σ n0 bf) d 7000 [.ref p0, .int p1, .int p2] S Q := by
  have hL : lv_args 0 [.ref p0, .int p1, .int p2] = [(0, .ref p0), (1, .int p1), (2, .int p2)] := rfl
  refine zs_C.of1 (hB.2 7000 (by decide) (by decide)) hd (by rw [hL]; exact zs_sub_self _ (by exact ⟨rfl, rfl, rfl, trivial⟩)) ?_
  rw [hL]
  clear hL
  unfold w_X8_init at h
  refine zu_aload_n d_7000_0 rfl (zs_ra _) ?_
  refine zc_7_1  hB rfl d_7000_1 (Nat.le_of_ble_eq_true rfl) h (fun S1 h => ?_)
  refine zu_aload_n d_7000_4 rfl (zs_ra _) ?_
  refine zu_iload_n d_7000_5 rfl ?_
  obtain ⟨k3, h⟩ := h
  obtain ⟨k4, h⟩ := h
  refine zp_7_7 (v := p1) rfl d_7000_6 k3 k4 ?_
  generalize e6 : zs_sI S1 7000 p0 p1 = S5
  have h := h S5 e6.symm
  have K7 : ∀ b, zs_K S5 b = zs_K S1 b := zs_Kt e6 (zs_KsI _ _ _ _) (fun _ => rfl)
  refine zu_aload_n d_7000_9 rfl (zs_ra _) ?_
  refine zu_iload_n d_7000_10 rfl ?_
  refine zp_7_13 (v := p2) rfl d_7000_11 ((K7 _).trans k3) k4 ?_
  generalize e9 : zs_sI S5 7001 p0 p2 = S8
  have h := h S8 e9.symm
  have K10 : ∀ b, zs_K S8 b = zs_K S1 b := zs_Kt e9 (zs_KsI _ _ _ _) K7
  exact zu_vret d_7000_14 zr_7000 h
/-! SchemaPascal$Fault.<init>(II)V -/
theorem zm_9000 {σ : Nat → Nat} {n0 : Nat} {bf : ab_B} : ab_code (zx σ n0 bf).1 9000 = prog_2_method_1_code := rfl
theorem zq_9000 {σ : Nat → Nat} {n0 : Nat} {bf : ab_B} : ab_maxL (zx σ n0 bf).1 9000 = 3 := rfl
theorem zr_9000 {σ : Nat → Nat} {n0 : Nat} {bf : ab_B} : ab_ret (zx σ n0 bf).1 9000 = (Option.none : Option Jvm.ClassFile.FieldType) := rfl
theorem d_9000_0 {σ : Nat → Nat} {n0 : Nat} {bf : ab_B} : decode (ab_code (zx σ n0 bf).1 9000) 0 = .ok (.aload_n 0, 1) := zd zm_9000 (by decide +kernel)
theorem d_9000_1 {σ : Nat → Nat} {n0 : Nat} {bf : ab_B} : decode (ab_code (zx σ n0 bf).1 9000) 1 = .ok (.invokespecial 1, 3) := zd zm_9000 (by decide +kernel)
theorem d_9000_4 {σ : Nat → Nat} {n0 : Nat} {bf : ab_B} : decode (ab_code (zx σ n0 bf).1 9000) 4 = .ok (.aload_n 0, 1) := zd zm_9000 (by decide +kernel)
theorem d_9000_5 {σ : Nat → Nat} {n0 : Nat} {bf : ab_B} : decode (ab_code (zx σ n0 bf).1 9000) 5 = .ok (.iload_n 1, 1) := zd zm_9000 (by decide +kernel)
theorem d_9000_6 {σ : Nat → Nat} {n0 : Nat} {bf : ab_B} : decode (ab_code (zx σ n0 bf).1 9000) 6 = .ok (.putfield 7, 3) := zd zm_9000 (by decide +kernel)
theorem d_9000_9 {σ : Nat → Nat} {n0 : Nat} {bf : ab_B} : decode (ab_code (zx σ n0 bf).1 9000) 9 = .ok (.aload_n 0, 1) := zd zm_9000 (by decide +kernel)
theorem d_9000_10 {σ : Nat → Nat} {n0 : Nat} {bf : ab_B} : decode (ab_code (zx σ n0 bf).1 9000) 10 = .ok (.iload_n 2, 1) := zd zm_9000 (by decide +kernel)
theorem d_9000_11 {σ : Nat → Nat} {n0 : Nat} {bf : ab_B} : decode (ab_code (zx σ n0 bf).1 9000) 11 = .ok (.putfield 13, 3) := zd zm_9000 (by decide +kernel)
theorem d_9000_14 {σ : Nat → Nat} {n0 : Nat} {bf : ab_B} : decode (ab_code (zx σ n0 bf).1 9000) 14 = .ok (.return_, 1) := zd zm_9000 (by decide +kernel)
def w_X10_init (X : zs_X) (d : Nat) (p0 : Nat) (p1 : Int32) (p2 : Int32) (S : zs_T) (Q : zs_Q) : Prop :=
  (zs_C X d 33000 [.ref p0] S (zs_kV (fun S1 => (zs_K S1 p0 = some (.inl 9) ∧ ab_n0 X.1 ≤ p0 ∧ ∀ S5, S5 = zs_sI S1 9006 p0 p1 → ∀ S8, S8 = zs_sI S5 9007 p0 p2 → Q (.returned none) S8)) Q))
theorem u_X10_init {σ : Nat → Nat} {n0 : Nat} {bf : ab_B} {d : Nat} {p0 : Nat} {p1 : Int32} {p2 : Int32} {S : zs_T} {Q : zs_Q} (hB : zt_B bf) (hd : 1 ≤ d) (h : w_X10_init (zx σ n0 bf) (d - 1) p0 p1 p2 S Q) : zs_C (zx σ n0 bf) d 9000 [.ref p0, .int p1, .int p2] S Q := by
  have hL : lv_args 0 [.ref p0, .int p1, .int p2] = [(0, .ref p0), (1, .int p1), (2, .int p2)] := rfl
  refine zs_C.of1 (hB.2 9000 (by decide) (by decide)) hd (by rw [hL]; exact zs_sub_self _ (by exact ⟨rfl, rfl, rfl, trivial⟩)) ?_
  rw [hL]
  clear hL
  unfold w_X10_init at h
  refine zu_aload_n d_9000_0 rfl (zs_ra _) ?_
  refine zc_9_1  hB rfl d_9000_1 (Nat.le_of_ble_eq_true rfl) h (fun S1 h => ?_)
  refine zu_aload_n d_9000_4 rfl (zs_ra _) ?_
  refine zu_iload_n d_9000_5 rfl ?_
  obtain ⟨k3, h⟩ := h
  obtain ⟨k4, h⟩ := h
  refine zp_9_7 (v := p1) rfl d_9000_6 k3 k4 ?_
  generalize e6 : zs_sI S1 9006 p0 p1 = S5
  have h := h S5 e6.symm
  have K7 : ∀ b, zs_K S5 b = zs_K S1 b := zs_Kt e6 (zs_KsI _ _ _ _) (fun _ => rfl)
  refine zu_aload_n d_9000_9 rfl (zs_ra _) ?_
  refine zu_iload_n d_9000_10 rfl ?_
  refine zp_9_13 (v := p2) rfl d_9000_11 ((K7 _).trans k3) k4 ?_
  generalize e9 : zs_sI S5 9007 p0 p2 = S8
  have h := h S8 e9.symm
  have K10 : ∀ b, zs_K S8 b = zs_K S1 b := zs_Kt e9 (zs_KsI _ _ _ _) K7
  exact zu_vret d_9000_14 zr_9000 h
/-! SchemaPascal$Routine.<init>(IILSchemaPascal$Routine;)V -/
theorem zm_10000 {σ : Nat → Nat} {n0 : Nat} {bf : ab_B} : ab_code (zx σ n0 bf).1 10000 = prog_10_method_1_code := rfl
theorem zq_10000 {σ : Nat → Nat} {n0 : Nat} {bf : ab_B} : ab_maxL (zx σ n0 bf).1 10000 = 4 := rfl
theorem zr_10000 {σ : Nat → Nat} {n0 : Nat} {bf : ab_B} : ab_ret (zx σ n0 bf).1 10000 = (Option.none : Option Jvm.ClassFile.FieldType) := rfl
theorem d_10000_0 {σ : Nat → Nat} {n0 : Nat} {bf : ab_B} : decode (ab_code (zx σ n0 bf).1 10000) 0 = .ok (.aload_n 0, 1) := zd zm_10000 (by decide +kernel)
theorem d_10000_1 {σ : Nat → Nat} {n0 : Nat} {bf : ab_B} : decode (ab_code (zx σ n0 bf).1 10000) 1 = .ok (.invokespecial 3, 3) := zd zm_10000 (by decide +kernel)
theorem d_10000_4 {σ : Nat → Nat} {n0 : Nat} {bf : ab_B} : decode (ab_code (zx σ n0 bf).1 10000) 4 = .ok (.aload_n 0, 1) := zd zm_10000 (by decide +kernel)
theorem d_10000_5 {σ : Nat → Nat} {n0 : Nat} {bf : ab_B} : decode (ab_code (zx σ n0 bf).1 10000) 5 = .ok (.new 9, 3) := zd zm_10000 (by decide +kernel)
theorem d_10000_8 {σ : Nat → Nat} {n0 : Nat} {bf : ab_B} : decode (ab_code (zx σ n0 bf).1 10000) 8 = .ok (.dup, 1) := zd zm_10000 (by decide +kernel)
theorem d_10000_9 {σ : Nat → Nat} {n0 : Nat} {bf : ab_B} : decode (ab_code (zx σ n0 bf).1 10000) 9 = .ok (.invokespecial 11, 3) := zd zm_10000 (by decide +kernel)
theorem d_10000_12 {σ : Nat → Nat} {n0 : Nat} {bf : ab_B} : decode (ab_code (zx σ n0 bf).1 10000) 12 = .ok (.putfield 12, 3) := zd zm_10000 (by decide +kernel)
theorem d_10000_15 {σ : Nat → Nat} {n0 : Nat} {bf : ab_B} : decode (ab_code (zx σ n0 bf).1 10000) 15 = .ok (.aload_n 0, 1) := zd zm_10000 (by decide +kernel)
theorem d_10000_16 {σ : Nat → Nat} {n0 : Nat} {bf : ab_B} : decode (ab_code (zx σ n0 bf).1 10000) 16 = .ok (.new 9, 3) := zd zm_10000 (by decide +kernel)
theorem d_10000_19 {σ : Nat → Nat} {n0 : Nat} {bf : ab_B} : decode (ab_code (zx σ n0 bf).1 10000) 19 = .ok (.dup, 1) := zd zm_10000 (by decide +kernel)
theorem d_10000_20 {σ : Nat → Nat} {n0 : Nat} {bf : ab_B} : decode (ab_code (zx σ n0 bf).1 10000) 20 = .ok (.invokespecial 11, 3) := zd zm_10000 (by decide +kernel)
theorem d_10000_23 {σ : Nat → Nat} {n0 : Nat} {bf : ab_B} : decode (ab_code (zx σ n0 bf).1 10000) 23 = .ok (.putfield 18, 3) := zd zm_10000 (by decide +kernel)
theorem d_10000_26 {σ : Nat → Nat} {n0 : Nat} {bf : ab_B} : decode (ab_code (zx σ n0 bf).1 10000) 26 = .ok (.aload_n 0, 1) := zd zm_10000 (by decide +kernel)
theorem d_10000_27 {σ : Nat → Nat} {n0 : Nat} {bf : ab_B} : decode (ab_code (zx σ n0 bf).1 10000) 27 = .ok (.iconst (-1), 1) := zd zm_10000 (by decide +kernel)
theorem d_10000_28 {σ : Nat → Nat} {n0 : Nat} {bf : ab_B} : decode (ab_code (zx σ n0 bf).1 10000) 28 = .ok (.putfield 21, 3) := zd zm_10000 (by decide +kernel)
theorem d_10000_31 {σ : Nat → Nat} {n0 : Nat} {bf : ab_B} : decode (ab_code (zx σ n0 bf).1 10000) 31 = .ok (.aload_n 0, 1) := zd zm_10000 (by decide +kernel)
theorem d_10000_32 {σ : Nat → Nat} {n0 : Nat} {bf : ab_B} : decode (ab_code (zx σ n0 bf).1 10000) 32 = .ok (.iload_n 1, 1) := zd zm_10000 (by decide +kernel)
theorem d_10000_33 {σ : Nat → Nat} {n0 : Nat} {bf : ab_B} : decode (ab_code (zx σ n0 bf).1 10000) 33 = .ok (.putfield 25, 3) := zd zm_10000 (by decide +kernel)
theorem d_10000_36 {σ : Nat → Nat} {n0 : Nat} {bf : ab_B} : decode (ab_code (zx σ n0 bf).1 10000) 36 = .ok (.aload_n 0, 1) := zd zm_10000 (by decide +kernel)
theorem d_10000_37 {σ : Nat → Nat} {n0 : Nat} {bf : ab_B} : decode (ab_code (zx σ n0 bf).1 10000) 37 = .ok (.iload_n 2, 1) := zd zm_10000 (by decide +kernel)
theorem d_10000_38 {σ : Nat → Nat} {n0 : Nat} {bf : ab_B} : decode (ab_code (zx σ n0 bf).1 10000) 38 = .ok (.putfield 28, 3) := zd zm_10000 (by decide +kernel)
theorem d_10000_41 {σ : Nat → Nat} {n0 : Nat} {bf : ab_B} : decode (ab_code (zx σ n0 bf).1 10000) 41 = .ok (.aload_n 0, 1) := zd zm_10000 (by decide +kernel)
theorem d_10000_42 {σ : Nat → Nat} {n0 : Nat} {bf : ab_B} : decode (ab_code (zx σ n0 bf).1 10000) 42 = .ok (.aload_n 3, 1) := zd zm_10000 (by decide +kernel)
theorem d_10000_43 {σ : Nat → Nat} {n0 : Nat} {bf : ab_B} : decode (ab_code (zx σ n0 bf).1 10000) 43 = .ok (.putfield 31, 3) := zd zm_10000 (by decide +kernel)
theorem d_10000_46 {σ : Nat → Nat} {n0 : Nat} {bf : ab_B} : decode (ab_code (zx σ n0 bf).1 10000) 46 = .ok (.aload_n 0, 1) := zd zm_10000 (by decide +kernel)
theorem d_10000_47 {σ : Nat → Nat} {n0 : Nat} {bf : ab_B} : decode (ab_code (zx σ n0 bf).1 10000) 47 = .ok (.aload_n 3, 1) := zd zm_10000 (by decide +kernel)
theorem d_10000_48 {σ : Nat → Nat} {n0 : Nat} {bf : ab_B} : decode (ab_code (zx σ n0 bf).1 10000) 48 = .ok (.ifnonnull 7, 3) := zd zm_10000 (by decide +kernel)
theorem d_10000_51 {σ : Nat → Nat} {n0 : Nat} {bf : ab_B} : decode (ab_code (zx σ n0 bf).1 10000) 51 = .ok (.iconst 0, 1) := zd zm_10000 (by decide +kernel)
theorem d_10000_52 {σ : Nat → Nat} {n0 : Nat} {bf : ab_B} : decode (ab_code (zx σ n0 bf).1 10000) 52 = .ok (.goto 9, 3) := zd zm_10000 (by decide +kernel)
theorem d_10000_55 {σ : Nat → Nat} {n0 : Nat} {bf : ab_B} : decode (ab_code (zx σ n0 bf).1 10000) 55 = .ok (.aload_n 3, 1) := zd zm_10000 (by decide +kernel)
theorem d_10000_56 {σ : Nat → Nat} {n0 : Nat} {bf : ab_B} : decode (ab_code (zx σ n0 bf).1 10000) 56 = .ok (.getfield 35, 3) := zd zm_10000 (by decide +kernel)
theorem d_10000_59 {σ : Nat → Nat} {n0 : Nat} {bf : ab_B} : decode (ab_code (zx σ n0 bf).1 10000) 59 = .ok (.iconst 1, 1) := zd zm_10000 (by decide +kernel)
theorem d_10000_60 {σ : Nat → Nat} {n0 : Nat} {bf : ab_B} : decode (ab_code (zx σ n0 bf).1 10000) 60 = .ok (.iadd, 1) := zd zm_10000 (by decide +kernel)
theorem d_10000_61 {σ : Nat → Nat} {n0 : Nat} {bf : ab_B} : decode (ab_code (zx σ n0 bf).1 10000) 61 = .ok (.putfield 35, 3) := zd zm_10000 (by decide +kernel)
theorem d_10000_64 {σ : Nat → Nat} {n0 : Nat} {bf : ab_B} : decode (ab_code (zx σ n0 bf).1 10000) 64 = .ok (.return_, 1) := zd zm_10000 (by decide +kernel)
def w_X11_init_36 (X : zs_X) (d : Nat) (p0 : Nat) (p2 : Int32) (p3 : Option Nat) (S : zs_T) (Q : zs_Q) : Prop :=
  (zs_K S p0 = some (.inl 10) ∧ ab_n0 X.1 ≤ p0 ∧ ∀ S3, S3 = zs_sI S 10001 p0 p2 → ∀ S6, S6 = zs_sR S3 10002 p0 p3 → ((p3 = none → (∀ S11, S11 = zs_sI S6 10003 p0 (0 : Int32) → Q (.returned none) S11)) ∧ (∀ b9, p3 = some b9 → (zs_K S b9 = some (.inl 10) ∧ ∀ S15, S15 = zs_sI S6 10003 p0 ((zs_I S6 10003 b9) + (1 : Int32)) → Q (.returned none) S15))))
theorem u_X11_init_36 {σ : Nat → Nat} {n0 : Nat} {bf : ab_B} {d : Nat} {p0 : Nat} {p2 : Int32} {p3 : Option Nat} {S : zs_T} {Q : zs_Q} (hB : zt_B bf) (h : w_X11_init_36 (zx σ n0 bf) d p0 p2 p3 S Q) : zs_U (zx σ n0 bf) d 10000 36 [(0, .ref p0), (2, .int p2), (3, va_rf p3)] [] S Q := by
  unfold w_X11_init_36 at h
  refine zu_aload_n d_10000_36 rfl (zs_ra _) ?_
  refine zu_iload_n d_10000_37 rfl ?_
  obtain ⟨k1, h⟩ := h
  obtain ⟨k2, h⟩ := h
  refine zp_10_28 (v := p2) rfl d_10000_38 k1 k2 ?_
  generalize e4 : zs_sI S 10001 p0 p2 = S3
  have h := h S3 e4.symm
  have K5 : ∀ b, zs_K S3 b = zs_K S b := zs_Kt e4 (zs_KsI _ _ _ _) (fun _ => rfl)
  refine zu_aload_n d_10000_41 rfl (zs_ra _) ?_
  refine zu_aload_n d_10000_42 rfl (zs_rr _) ?_
  refine zp_10_31 (v := p3) rfl d_10000_43 ((K5 _).trans k1) k2 ?_
  generalize e7 : zs_sR S3 10002 p0 p3 = S6
  have h := h S6 e7.symm
  have K8 : ∀ b, zs_K S6 b = zs_K S b := zs_Kt e7 (zs_KsR _ _ _ _) K5
  refine zu_aload_n d_10000_46 rfl (zs_ra _) ?_
  refine zu_aload_n d_10000_47 rfl (zs_rr _) ?_
  refine zu_ifnonnull (u := p3) (t := 55) d_10000_48 rfl rfl (fun b9 e10 => ?_) (fun e10 => ?_)
  · have h := h.2 b9 e10
    refine zu_aload_n d_10000_55 rfl (zs_rr _) ?_
    refine zs_stk0 (zs_rfe e10) ?_
    obtain ⟨k14, h⟩ := h
    refine zg_10_35 rfl d_10000_56 ((K8 _).trans k14) ?_
    refine zu_iconst d_10000_59 zi_1 ?_
    refine zu_stk d_10000_60 rfl rfl ?_
    refine zp_10_35 (v := ((zs_I S6 10003 b9) + (1 : Int32))) rfl d_10000_61 ((K8 _).trans k1) k2 ?_
    generalize e16 : zs_sI S6 10003 p0 ((zs_I S6 10003 b9) + (1 : Int32)) = S15
    have h := h S15 e16.symm
    have K17 : ∀ b, zs_K S15 b = zs_K S b := zs_Kt e16 (zs_KsI _ _ _ _) K8
    exact zu_vret d_10000_64 zr_10000 h
  · have h := h.1 e10
    refine zu_iconst d_10000_51 zi_0 ?_
    refine zu_goto (t := 61) d_10000_52 rfl ?_
    refine zp_10_35 (v := (0 : Int32)) rfl d_10000_61 ((K8 _).trans k1) k2 ?_
    generalize e12 : zs_sI S6 10003 p0 (0 : Int32) = S11
    have h := h S11 e12.symm
    have K13 : ∀ b, zs_K S11 b = zs_K S b := zs_Kt e12 (zs_KsI _ _ _ _) K8
    exact zu_vret d_10000_64 zr_10000 h
def w_X11_init (X : zs_X) (d : Nat) (p0 : Nat) (p1 : Int32) (p2 : Int32) (p3 : Option Nat) (S : zs_T) (Q : zs_Q) : Prop :=
  (zs_C X d 39000 [.ref p0] S (zs_kV (fun S1 => (∀ a3 S4, a3 = zs_N S1 → S4 = zs_nw S1 (.inl 16) 3 → zs_C X d 16000 [.ref a3] S4 (zs_kV (fun S8 => (zs_K S8 p0 = some (.inl 10) ∧ ab_n0 X.1 ≤ p0 ∧ ∀ S12, S12 = zs_sR S8 10004 p0 (some a3) → ∀ a15 S16, a15 = zs_N S12 → S16 = zs_nw S12 (.inl 16) 3 → zs_C X d 16000 [.ref a15] S16 (zs_kV (fun S20 => (zs_K S20 p0 = some (.inl 10) ∧ ∀ S23, S23 = zs_sR S20 10005 p0 (some a15) → ∀ S26, S26 = zs_sI S23 10010 p0 (-1 : Int32) → ∀ S29, S29 = zs_sI S26 10000 p0 p1 → w_X11_init_36 X d p0 p2 p3 S29 Q)) Q))) Q))) Q))
theorem u_X11_init {σ : Nat → Nat} {n0 : Nat} {bf : ab_B} {d : Nat} {p0 : Nat} {p1 : Int32} {p2 : Int32} {p3 : Option Nat} {S : zs_T} {Q : zs_Q} (hB : zt_B bf) (hd : 1 ≤ d) (h : w_X11_init (zx σ n0 bf) (d - 1) p0 p1 p2 p3 S Q) : zs_C (zx σ n0 bf) d 10000 [.ref p0, .int p1, .int p2, va_rf p3] S Q := by
  have hL : lv_args 0 [.ref p0, .int p1, .int p2, va_rf p3] = [(0, .ref p0), (1, .int p1), (2, .int p2), (3, va_rf p3)] := by simp [lv_args, zs_cat, zs_cI, zs_cJ, zs_cA]
  refine zs_C.of1 (hB.2 10000 (by decide) (by decide)) hd (by rw [hL]; exact zs_sub_self _ (by exact ⟨rfl, rfl, rfl, rfl, trivial⟩)) ?_
  rw [hL]
  clear hL
  unfold w_X11_init at h
  refine zu_aload_n d_10000_0 rfl (zs_ra _) ?_
  refine zc_10_3  hB rfl d_10000_1 (Nat.le_of_ble_eq_true rfl) h (fun S1 h => ?_)
  refine zu_aload_n d_10000_4 rfl (zs_ra _) ?_
  refine zn_10_9 rfl d_10000_5 ?_
  generalize e6 : zs_nw S1 (.inl 16) 3 = S4
  generalize e5 : zs_N S1 = a3
  have h := h a3 S4 e5.symm e6.symm
  have k7 := zs_kn e5 e6
  refine zu_dup d_10000_8 rfl ?_
  refine zc_10_11  hB rfl d_10000_9 (Nat.le_of_ble_eq_true rfl) h (fun S8 h => ?_)
  obtain ⟨k10, h⟩ := h
  obtain ⟨k11, h⟩ := h
  refine zp_10_12 (v := (some a3)) rfl d_10000_12 k10 k11 ?_
  generalize e13 : zs_sR S8 10004 p0 (some a3) = S12
  have h := h S12 e13.symm
  have K14 : ∀ b, zs_K S12 b = zs_K S8 b := zs_Kt e13 (zs_KsR _ _ _ _) (fun _ => rfl)
  refine zu_aload_n d_10000_15 rfl (zs_ra _) ?_
  refine zn_10_9 rfl d_10000_16 ?_
  generalize e18 : zs_nw S12 (.inl 16) 3 = S16
  generalize e17 : zs_N S12 = a15
  have h := h a15 S16 e17.symm e18.symm
  have k19 := zs_kn e17 e18
  refine zu_dup d_10000_19 rfl ?_
  refine zc_10_11  hB rfl d_10000_20 (Nat.le_of_ble_eq_true rfl) h (fun S20 h => ?_)
  obtain ⟨k22, h⟩ := h
  refine zp_10_18 (v := (some a15)) rfl d_10000_23 k22 k11 ?_
  generalize e24 : zs_sR S20 10005 p0 (some a15) = S23
  have h := h S23 e24.symm
  have K25 : ∀ b, zs_K S23 b = zs_K S20 b := zs_Kt e24 (zs_KsR _ _ _ _) (fun _ => rfl)
  refine zu_aload_n d_10000_26 rfl (zs_ra _) ?_
  refine zu_iconst d_10000_27 zi_m1 ?_
  refine zp_10_21 (v := (-1 : Int32)) rfl d_10000_28 ((K25 _).trans k22) k11 ?_
  generalize e27 : zs_sI S23 10010 p0 (-1 : Int32) = S26
  have h := h S26 e27.symm
  have K28 : ∀ b, zs_K S26 b = zs_K S20 b := zs_Kt e27 (zs_KsI _ _ _ _) K25
  refine zu_aload_n d_10000_31 rfl (zs_ra _) ?_
  refine zu_iload_n d_10000_32 rfl ?_
  refine zp_10_25 (v := p1) rfl d_10000_33 ((K28 _).trans k22) k11 ?_
  generalize e30 : zs_sI S26 10000 p0 p1 = S29
  have h := h S29 e30.symm
  have K31 : ∀ b, zs_K S29 b = zs_K S20 b := zs_Kt e30 (zs_KsI _ _ _ _) K28
  exact (u_X11_init_36 hB h).weak ⟨rfl, rfl, rfl, trivial⟩
/-! SchemaPascal$Node.<init>(II)V -/
theorem zm_11000 {σ : Nat → Nat} {n0 : Nat} {bf : ab_B} : ab_code (zx σ n0 bf).1 11000 = prog_6_method_1_code := rfl
theorem zq_11000 {σ : Nat → Nat} {n0 : Nat} {bf : ab_B} : ab_maxL (zx σ n0 bf).1 11000 = 3 := rfl
theorem zr_11000 {σ : Nat → Nat} {n0 : Nat} {bf : ab_B} : ab_ret (zx σ n0 bf).1 11000 = (Option.none : Option Jvm.ClassFile.FieldType) := rfl
theorem d_11000_0 {σ : Nat → Nat} {n0 : Nat} {bf : ab_B} : decode (ab_code (zx σ n0 bf).1 11000) 0 = .ok (.aload_n 0, 1) := zd zm_11000 (by decide +kernel)
theorem d_11000_1 {σ : Nat → Nat} {n0 : Nat} {bf : ab_B} : decode (ab_code (zx σ n0 bf).1 11000) 1 = .ok (.invokespecial 3, 3) := zd zm_11000 (by decide +kernel)
theorem d_11000_4 {σ : Nat → Nat} {n0 : Nat} {bf : ab_B} : decode (ab_code (zx σ n0 bf).1 11000) 4 = .ok (.aload_n 0, 1) := zd zm_11000 (by decide +kernel)
theorem d_11000_5 {σ : Nat → Nat} {n0 : Nat} {bf : ab_B} : decode (ab_code (zx σ n0 bf).1 11000) 5 = .ok (.iload_n 1, 1) := zd zm_11000 (by decide +kernel)
theorem d_11000_6 {σ : Nat → Nat} {n0 : Nat} {bf : ab_B} : decode (ab_code (zx σ n0 bf).1 11000) 6 = .ok (.putfield 9, 3) := zd zm_11000 (by decide +kernel)
theorem d_11000_9 {σ : Nat → Nat} {n0 : Nat} {bf : ab_B} : decode (ab_code (zx σ n0 bf).1 11000) 9 = .ok (.aload_n 0, 1) := zd zm_11000 (by decide +kernel)
theorem d_11000_10 {σ : Nat → Nat} {n0 : Nat} {bf : ab_B} : decode (ab_code (zx σ n0 bf).1 11000) 10 = .ok (.iload_n 2, 1) := zd zm_11000 (by decide +kernel)
theorem d_11000_11 {σ : Nat → Nat} {n0 : Nat} {bf : ab_B} : decode (ab_code (zx σ n0 bf).1 11000) 11 = .ok (.putfield 15, 3) := zd zm_11000 (by decide +kernel)
theorem d_11000_14 {σ : Nat → Nat} {n0 : Nat} {bf : ab_B} : decode (ab_code (zx σ n0 bf).1 11000) 14 = .ok (.return_, 1) := zd zm_11000 (by decide +kernel)
def w_X12_init (X : zs_X) (d : Nat) (p0 : Nat) (p1 : Int32) (p2 : Int32) (S : zs_T) (Q : zs_Q) : Prop :=
  (zs_C X d 39000 [.ref p0] S (zs_kV (fun S1 => (zs_K S1 p0 = some (.inl 11) ∧ ab_n0 X.1 ≤ p0 ∧ ∀ S5, S5 = zs_sI S1 11000 p0 p1 → ∀ S8, S8 = zs_sI S5 11001 p0 p2 → Q (.returned none) S8)) Q))
theorem u_X12_init {σ : Nat → Nat} {n0 : Nat} {bf : ab_B} {d : Nat} {p0 : Nat} {p1 : Int32} {p2 : Int32} {S : zs_T} {Q : zs_Q} (hB : zt_B bf) (hd : 1 ≤ d) (h : w_X12_init (zx σ n0 bf) (d - 1) p0 p1 p2 S Q) : zs_C (zx σ n0 bf) d 11000 [.ref p0, .int p1, .int p2] S Q := by
  have hL : lv_args 0 [.ref p0, .int p1, .int p2] = [(0, .ref p0), (1, .int p1), (2, .int p2)] := rfl
  refine zs_C.of1 (hB.2 11000 (by decide) (by decide)) hd (by rw [hL]; exact zs_sub_self _ (by exact ⟨rfl, rfl, rfl, trivial⟩)) ?_
  rw [hL]
  clear hL
  unfold w_X12_init at h
  refine zu_aload_n d_11000_0 rfl (zs_ra _) ?_
  refine zc_11_3  hB rfl d_11000_1 (Nat.le_of_ble_eq_true rfl) h (fun S1 h => ?_)
  refine zu_aload_n d_11000_4 rfl (zs_ra _) ?_
  refine zu_iload_n d_11000_5 rfl ?_
  obtain ⟨k3, h⟩ := h
  obtain ⟨k4, h⟩ := h
  refine zp_11_9 (v := p1) rfl d_11000_6 k3 k4 ?_
  generalize e6 : zs_sI S1 11000 p0 p1 = S5
  have h := h S5 e6.symm
  have K7 : ∀ b, zs_K S5 b = zs_K S1 b := zs_Kt e6 (zs_KsI _ _ _ _) (fun _ => rfl)
  refine zu_aload_n d_11000_9 rfl (zs_ra _) ?_
  refine zu_iload_n d_11000_10 rfl ?_
  refine zp_11_15 (v := p2) rfl d_11000_11 ((K7 _).trans k3) k4 ?_
  generalize e9 : zs_sI S5 11001 p0 p2 = S8
  have h := h S8 e9.symm
  have K10 : ∀ b, zs_K S8 b = zs_K S1 b := zs_Kt e9 (zs_KsI _ _ _ _) K7
  exact zu_vret d_11000_14 zr_11000 h
/-! SchemaPascal$Node.isVariable()Z -/
theorem zm_11001 {σ : Nat → Nat} {n0 : Nat} {bf : ab_B} : ab_code (zx σ n0 bf).1 11001 = prog_6_method_2_code := rfl
theorem zq_11001 {σ : Nat → Nat} {n0 : Nat} {bf : ab_B} : ab_maxL (zx σ n0 bf).1 11001 = 1 := rfl
theorem zr_11001 {σ : Nat → Nat} {n0 : Nat} {bf : ab_B} : ab_ret (zx σ n0 bf).1 11001 = (Option.some Jvm.ClassFile.FieldType.boolean) := rfl
theorem d_11001_0 {σ : Nat → Nat} {n0 : Nat} {bf : ab_B} : decode (ab_code (zx σ n0 bf).1 11001) 0 = .ok (.aload_n 0, 1) := zd zm_11001 (by decide +kernel)
theorem d_11001_1 {σ : Nat → Nat} {n0 : Nat} {bf : ab_B} : decode (ab_code (zx σ n0 bf).1 11001) 1 = .ok (.getfield 9, 3) := zd zm_11001 (by decide +kernel)
theorem d_11001_4 {σ : Nat → Nat} {n0 : Nat} {bf : ab_B} : decode (ab_code (zx σ n0 bf).1 11001) 4 = .ok (.iconst 2, 1) := zd zm_11001 (by decide +kernel)
theorem d_11001_5 {σ : Nat → Nat} {n0 : Nat} {bf : ab_B} : decode (ab_code (zx σ n0 bf).1 11001) 5 = .ok (.if_icmp .eq 27, 3) := zd zm_11001 (by decide +kernel)
theorem d_11001_8 {σ : Nat → Nat} {n0 : Nat} {bf : ab_B} : decode (ab_code (zx σ n0 bf).1 11001) 8 = .ok (.aload_n 0, 1) := zd zm_11001 (by decide +kernel)
theorem d_11001_9 {σ : Nat → Nat} {n0 : Nat} {bf : ab_B} : decode (ab_code (zx σ n0 bf).1 11001) 9 = .ok (.getfield 9, 3) := zd zm_11001 (by decide +kernel)
theorem d_11001_12 {σ : Nat → Nat} {n0 : Nat} {bf : ab_B} : decode (ab_code (zx σ n0 bf).1 11001) 12 = .ok (.iconst 3, 1) := zd zm_11001 (by decide +kernel)
theorem d_11001_13 {σ : Nat → Nat} {n0 : Nat} {bf : ab_B} : decode (ab_code (zx σ n0 bf).1 11001) 13 = .ok (.if_icmp .eq 19, 3) := zd zm_11001 (by decide +kernel)
theorem d_11001_16 {σ : Nat → Nat} {n0 : Nat} {bf : ab_B} : decode (ab_code (zx σ n0 bf).1 11001) 16 = .ok (.aload_n 0, 1) := zd zm_11001 (by decide +kernel)
theorem d_11001_17 {σ : Nat → Nat} {n0 : Nat} {bf : ab_B} : decode (ab_code (zx σ n0 bf).1 11001) 17 = .ok (.getfield 9, 3) := zd zm_11001 (by decide +kernel)
theorem d_11001_20 {σ : Nat → Nat} {n0 : Nat} {bf : ab_B} : decode (ab_code (zx σ n0 bf).1 11001) 20 = .ok (.iconst 4, 1) := zd zm_11001 (by decide +kernel)
theorem d_11001_21 {σ : Nat → Nat} {n0 : Nat} {bf : ab_B} : decode (ab_code (zx σ n0 bf).1 11001) 21 = .ok (.if_icmp .eq 11, 3) := zd zm_11001 (by decide +kernel)
theorem d_11001_24 {σ : Nat → Nat} {n0 : Nat} {bf : ab_B} : decode (ab_code (zx σ n0 bf).1 11001) 24 = .ok (.aload_n 0, 1) := zd zm_11001 (by decide +kernel)
theorem d_11001_25 {σ : Nat → Nat} {n0 : Nat} {bf : ab_B} : decode (ab_code (zx σ n0 bf).1 11001) 25 = .ok (.getfield 9, 3) := zd zm_11001 (by decide +kernel)
theorem d_11001_28 {σ : Nat → Nat} {n0 : Nat} {bf : ab_B} : decode (ab_code (zx σ n0 bf).1 11001) 28 = .ok (.iconst 5, 1) := zd zm_11001 (by decide +kernel)
theorem d_11001_29 {σ : Nat → Nat} {n0 : Nat} {bf : ab_B} : decode (ab_code (zx σ n0 bf).1 11001) 29 = .ok (.if_icmp .ne 7, 3) := zd zm_11001 (by decide +kernel)
theorem d_11001_32 {σ : Nat → Nat} {n0 : Nat} {bf : ab_B} : decode (ab_code (zx σ n0 bf).1 11001) 32 = .ok (.iconst 1, 1) := zd zm_11001 (by decide +kernel)
theorem d_11001_33 {σ : Nat → Nat} {n0 : Nat} {bf : ab_B} : decode (ab_code (zx σ n0 bf).1 11001) 33 = .ok (.goto 4, 3) := zd zm_11001 (by decide +kernel)
theorem d_11001_36 {σ : Nat → Nat} {n0 : Nat} {bf : ab_B} : decode (ab_code (zx σ n0 bf).1 11001) 36 = .ok (.iconst 0, 1) := zd zm_11001 (by decide +kernel)
theorem d_11001_37 {σ : Nat → Nat} {n0 : Nat} {bf : ab_B} : decode (ab_code (zx σ n0 bf).1 11001) 37 = .ok (.ireturn, 1) := zd zm_11001 (by decide +kernel)
def w_X12_isVariable_32 (X : zs_X) (d : Nat)  (S : zs_T) (Q : zs_Q) : Prop :=
  (Q (.returned (some (.int (1 : Int32)))) S)
theorem u_X12_isVariable_32 {σ : Nat → Nat} {n0 : Nat} {bf : ab_B} {d : Nat}  {S : zs_T} {Q : zs_Q} (hB : zt_B bf) (h : w_X12_isVariable_32 (zx σ n0 bf) d  S Q) : zs_U (zx σ n0 bf) d 11001 32 [] [] S Q := by
  unfold w_X12_isVariable_32 at h
  refine zu_iconst d_11001_32 zi_1 ?_
  refine zu_goto (t := 37) d_11001_33 rfl ?_
  exact zu_iret d_11001_37 zr_11001 (zs_b_n (Or.inr rfl)) h
def w_X12_isVariable_36 (X : zs_X) (d : Nat)  (S : zs_T) (Q : zs_Q) : Prop :=
  (Q (.returned (some (.int (0 : Int32)))) S)
theorem u_X12_isVariable_36 {σ : Nat → Nat} {n0 : Nat} {bf : ab_B} {d : Nat}  {S : zs_T} {Q : zs_Q} (hB : zt_B bf) (h : w_X12_isVariable_36 (zx σ n0 bf) d  S Q) : zs_U (zx σ n0 bf) d 11001 36 [] [] S Q := by
  unfold w_X12_isVariable_36 at h
  refine zu_iconst d_11001_36 zi_0 ?_
  exact zu_iret d_11001_37 zr_11001 (zs_b_n (Or.inl rfl)) h
def w_X12_isVariable (X : zs_X) (d : Nat) (p0 : Nat) (S : zs_T) (Q : zs_Q) : Prop :=
  (zs_K S p0 = some (.inl 11) ∧ (((zs_I S 11000 p0) = (2 : Int32) → w_X12_isVariable_32 X d  S Q) ∧ (¬ ((zs_I S 11000 p0) = (2 : Int32)) → ((((zs_I S 11000 p0) = (3 : Int32) → w_X12_isVariable_32 X d  S Q) ∧ (¬ ((zs_I S 11000 p0) = (3 : Int32)) → ((((zs_I S 11000 p0) = (4 : Int32) → w_X12_isVariable_32 X d  S Q) ∧ (¬ ((zs_I S 11000 p0) = (4 : Int32)) → (((¬ (zs_I S 11000 p0) = (5 : Int32) → w_X12_isVariable_36 X d  S Q) ∧ (¬ (¬ (zs_I S 11000 p0) = (5 : Int32)) → w_X12_isVariable_32 X d  S Q))))))))))))
theorem u_X12_isVariable {σ : Nat → Nat} {n0 : Nat} {bf : ab_B} {d : Nat} {p0 : Nat} {S : zs_T} {Q : zs_Q} (hB : zt_B bf) (hd : 1 ≤ d) (h : w_X12_isVariable (zx σ n0 bf) (d - 1) p0 S Q) : zs_C (zx σ n0 bf) d 11001 [.ref p0] S Q := by
  have hL : lv_args 0 [.ref p0] = [(0, .ref p0)] := rfl
  refine zs_C.of1 (hB.2 11001 (by decide) (by decide)) hd (by rw [hL]; exact zs_sub_self _ (by exact ⟨rfl, trivial⟩)) ?_
  rw [hL]
  clear hL
  unfold w_X12_isVariable at h
  refine zu_aload_n d_11001_0 rfl (zs_ra _) ?_
  obtain ⟨k1, h⟩ := h
  refine zg_11_9 rfl d_11001_1 k1 ?_
  refine zu_iconst d_11001_4 zi_2 ?_
  refine zu_cmpeq (t := 32) d_11001_5 rfl (fun c2 => ?_) (fun c2 => ?_)
  · have h := h.1 c2
    exact (u_X12_isVariable_32 hB h).weak trivial
  · have h := h.2 c2
    refine zu_aload_n d_11001_8 rfl (zs_ra _) ?_
    refine zg_11_9 rfl d_11001_9 k1 ?_
    refine zu_iconst d_11001_12 zi_3 ?_
    refine zu_cmpeq (t := 32) d_11001_13 rfl (fun c3 => ?_) (fun c3 => ?_)
    · have h := h.1 c3
      exact (u_X12_isVariable_32 hB h).weak trivial
    · have h := h.2 c3
      refine zu_aload_n d_11001_16 rfl (zs_ra _) ?_
      refine zg_11_9 rfl d_11001_17 k1 ?_
      refine zu_iconst d_11001_20 zi_4 ?_
      refine zu_cmpeq (t := 32) d_11001_21 rfl (fun c4 => ?_) (fun c4 => ?_)
      · have h := h.1 c4
        exact (u_X12_isVariable_32 hB h).weak trivial
      · have h := h.2 c4
        refine zu_aload_n d_11001_24 rfl (zs_ra _) ?_
        refine zg_11_9 rfl d_11001_25 k1 ?_
        refine zu_iconst d_11001_28 zi_5 ?_
        refine zu_cmpne (t := 36) d_11001_29 rfl (fun c5 => ?_) (fun c5 => ?_)
        · have h := h.1 c5
          exact (u_X12_isVariable_36 hB h).weak trivial
        · have h := h.2 c5
          exact (u_X12_isVariable_32 hB h).weak trivial
/-! SchemaPascal$Field.<init>(ILSchemaPascal$Type;LSchemaPascal$Variant;)V -/
theorem zm_12000 {σ : Nat → Nat} {n0 : Nat} {bf : ab_B} : ab_code (zx σ n0 bf).1 12000 = prog_3_method_1_code := rfl
theorem zq_12000 {σ : Nat → Nat} {n0 : Nat} {bf : ab_B} : ab_maxL (zx σ n0 bf).1 12000 = 4 := rfl
theorem zr_12000 {σ : Nat → Nat} {n0 : Nat} {bf : ab_B} : ab_ret (zx σ n0 bf).1 12000 = (Option.none : Option Jvm.ClassFile.FieldType) := rfl
theorem d_12000_0 {σ : Nat → Nat} {n0 : Nat} {bf : ab_B} : decode (ab_code (zx σ n0 bf).1 12000) 0 = .ok (.aload_n 0, 1) := zd zm_12000 (by decide +kernel)
theorem d_12000_1 {σ : Nat → Nat} {n0 : Nat} {bf : ab_B} : decode (ab_code (zx σ n0 bf).1 12000) 1 = .ok (.invokespecial 1, 3) := zd zm_12000 (by decide +kernel)
theorem d_12000_4 {σ : Nat → Nat} {n0 : Nat} {bf : ab_B} : decode (ab_code (zx σ n0 bf).1 12000) 4 = .ok (.aload_n 0, 1) := zd zm_12000 (by decide +kernel)
theorem d_12000_5 {σ : Nat → Nat} {n0 : Nat} {bf : ab_B} : decode (ab_code (zx σ n0 bf).1 12000) 5 = .ok (.iload_n 1, 1) := zd zm_12000 (by decide +kernel)
theorem d_12000_6 {σ : Nat → Nat} {n0 : Nat} {bf : ab_B} : decode (ab_code (zx σ n0 bf).1 12000) 6 = .ok (.putfield 7, 3) := zd zm_12000 (by decide +kernel)
theorem d_12000_9 {σ : Nat → Nat} {n0 : Nat} {bf : ab_B} : decode (ab_code (zx σ n0 bf).1 12000) 9 = .ok (.aload_n 0, 1) := zd zm_12000 (by decide +kernel)
theorem d_12000_10 {σ : Nat → Nat} {n0 : Nat} {bf : ab_B} : decode (ab_code (zx σ n0 bf).1 12000) 10 = .ok (.aload_n 2, 1) := zd zm_12000 (by decide +kernel)
theorem d_12000_11 {σ : Nat → Nat} {n0 : Nat} {bf : ab_B} : decode (ab_code (zx σ n0 bf).1 12000) 11 = .ok (.putfield 13, 3) := zd zm_12000 (by decide +kernel)
theorem d_12000_14 {σ : Nat → Nat} {n0 : Nat} {bf : ab_B} : decode (ab_code (zx σ n0 bf).1 12000) 14 = .ok (.aload_n 0, 1) := zd zm_12000 (by decide +kernel)
theorem d_12000_15 {σ : Nat → Nat} {n0 : Nat} {bf : ab_B} : decode (ab_code (zx σ n0 bf).1 12000) 15 = .ok (.aload_n 3, 1) := zd zm_12000 (by decide +kernel)
theorem d_12000_16 {σ : Nat → Nat} {n0 : Nat} {bf : ab_B} : decode (ab_code (zx σ n0 bf).1 12000) 16 = .ok (.putfield 17, 3) := zd zm_12000 (by decide +kernel)
theorem d_12000_19 {σ : Nat → Nat} {n0 : Nat} {bf : ab_B} : decode (ab_code (zx σ n0 bf).1 12000) 19 = .ok (.return_, 1) := zd zm_12000 (by decide +kernel)
def w_X13_init (X : zs_X) (d : Nat) (p0 : Nat) (p1 : Int32) (p2 : Option Nat) (p3 : Option Nat) (S : zs_T) (Q : zs_Q) : Prop :=
  (zs_C X d 39000 [.ref p0] S (zs_kV (fun S1 => (zs_K S1 p0 = some (.inl 12) ∧ ab_n0 X.1 ≤ p0 ∧ ∀ S5, S5 = zs_sI S1 12000 p0 p1 → ∀ S8, S8 = zs_sR S5 12001 p0 p2 → ∀ S11, S11 = zs_sR S8 12002 p0 p3 → Q (.returned none) S11)) Q))
theorem u_X13_init {σ : Nat → Nat} {n0 : Nat} {bf : ab_B} {d : Nat} {p0 : Nat} {p1 : Int32} {p2 : Option Nat} {p3 : Option Nat} {S : zs_T} {Q : zs_Q} (hB : zt_B bf) (hd : 1 ≤ d) (h : w_X13_init (zx σ n0 bf) (d - 1) p0 p1 p2 p3 S Q) : zs_C (zx σ n0 bf) d 12000 [.ref p0, .int p1, va_rf p2, va_rf p3] S Q := by
  have hL : lv_args 0 [.ref p0, .int p1, va_rf p2, va_rf p3] = [(0, .ref p0), (1, .int p1), (2, va_rf p2), (3, va_rf p3)] := by simp [lv_args, zs_cat, zs_cI, zs_cJ, zs_cA]
  refine zs_C.of1 (hB.2 12000 (by decide) (by decide)) hd (by rw [hL]; exact zs_sub_self _ (by exact ⟨rfl, rfl, rfl, rfl, trivial⟩)) ?_
  rw [hL]
  clear hL
  unfold w_X13_init at h
  refine zu_aload_n d_12000_0 rfl (zs_ra _) ?_
  refine zc_12_1  hB rfl d_12000_1 (Nat.le_of_ble_eq_true rfl) h (fun S1 h => ?_)
  refine zu_aload_n d_12000_4 rfl (zs_ra _) ?_
  refine zu_iload_n d_12000_5 rfl ?_
  obtain ⟨k3, h⟩ := h
  obtain ⟨k4, h⟩ := h
  refine zp_12_7 (v := p1) rfl d_12000_6 k3 k4 ?_
  generalize e6 : zs_sI S1 12000 p0 p1 = S5
  have h := h S5 e6.symm
  have K7 : ∀ b, zs_K S5 b = zs_K S1 b := zs_Kt e6 (zs_KsI _ _ _ _) (fun _ => rfl)
  refine zu_aload_n d_12000_9 rfl (zs_ra _) ?_
  refine zu_aload_n d_12000_10 rfl (zs_rr _) ?_
  refine zp_12_13 (v := p2) rfl d_12000_11 ((K7 _).trans k3) k4 ?_
  generalize e9 : zs_sR S5 12001 p0 p2 = S8
  have h := h S8 e9.symm
  have K10 : ∀ b, zs_K S8 b = zs_K S1 b := zs_Kt e9 (zs_KsR _ _ _ _) K7
  refine zu_aload_n d_12000_14 rfl (zs_ra _) ?_
  refine zu_aload_n d_12000_15 rfl (zs_rr _) ?_
  refine zp_12_17 (v := p3) rfl d_12000_16 ((K10 _).trans k3) k4 ?_
  generalize e12 : zs_sR S8 12002 p0 p3 = S11
  have h := h S11 e12.symm
  have K13 : ∀ b, zs_K S11 b = zs_K S1 b := zs_Kt e12 (zs_KsR _ _ _ _) K10
  exact zu_vret d_12000_19 zr_12000 h
/-! SchemaPascal$Fields.find(I)LSchemaPascal$Field; -/
theorem zm_13000 {σ : Nat → Nat} {n0 : Nat} {bf : ab_B} : ab_code (zx σ n0 bf).1 13000 = prog_4_method_2_code := rfl
theorem zq_13000 {σ : Nat → Nat} {n0 : Nat} {bf : ab_B} : ab_maxL (zx σ n0 bf).1 13000 = 4 := rfl
theorem zr_13000 {σ : Nat → Nat} {n0 : Nat} {bf : ab_B} : ab_ret (zx σ n0 bf).1 13000 = (Option.some (Jvm.ClassFile.FieldType.object "SchemaPascal$Field")) := rfl
theorem d_13000_0 {σ : Nat → Nat} {n0 : Nat} {bf : ab_B} : decode (ab_code (zx σ n0 bf).1 13000) 0 = .ok (.iconst 0, 1) := zd zm_13000 (by decide +kernel)
theorem d_13000_1 {σ : Nat → Nat} {n0 : Nat} {bf : ab_B} : decode (ab_code (zx σ n0 bf).1 13000) 1 = .ok (.istore_n 2, 1) := zd zm_13000 (by decide +kernel)
theorem d_13000_2 {σ : Nat → Nat} {n0 : Nat} {bf : ab_B} : decode (ab_code (zx σ n0 bf).1 13000) 2 = .ok (.iload_n 2, 1) := zd zm_13000 (by decide +kernel)
theorem d_13000_3 {σ : Nat → Nat} {n0 : Nat} {bf : ab_B} : decode (ab_code (zx σ n0 bf).1 13000) 3 = .ok (.aload_n 0, 1) := zd zm_13000 (by decide +kernel)
theorem d_13000_4 {σ : Nat → Nat} {n0 : Nat} {bf : ab_B} : decode (ab_code (zx σ n0 bf).1 13000) 4 = .ok (.getfield 10, 3) := zd zm_13000 (by decide +kernel)
theorem d_13000_7 {σ : Nat → Nat} {n0 : Nat} {bf : ab_B} : decode (ab_code (zx σ n0 bf).1 13000) 7 = .ok (.invokevirtual 16, 3) := zd zm_13000 (by decide +kernel)
theorem d_13000_10 {σ : Nat → Nat} {n0 : Nat} {bf : ab_B} : decode (ab_code (zx σ n0 bf).1 13000) 10 = .ok (.if_icmp .ge 39, 3) := zd zm_13000 (by decide +kernel)
theorem d_13000_13 {σ : Nat → Nat} {n0 : Nat} {bf : ab_B} : decode (ab_code (zx σ n0 bf).1 13000) 13 = .ok (.aload_n 0, 1) := zd zm_13000 (by decide +kernel)
theorem d_13000_14 {σ : Nat → Nat} {n0 : Nat} {bf : ab_B} : decode (ab_code (zx σ n0 bf).1 13000) 14 = .ok (.getfield 10, 3) := zd zm_13000 (by decide +kernel)
theorem d_13000_17 {σ : Nat → Nat} {n0 : Nat} {bf : ab_B} : decode (ab_code (zx σ n0 bf).1 13000) 17 = .ok (.iload_n 2, 1) := zd zm_13000 (by decide +kernel)
theorem d_13000_18 {σ : Nat → Nat} {n0 : Nat} {bf : ab_B} : decode (ab_code (zx σ n0 bf).1 13000) 18 = .ok (.invokevirtual 20, 3) := zd zm_13000 (by decide +kernel)
theorem d_13000_21 {σ : Nat → Nat} {n0 : Nat} {bf : ab_B} : decode (ab_code (zx σ n0 bf).1 13000) 21 = .ok (.checkcast 24, 3) := zd zm_13000 (by decide +kernel)
theorem d_13000_24 {σ : Nat → Nat} {n0 : Nat} {bf : ab_B} : decode (ab_code (zx σ n0 bf).1 13000) 24 = .ok (.getfield 26, 3) := zd zm_13000 (by decide +kernel)
theorem d_13000_27 {σ : Nat → Nat} {n0 : Nat} {bf : ab_B} : decode (ab_code (zx σ n0 bf).1 13000) 27 = .ok (.iload_n 1, 1) := zd zm_13000 (by decide +kernel)
theorem d_13000_28 {σ : Nat → Nat} {n0 : Nat} {bf : ab_B} : decode (ab_code (zx σ n0 bf).1 13000) 28 = .ok (.if_icmp .ne 15, 3) := zd zm_13000 (by decide +kernel)
theorem d_13000_31 {σ : Nat → Nat} {n0 : Nat} {bf : ab_B} : decode (ab_code (zx σ n0 bf).1 13000) 31 = .ok (.aload_n 0, 1) := zd zm_13000 (by decide +kernel)
theorem d_13000_32 {σ : Nat → Nat} {n0 : Nat} {bf : ab_B} : decode (ab_code (zx σ n0 bf).1 13000) 32 = .ok (.getfield 10, 3) := zd zm_13000 (by decide +kernel)
theorem d_13000_35 {σ : Nat → Nat} {n0 : Nat} {bf : ab_B} : decode (ab_code (zx σ n0 bf).1 13000) 35 = .ok (.iload_n 2, 1) := zd zm_13000 (by decide +kernel)
theorem d_13000_36 {σ : Nat → Nat} {n0 : Nat} {bf : ab_B} : decode (ab_code (zx σ n0 bf).1 13000) 36 = .ok (.invokevirtual 20, 3) := zd zm_13000 (by decide +kernel)
theorem d_13000_39 {σ : Nat → Nat} {n0 : Nat} {bf : ab_B} : decode (ab_code (zx σ n0 bf).1 13000) 39 = .ok (.checkcast 24, 3) := zd zm_13000 (by decide +kernel)
theorem d_13000_42 {σ : Nat → Nat} {n0 : Nat} {bf : ab_B} : decode (ab_code (zx σ n0 bf).1 13000) 42 = .ok (.areturn, 1) := zd zm_13000 (by decide +kernel)
theorem d_13000_43 {σ : Nat → Nat} {n0 : Nat} {bf : ab_B} : decode (ab_code (zx σ n0 bf).1 13000) 43 = .ok (.iinc 2 1, 3) := zd zm_13000 (by decide +kernel)
theorem d_13000_46 {σ : Nat → Nat} {n0 : Nat} {bf : ab_B} : decode (ab_code (zx σ n0 bf).1 13000) 46 = .ok (.goto (-44), 3) := zd zm_13000 (by decide +kernel)
theorem d_13000_49 {σ : Nat → Nat} {n0 : Nat} {bf : ab_B} : decode (ab_code (zx σ n0 bf).1 13000) 49 = .ok (.iconst 0, 1) := zd zm_13000 (by decide +kernel)
theorem d_13000_50 {σ : Nat → Nat} {n0 : Nat} {bf : ab_B} : decode (ab_code (zx σ n0 bf).1 13000) 50 = .ok (.istore_n 2, 1) := zd zm_13000 (by decide +kernel)
theorem d_13000_51 {σ : Nat → Nat} {n0 : Nat} {bf : ab_B} : decode (ab_code (zx σ n0 bf).1 13000) 51 = .ok (.aload_n 0, 1) := zd zm_13000 (by decide +kernel)
theorem d_13000_52 {σ : Nat → Nat} {n0 : Nat} {bf : ab_B} : decode (ab_code (zx σ n0 bf).1 13000) 52 = .ok (.getfield 30, 3) := zd zm_13000 (by decide +kernel)
theorem d_13000_55 {σ : Nat → Nat} {n0 : Nat} {bf : ab_B} : decode (ab_code (zx σ n0 bf).1 13000) 55 = .ok (.ifnull 51, 3) := zd zm_13000 (by decide +kernel)
theorem d_13000_58 {σ : Nat → Nat} {n0 : Nat} {bf : ab_B} : decode (ab_code (zx σ n0 bf).1 13000) 58 = .ok (.iload_n 2, 1) := zd zm_13000 (by decide +kernel)
theorem d_13000_59 {σ : Nat → Nat} {n0 : Nat} {bf : ab_B} : decode (ab_code (zx σ n0 bf).1 13000) 59 = .ok (.aload_n 0, 1) := zd zm_13000 (by decide +kernel)
theorem d_13000_60 {σ : Nat → Nat} {n0 : Nat} {bf : ab_B} : decode (ab_code (zx σ n0 bf).1 13000) 60 = .ok (.getfield 30, 3) := zd zm_13000 (by decide +kernel)
theorem d_13000_63 {σ : Nat → Nat} {n0 : Nat} {bf : ab_B} : decode (ab_code (zx σ n0 bf).1 13000) 63 = .ok (.getfield 34, 3) := zd zm_13000 (by decide +kernel)
theorem d_13000_66 {σ : Nat → Nat} {n0 : Nat} {bf : ab_B} : decode (ab_code (zx σ n0 bf).1 13000) 66 = .ok (.invokevirtual 16, 3) := zd zm_13000 (by decide +kernel)
theorem d_13000_69 {σ : Nat → Nat} {n0 : Nat} {bf : ab_B} : decode (ab_code (zx σ n0 bf).1 13000) 69 = .ok (.if_icmp .ge 37, 3) := zd zm_13000 (by decide +kernel)
theorem d_13000_72 {σ : Nat → Nat} {n0 : Nat} {bf : ab_B} : decode (ab_code (zx σ n0 bf).1 13000) 72 = .ok (.aload_n 0, 1) := zd zm_13000 (by decide +kernel)
theorem d_13000_73 {σ : Nat → Nat} {n0 : Nat} {bf : ab_B} : decode (ab_code (zx σ n0 bf).1 13000) 73 = .ok (.getfield 30, 3) := zd zm_13000 (by decide +kernel)
theorem d_13000_76 {σ : Nat → Nat} {n0 : Nat} {bf : ab_B} : decode (ab_code (zx σ n0 bf).1 13000) 76 = .ok (.getfield 34, 3) := zd zm_13000 (by decide +kernel)
theorem d_13000_79 {σ : Nat → Nat} {n0 : Nat} {bf : ab_B} : decode (ab_code (zx σ n0 bf).1 13000) 79 = .ok (.iload_n 2, 1) := zd zm_13000 (by decide +kernel)
theorem d_13000_80 {σ : Nat → Nat} {n0 : Nat} {bf : ab_B} : decode (ab_code (zx σ n0 bf).1 13000) 80 = .ok (.invokevirtual 20, 3) := zd zm_13000 (by decide +kernel)
theorem d_13000_83 {σ : Nat → Nat} {n0 : Nat} {bf : ab_B} : decode (ab_code (zx σ n0 bf).1 13000) 83 = .ok (.checkcast 39, 3) := zd zm_13000 (by decide +kernel)
theorem d_13000_86 {σ : Nat → Nat} {n0 : Nat} {bf : ab_B} : decode (ab_code (zx σ n0 bf).1 13000) 86 = .ok (.getfield 41, 3) := zd zm_13000 (by decide +kernel)
theorem d_13000_89 {σ : Nat → Nat} {n0 : Nat} {bf : ab_B} : decode (ab_code (zx σ n0 bf).1 13000) 89 = .ok (.iload_n 1, 1) := zd zm_13000 (by decide +kernel)
theorem d_13000_90 {σ : Nat → Nat} {n0 : Nat} {bf : ab_B} : decode (ab_code (zx σ n0 bf).1 13000) 90 = .ok (.invokevirtual 45, 3) := zd zm_13000 (by decide +kernel)
theorem d_13000_93 {σ : Nat → Nat} {n0 : Nat} {bf : ab_B} : decode (ab_code (zx σ n0 bf).1 13000) 93 = .ok (.astore_n 3, 1) := zd zm_13000 (by decide +kernel)
theorem d_13000_94 {σ : Nat → Nat} {n0 : Nat} {bf : ab_B} : decode (ab_code (zx σ n0 bf).1 13000) 94 = .ok (.aload_n 3, 1) := zd zm_13000 (by decide +kernel)
theorem d_13000_95 {σ : Nat → Nat} {n0 : Nat} {bf : ab_B} : decode (ab_code (zx σ n0 bf).1 13000) 95 = .ok (.ifnull 5, 3) := zd zm_13000 (by decide +kernel)
theorem d_13000_98 {σ : Nat → Nat} {n0 : Nat} {bf : ab_B} : decode (ab_code (zx σ n0 bf).1 13000) 98 = .ok (.aload_n 3, 1) := zd zm_13000 (by decide +kernel)
theorem d_13000_99 {σ : Nat → Nat} {n0 : Nat} {bf : ab_B} : decode (ab_code (zx σ n0 bf).1 13000) 99 = .ok (.areturn, 1) := zd zm_13000 (by decide +kernel)
theorem d_13000_100 {σ : Nat → Nat} {n0 : Nat} {bf : ab_B} : decode (ab_code (zx σ n0 bf).1 13000) 100 = .ok (.iinc 2 1, 3) := zd zm_13000 (by decide +kernel)
theorem d_13000_103 {σ : Nat → Nat} {n0 : Nat} {bf : ab_B} : decode (ab_code (zx σ n0 bf).1 13000) 103 = .ok (.goto (-52), 3) := zd zm_13000 (by decide +kernel)
theorem d_13000_106 {σ : Nat → Nat} {n0 : Nat} {bf : ab_B} : decode (ab_code (zx σ n0 bf).1 13000) 106 = .ok (.aconst_null, 1) := zd zm_13000 (by decide +kernel)
theorem d_13000_107 {σ : Nat → Nat} {n0 : Nat} {bf : ab_B} : decode (ab_code (zx σ n0 bf).1 13000) 107 = .ok (.areturn, 1) := zd zm_13000 (by decide +kernel)
def w_X14_find_2 (X : zs_X) (d : Nat) (p0 : Nat) (p1 : Int32) (p2 : Int32) (S : zs_T) (Q : zs_Q) : Prop :=
  (zs_K S p0 = some (.inl 13) ∧ ∃ b2, (zs_R S 13000 p0) = some b2 ∧ zs_K S b2 = some (.inl 16) ∧ zs_C X d 16001 [.ref b2] S (zs_kI (fun v6 S5 => (((v6 ≤ p2 → (zs_U X d 13000 51 [(0, .ref p0), (1, .int p1), (2, .int (0 : Int32))] [] S5 Q)) ∧ (¬ (v6 ≤ p2) → (zs_K S5 p0 = some (.inl 13) ∧ ∃ b9, (zs_R S5 13000 p0) = some b9 ∧ zs_K S5 b9 = some (.inl 16) ∧ zs_C X d 16009 [.ref b9, .int p2] S5 (zs_kR (fun v13 S12 => ((∀ a, v13 = some a → zs_K S12 a = some (.inl 12)) ∧ ∃ b15, v13 = some b15 ∧ zs_K S12 b15 = some (.inl 12) ∧ ((¬ (zs_I S12 12000 b15) = p1 → (zs_U X d 13000 2 [(0, .ref p0), (1, .int p1), (2, .int (p2 + (1 : Int32)))] [] S12 Q)) ∧ (¬ (¬ (zs_I S12 12000 b15) = p1) → (zs_K S12 p0 = some (.inl 13) ∧ ∃ b20, (zs_R S12 13000 p0) = some b20 ∧ zs_K S12 b20 = some (.inl 16) ∧ zs_C X d 16009 [.ref b20, .int p2] S12 (zs_kR (fun v24 S23 => ((∀ a, v24 = some a → zs_K S23 a = some (.inl 12)) ∧ Q (.returned (some (va_rf v24))) S23)) Q)))))) Q)))))) Q))
theorem u_X14_find_2 {σ : Nat → Nat} {n0 : Nat} {bf : ab_B} {d : Nat} {p0 : Nat} {p1 : Int32} {p2 : Int32} {S : zs_T} {Q : zs_Q} (hB : zt_B bf) (h : w_X14_find_2 (zx σ n0 bf) d p0 p1 p2 S Q) : zs_U (zx σ n0 bf) d 13000 2 [(0, .ref p0), (1, .int p1), (2, .int p2)] [] S Q := by
  unfold w_X14_find_2 at h
  refine zu_iload_n d_13000_2 rfl ?_
  refine zu_aload_n d_13000_3 rfl (zs_ra _) ?_
  obtain ⟨k1, h⟩ := h
  refine zg_13_10 rfl d_13000_4 k1 ?_
  obtain ⟨b2, e3, h⟩ := h
  refine zs_stk0 (zs_rfe e3) ?_
  obtain ⟨k4, h⟩ := h
  refine zc_13_16  hB rfl k4 d_13000_7 (Nat.le_of_ble_eq_true rfl) h (fun v6 S5 h => ?_)
  refine zu_cmpge (t := 49) d_13000_10 rfl (fun c7 => ?_) (fun c7 => ?_)
  · have h := h.1 c7
    refine zu_iconst d_13000_49 zi_0 ?_
    refine zu_istore_n d_13000_50 (zs_lt zq_13000 rfl) ?_
    exact h.weak ⟨rfl, rfl, rfl, trivial⟩
  · have h := h.2 c7
    refine zu_aload_n d_13000_13 rfl (zs_ra _) ?_
    obtain ⟨k8, h⟩ := h
    refine zg_13_10 rfl d_13000_14 k8 ?_
    refine zu_iload_n d_13000_17 rfl ?_
    obtain ⟨b9, e10, h⟩ := h
    refine zs_stk1 (zs_rfe e10) ?_
    obtain ⟨k11, h⟩ := h
    refine zc_13_20 (x0 := p2) hB rfl k11 d_13000_18 (Nat.le_of_ble_eq_true rfl) h (fun v13 S12 h => ?_)
    obtain ⟨k14, h⟩ := h
    refine zk_13_24 (o := v13) rfl d_13000_21 k14 ?_
    obtain ⟨b15, e16, h⟩ := h
    refine zs_stk0 (zs_rfe e16) ?_
    obtain ⟨k17, h⟩ := h
    refine zg_13_26 rfl d_13000_24 k17 ?_
    refine zu_iload_n d_13000_27 rfl ?_
    refine zu_cmpne (t := 43) d_13000_28 rfl (fun c18 => ?_) (fun c18 => ?_)
    · have h := h.1 c18
      refine zu_iinc d_13000_43 rfl zi_1 (zs_lt zq_13000 rfl) ?_
      refine zu_goto (t := 2) d_13000_46 rfl ?_
      exact h.weak ⟨rfl, rfl, rfl, trivial⟩
    · have h := h.2 c18
      refine zu_aload_n d_13000_31 rfl (zs_ra _) ?_
      obtain ⟨k19, h⟩ := h
      refine zg_13_10 rfl d_13000_32 k19 ?_
      refine zu_iload_n d_13000_35 rfl ?_
      obtain ⟨b20, e21, h⟩ := h
      refine zs_stk1 (zs_rfe e21) ?_
      obtain ⟨k22, h⟩ := h
      refine zc_13_20 (x0 := p2) hB rfl k22 d_13000_36 (Nat.le_of_ble_eq_true rfl) h (fun v24 S23 h => ?_)
      obtain ⟨k25, h⟩ := h
      refine zk_13_24 (o := v24) rfl d_13000_39 k25 ?_
      exact zu_aret d_13000_42 zr_13000 (zs_rr _) h
def w_X14_find_94 (X : zs_X) (d : Nat) (p0 : Nat) (p1 : Int32) (p2 : Int32) (p3 : Option Nat) (S : zs_T) (Q : zs_Q) : Prop :=
  (((p3 = none → (zs_U X d 13000 51 [(0, .ref p0), (1, .int p1), (2, .int (p2 + (1 : Int32)))] [] S Q)) ∧ (∀ b1, p3 = some b1 → (Q (.returned (some (va_rf p3))) S))))
theorem u_X14_find_94 {σ : Nat → Nat} {n0 : Nat} {bf : ab_B} {d : Nat} {p0 : Nat} {p1 : Int32} {p2 : Int32} {p3 : Option Nat} {S : zs_T} {Q : zs_Q} (hB : zt_B bf) (h : w_X14_find_94 (zx σ n0 bf) d p0 p1 p2 p3 S Q) : zs_U (zx σ n0 bf) d 13000 94 [(0, .ref p0), (1, .int p1), (2, .int p2), (3, va_rf p3)] [] S Q := by
  unfold w_X14_find_94 at h
  refine zu_aload_n d_13000_94 rfl (zs_rr _) ?_
  refine zu_ifnull (u := p3) (t := 100) d_13000_95 rfl rfl (fun e2 => ?_) (fun b1 e2 => ?_)
  · have h := h.1 e2
    refine zu_iinc d_13000_100 rfl zi_1 (zs_lt zq_13000 rfl) ?_
    refine zu_goto (t := 51) d_13000_103 rfl ?_
    exact h.weak ⟨rfl, rfl, rfl, trivial⟩
  · have h := h.2 b1 e2
    refine zu_aload_n d_13000_98 rfl (zs_rr _) ?_
    exact zu_aret d_13000_99 zr_13000 (zs_rr _) h
def w_X14_find_51 (X : zs_X) (d : Nat) (p0 : Nat) (p1 : Int32) (p2 : Int32) (S : zs_T) (Q : zs_Q) : Prop :=
  (zs_K S p0 = some (.inl 13) ∧ (((zs_R S 13001 p0) = none → (Q (.returned (some (.null))) S)) ∧ (∀ b2, (zs_R S 13001 p0) = some b2 → (zs_K S b2 = some (.inl 14) ∧ ∃ b5, (zs_R S 14001 b2) = some b5 ∧ zs_K S b5 = some (.inl 16) ∧ zs_C X d 16001 [.ref b5] S (zs_kI (fun v9 S8 => (((v9 ≤ p2 → (Q (.returned (some (.null))) S8)) ∧ (¬ (v9 ≤ p2) → (zs_K S8 p0 = some (.inl 13) ∧ ∃ b12, (zs_R S8 13001 p0) = some b12 ∧ zs_K S8 b12 = some (.inl 14) ∧ ∃ b15, (zs_R S8 14001 b12) = some b15 ∧ zs_K S8 b15 = some (.inl 16) ∧ zs_C X d 16009 [.ref b15, .int p2] S8 (zs_kR (fun v19 S18 => ((∀ a, v19 = some a → zs_K S18 a = some (.inl 15)) ∧ ∃ b21, v19 = some b21 ∧ zs_K S18 b21 = some (.inl 15) ∧ ∃ b24, (zs_R S18 15002 b21) = some b24 ∧ zs_K S18 b24 = some (.inl 13) ∧ zs_C X d 13000 [.ref b24, .int p1] S18 (zs_kR (fun v28 S27 => (w_X14_find_94 X d p0 p1 p2 v28 S27 Q)) Q))) Q)))))) Q)))))
theorem u_X14_find_51 {σ : Nat → Nat} {n0 : Nat} {bf : ab_B} {d : Nat} {p0 : Nat} {p1 : Int32} {p2 : Int32} {S : zs_T} {Q : zs_Q} (hB : zt_B bf) (h : w_X14_find_51 (zx σ n0 bf) d p0 p1 p2 S Q) : zs_U (zx σ n0 bf) d 13000 51 [(0, .ref p0), (1, .int p1), (2, .int p2)] [] S Q := by
  unfold w_X14_find_51 at h
  refine zu_aload_n d_13000_51 rfl (zs_ra _) ?_
  obtain ⟨k1, h⟩ := h
  refine zg_13_30 rfl d_13000_52 k1 ?_
  refine zu_ifnull (u := (zs_R S 13001 p0)) (t := 106) d_13000_55 rfl rfl (fun e3 => ?_) (fun b2 e3 => ?_)
  · have h := h.1 e3
    refine zu_stk d_13000_106 rfl rfl ?_
    exact zu_aret d_13000_107 zr_13000 zs_r0 h
  · have h := h.2 b2 e3
    refine zu_iload_n d_13000_58 rfl ?_
    refine zu_aload_n d_13000_59 rfl (zs_ra _) ?_
    refine zg_13_30 rfl d_13000_60 k1 ?_
    refine zs_stk0 (zs_rfe e3) ?_
    obtain ⟨k4, h⟩ := h
    refine zg_13_34 rfl d_13000_63 k4 ?_
    obtain ⟨b5, e6, h⟩ := h
    refine zs_stk0 (zs_rfe e6) ?_
    obtain ⟨k7, h⟩ := h
    refine zc_13_16  hB rfl k7 d_13000_66 (Nat.le_of_ble_eq_true rfl) h (fun v9 S8 h => ?_)
    refine zu_cmpge (t := 106) d_13000_69 rfl (fun c10 => ?_) (fun c10 => ?_)
    · have h := h.1 c10
      refine zu_stk d_13000_106 rfl rfl ?_
      exact zu_aret d_13000_107 zr_13000 zs_r0 h
    · have h := h.2 c10
      refine zu_aload_n d_13000_72 rfl (zs_ra _) ?_
      obtain ⟨k11, h⟩ := h
      refine zg_13_30 rfl d_13000_73 k11 ?_
      obtain ⟨b12, e13, h⟩ := h
      refine zs_stk0 (zs_rfe e13) ?_
      obtain ⟨k14, h⟩ := h
      refine zg_13_34 rfl d_13000_76 k14 ?_
      refine zu_iload_n d_13000_79 rfl ?_
      obtain ⟨b15, e16, h⟩ := h
      refine zs_stk1 (zs_rfe e16) ?_
      obtain ⟨k17, h⟩ := h
      refine zc_13_20 (x0 := p2) hB rfl k17 d_13000_80 (Nat.le_of_ble_eq_true rfl) h (fun v19 S18 h => ?_)
      obtain ⟨k20, h⟩ := h
      refine zk_13_39 (o := v19) rfl d_13000_83 k20 ?_
      obtain ⟨b21, e22, h⟩ := h
      refine zs_stk0 (zs_rfe e22) ?_
      obtain ⟨k23, h⟩ := h
      refine zg_13_41 rfl d_13000_86 k23 ?_
      refine zu_iload_n d_13000_89 rfl ?_
      obtain ⟨b24, e25, h⟩ := h
      refine zs_stk1 (zs_rfe e25) ?_
      obtain ⟨k26, h⟩ := h
      refine zc_13_45 (x0 := p1) hB rfl k26 d_13000_90 (Nat.le_of_ble_eq_true rfl) h (fun v28 S27 h => ?_)
      refine zu_astore_n d_13000_93 (zs_rr _) (zs_lt zq_13000 rfl) ?_
      exact (u_X14_find_94 hB h).weak ⟨rfl, rfl, rfl, rfl, trivial⟩
def w_X14_find (X : zs_X) (d : Nat) (p0 : Nat) (p1 : Int32) (S : zs_T) (Q : zs_Q) : Prop :=
  (zs_U X d 13000 2 [(0, .ref p0), (1, .int p1), (2, .int (0 : Int32))] [] S Q)
theorem u_X14_find {σ : Nat → Nat} {n0 : Nat} {bf : ab_B} {d : Nat} {p0 : Nat} {p1 : Int32} {S : zs_T} {Q : zs_Q} (hB : zt_B bf) (hd : 1 ≤ d) (h : w_X14_find (zx σ n0 bf) (d - 1) p0 p1 S Q) : zs_C (zx σ n0 bf) d 13000 [.ref p0, .int p1] S Q := by
  have hL : lv_args 0 [.ref p0, .int p1] = [(0, .ref p0), (1, .int p1)] := rfl
  refine zs_C.of1 (hB.2 13000 (by decide) (by decide)) hd (by rw [hL]; exact zs_sub_self _ (by exact ⟨rfl, rfl, trivial⟩)) ?_
  rw [hL]
  clear hL
  unfold w_X14_find at h
  refine zu_iconst d_13000_0 zi_0 ?_
  refine zu_istore_n d_13000_1 (zs_lt zq_13000 rfl) ?_
  exact h.weak ⟨rfl, rfl, rfl, trivial⟩
/-! SchemaPascal$Fields.<init>()V -/
theorem zm_13001 {σ : Nat → Nat} {n0 : Nat} {bf : ab_B} : ab_code (zx σ n0 bf).1 13001 = prog_4_method_1_code := rfl
theorem zq_13001 {σ : Nat → Nat} {n0 : Nat} {bf : ab_B} : ab_maxL (zx σ n0 bf).1 13001 = 1 := rfl
theorem zr_13001 {σ : Nat → Nat} {n0 : Nat} {bf : ab_B} : ab_ret (zx σ n0 bf).1 13001 = (Option.none : Option Jvm.ClassFile.FieldType) := rfl
theorem d_13001_0 {σ : Nat → Nat} {n0 : Nat} {bf : ab_B} : decode (ab_code (zx σ n0 bf).1 13001) 0 = .ok (.aload_n 0, 1) := zd zm_13001 (by decide +kernel)
theorem d_13001_1 {σ : Nat → Nat} {n0 : Nat} {bf : ab_B} : decode (ab_code (zx σ n0 bf).1 13001) 1 = .ok (.invokespecial 1, 3) := zd zm_13001 (by decide +kernel)
theorem d_13001_4 {σ : Nat → Nat} {n0 : Nat} {bf : ab_B} : decode (ab_code (zx σ n0 bf).1 13001) 4 = .ok (.aload_n 0, 1) := zd zm_13001 (by decide +kernel)
theorem d_13001_5 {σ : Nat → Nat} {n0 : Nat} {bf : ab_B} : decode (ab_code (zx σ n0 bf).1 13001) 5 = .ok (.new 7, 3) := zd zm_13001 (by decide +kernel)
theorem d_13001_8 {σ : Nat → Nat} {n0 : Nat} {bf : ab_B} : decode (ab_code (zx σ n0 bf).1 13001) 8 = .ok (.dup, 1) := zd zm_13001 (by decide +kernel)
theorem d_13001_9 {σ : Nat → Nat} {n0 : Nat} {bf : ab_B} : decode (ab_code (zx σ n0 bf).1 13001) 9 = .ok (.invokespecial 9, 3) := zd zm_13001 (by decide +kernel)
theorem d_13001_12 {σ : Nat → Nat} {n0 : Nat} {bf : ab_B} : decode (ab_code (zx σ n0 bf).1 13001) 12 = .ok (.putfield 10, 3) := zd zm_13001 (by decide +kernel)
theorem d_13001_15 {σ : Nat → Nat} {n0 : Nat} {bf : ab_B} : decode (ab_code (zx σ n0 bf).1 13001) 15 = .ok (.return_, 1) := zd zm_13001 (by decide +kernel)
def w_X14_init (X : zs_X) (d : Nat) (p0 : Nat) (S : zs_T) (Q : zs_Q) : Prop :=
  (zs_C X d 39000 [.ref p0] S (zs_kV (fun S1 => (∀ a3 S4, a3 = zs_N S1 → S4 = zs_nw S1 (.inl 16) 3 → zs_C X d 16000 [.ref a3] S4 (zs_kV (fun S8 => (zs_K S8 p0 = some (.inl 13) ∧ ab_n0 X.1 ≤ p0 ∧ ∀ S12, S12 = zs_sR S8 13000 p0 (some a3) → Q (.returned none) S12)) Q))) Q))
theorem u_X14_init {σ : Nat → Nat} {n0 : Nat} {bf : ab_B} {d : Nat} {p0 : Nat} {S : zs_T} {Q : zs_Q} (hB : zt_B bf) (hd : 1 ≤ d) (h : w_X14_init (zx σ n0 bf) (d - 1) p0 S Q) : zs_C (zx σ n0 bf) d 13001 [.ref p0] S Q := by
  have hL : lv_args 0 [.ref p0] = [(0, .ref p0)] := rfl
  refine zs_C.of1 (hB.2 13001 (by decide) (by decide)) hd (by rw [hL]; exact zs_sub_self _ (by exact ⟨rfl, trivial⟩)) ?_
  rw [hL]
  clear hL
  unfold w_X14_init at h
  refine zu_aload_n d_13001_0 rfl (zs_ra _) ?_
  refine zc_13_1  hB rfl d_13001_1 (Nat.le_of_ble_eq_true rfl) h (fun S1 h => ?_)
  refine zu_aload_n d_13001_4 rfl (zs_ra _) ?_
  refine zn_13_7 rfl d_13001_5 ?_
  generalize e6 : zs_nw S1 (.inl 16) 3 = S4
  generalize e5 : zs_N S1 = a3
  have h := h a3 S4 e5.symm e6.symm
  have k7 := zs_kn e5 e6
  refine zu_dup d_13001_8 rfl ?_
  refine zc_13_9  hB rfl d_13001_9 (Nat.le_of_ble_eq_true rfl) h (fun S8 h => ?_)
  obtain ⟨k10, h⟩ := h
  obtain ⟨k11, h⟩ := h
  refine zp_13_10 (v := (some a3)) rfl d_13001_12 k10 k11 ?_
  generalize e13 : zs_sR S8 13000 p0 (some a3) = S12
  have h := h S12 e13.symm
  have K14 : ∀ b, zs_K S12 b = zs_K S8 b := zs_Kt e13 (zs_KsR _ _ _ _) (fun _ => rfl)
  exact zu_vret d_13001_15 zr_13001 h
/-! SchemaPascal$Part.<init>()V -/
theorem zm_14000 {σ : Nat → Nat} {n0 : Nat} {bf : ab_B} : ab_code (zx σ n0 bf).1 14000 = prog_7_method_1_code := rfl
theorem zq_14000 {σ : Nat → Nat} {n0 : Nat} {bf : ab_B} : ab_maxL (zx σ n0 bf).1 14000 = 1 := rfl
theorem zr_14000 {σ : Nat → Nat} {n0 : Nat} {bf : ab_B} : ab_ret (zx σ n0 bf).1 14000 = (Option.none : Option Jvm.ClassFile.FieldType) := rfl
theorem d_14000_0 {σ : Nat → Nat} {n0 : Nat} {bf : ab_B} : decode (ab_code (zx σ n0 bf).1 14000) 0 = .ok (.aload_n 0, 1) := zd zm_14000 (by decide +kernel)
theorem d_14000_1 {σ : Nat → Nat} {n0 : Nat} {bf : ab_B} : decode (ab_code (zx σ n0 bf).1 14000) 1 = .ok (.invokespecial 1, 3) := zd zm_14000 (by decide +kernel)
theorem d_14000_4 {σ : Nat → Nat} {n0 : Nat} {bf : ab_B} : decode (ab_code (zx σ n0 bf).1 14000) 4 = .ok (.aload_n 0, 1) := zd zm_14000 (by decide +kernel)
theorem d_14000_5 {σ : Nat → Nat} {n0 : Nat} {bf : ab_B} : decode (ab_code (zx σ n0 bf).1 14000) 5 = .ok (.new 7, 3) := zd zm_14000 (by decide +kernel)
theorem d_14000_8 {σ : Nat → Nat} {n0 : Nat} {bf : ab_B} : decode (ab_code (zx σ n0 bf).1 14000) 8 = .ok (.dup, 1) := zd zm_14000 (by decide +kernel)
theorem d_14000_9 {σ : Nat → Nat} {n0 : Nat} {bf : ab_B} : decode (ab_code (zx σ n0 bf).1 14000) 9 = .ok (.invokespecial 9, 3) := zd zm_14000 (by decide +kernel)
theorem d_14000_12 {σ : Nat → Nat} {n0 : Nat} {bf : ab_B} : decode (ab_code (zx σ n0 bf).1 14000) 12 = .ok (.putfield 10, 3) := zd zm_14000 (by decide +kernel)
theorem d_14000_15 {σ : Nat → Nat} {n0 : Nat} {bf : ab_B} : decode (ab_code (zx σ n0 bf).1 14000) 15 = .ok (.return_, 1) := zd zm_14000 (by decide +kernel)
def w_X15_init (X : zs_X) (d : Nat) (p0 : Nat) (S : zs_T) (Q : zs_Q) : Prop :=
  (zs_C X d 39000 [.ref p0] S (zs_kV (fun S1 => (∀ a3 S4, a3 = zs_N S1 → S4 = zs_nw S1 (.inl 16) 3 → zs_C X d 16000 [.ref a3] S4 (zs_kV (fun S8 => (zs_K S8 p0 = some (.inl 14) ∧ ab_n0 X.1 ≤ p0 ∧ ∀ S12, S12 = zs_sR S8 14001 p0 (some a3) → Q (.returned none) S12)) Q))) Q))
theorem u_X15_init {σ : Nat → Nat} {n0 : Nat} {bf : ab_B} {d : Nat} {p0 : Nat} {S : zs_T} {Q : zs_Q} (hB : zt_B bf) (hd : 1 ≤ d) (h : w_X15_init (zx σ n0 bf) (d - 1) p0 S Q) : zs_C (zx σ n0 bf) d 14000 [.ref p0] S Q := by
  have hL : lv_args 0 [.ref p0] = [(0, .ref p0)] := rfl
  refine zs_C.of1 (hB.2 14000 (by decide) (by decide)) hd (by rw [hL]; exact zs_sub_self _ (by exact ⟨rfl, trivial⟩)) ?_
  rw [hL]
  clear hL
  unfold w_X15_init at h
  refine zu_aload_n d_14000_0 rfl (zs_ra _) ?_
  refine zc_14_1  hB rfl d_14000_1 (Nat.le_of_ble_eq_true rfl) h (fun S1 h => ?_)
  refine zu_aload_n d_14000_4 rfl (zs_ra _) ?_
  refine zn_14_7 rfl d_14000_5 ?_
  generalize e6 : zs_nw S1 (.inl 16) 3 = S4
  generalize e5 : zs_N S1 = a3
  have h := h a3 S4 e5.symm e6.symm
  have k7 := zs_kn e5 e6
  refine zu_dup d_14000_8 rfl ?_
  refine zc_14_9  hB rfl d_14000_9 (Nat.le_of_ble_eq_true rfl) h (fun S8 h => ?_)
  obtain ⟨k10, h⟩ := h
  obtain ⟨k11, h⟩ := h
  refine zp_14_10 (v := (some a3)) rfl d_14000_12 k10 k11 ?_
  generalize e13 : zs_sR S8 14001 p0 (some a3) = S12
  have h := h S12 e13.symm
  have K14 : ∀ b, zs_K S12 b = zs_K S8 b := zs_Kt e13 (zs_KsR _ _ _ _) (fun _ => rfl)
  exact zu_vret d_14000_15 zr_14000 h
/-! SchemaPascal$Part.by(J)LSchemaPascal$Variant; -/
theorem zm_14001 {σ : Nat → Nat} {n0 : Nat} {bf : ab_B} : ab_code (zx σ n0 bf).1 14001 = prog_7_method_2_code := rfl
theorem zq_14001 {σ : Nat → Nat} {n0 : Nat} {bf : ab_B} : ab_maxL (zx σ n0 bf).1 14001 = 4 := rfl
theorem zr_14001 {σ : Nat → Nat} {n0 : Nat} {bf : ab_B} : ab_ret (zx σ n0 bf).1 14001 = (Option.some (Jvm.ClassFile.FieldType.object "SchemaPascal$Variant")) := rfl
theorem d_14001_0 {σ : Nat → Nat} {n0 : Nat} {bf : ab_B} : decode (ab_code (zx σ n0 bf).1 14001) 0 = .ok (.iconst 0, 1) := zd zm_14001 (by decide +kernel)
theorem d_14001_1 {σ : Nat → Nat} {n0 : Nat} {bf : ab_B} : decode (ab_code (zx σ n0 bf).1 14001) 1 = .ok (.istore_n 3, 1) := zd zm_14001 (by decide +kernel)
theorem d_14001_2 {σ : Nat → Nat} {n0 : Nat} {bf : ab_B} : decode (ab_code (zx σ n0 bf).1 14001) 2 = .ok (.iload_n 3, 1) := zd zm_14001 (by decide +kernel)
theorem d_14001_3 {σ : Nat → Nat} {n0 : Nat} {bf : ab_B} : decode (ab_code (zx σ n0 bf).1 14001) 3 = .ok (.aload_n 0, 1) := zd zm_14001 (by decide +kernel)
theorem d_14001_4 {σ : Nat → Nat} {n0 : Nat} {bf : ab_B} : decode (ab_code (zx σ n0 bf).1 14001) 4 = .ok (.getfield 10, 3) := zd zm_14001 (by decide +kernel)
theorem d_14001_7 {σ : Nat → Nat} {n0 : Nat} {bf : ab_B} : decode (ab_code (zx σ n0 bf).1 14001) 7 = .ok (.invokevirtual 16, 3) := zd zm_14001 (by decide +kernel)
theorem d_14001_10 {σ : Nat → Nat} {n0 : Nat} {bf : ab_B} : decode (ab_code (zx σ n0 bf).1 14001) 10 = .ok (.if_icmp .ge 39, 3) := zd zm_14001 (by decide +kernel)
theorem d_14001_13 {σ : Nat → Nat} {n0 : Nat} {bf : ab_B} : decode (ab_code (zx σ n0 bf).1 14001) 13 = .ok (.aload_n 0, 1) := zd zm_14001 (by decide +kernel)
theorem d_14001_14 {σ : Nat → Nat} {n0 : Nat} {bf : ab_B} : decode (ab_code (zx σ n0 bf).1 14001) 14 = .ok (.getfield 10, 3) := zd zm_14001 (by decide +kernel)
theorem d_14001_17 {σ : Nat → Nat} {n0 : Nat} {bf : ab_B} : decode (ab_code (zx σ n0 bf).1 14001) 17 = .ok (.iload_n 3, 1) := zd zm_14001 (by decide +kernel)
theorem d_14001_18 {σ : Nat → Nat} {n0 : Nat} {bf : ab_B} : decode (ab_code (zx σ n0 bf).1 14001) 18 = .ok (.invokevirtual 20, 3) := zd zm_14001 (by decide +kernel)
theorem d_14001_21 {σ : Nat → Nat} {n0 : Nat} {bf : ab_B} : decode (ab_code (zx σ n0 bf).1 14001) 21 = .ok (.checkcast 24, 3) := zd zm_14001 (by decide +kernel)
theorem d_14001_24 {σ : Nat → Nat} {n0 : Nat} {bf : ab_B} : decode (ab_code (zx σ n0 bf).1 14001) 24 = .ok (.lload_n 1, 1) := zd zm_14001 (by decide +kernel)
theorem d_14001_25 {σ : Nat → Nat} {n0 : Nat} {bf : ab_B} : decode (ab_code (zx σ n0 bf).1 14001) 25 = .ok (.invokevirtual 26, 3) := zd zm_14001 (by decide +kernel)
theorem d_14001_28 {σ : Nat → Nat} {n0 : Nat} {bf : ab_B} : decode (ab_code (zx σ n0 bf).1 14001) 28 = .ok (.ifCond .eq 15, 3) := zd zm_14001 (by decide +kernel)
theorem d_14001_31 {σ : Nat → Nat} {n0 : Nat} {bf : ab_B} : decode (ab_code (zx σ n0 bf).1 14001) 31 = .ok (.aload_n 0, 1) := zd zm_14001 (by decide +kernel)
theorem d_14001_32 {σ : Nat → Nat} {n0 : Nat} {bf : ab_B} : decode (ab_code (zx σ n0 bf).1 14001) 32 = .ok (.getfield 10, 3) := zd zm_14001 (by decide +kernel)
theorem d_14001_35 {σ : Nat → Nat} {n0 : Nat} {bf : ab_B} : decode (ab_code (zx σ n0 bf).1 14001) 35 = .ok (.iload_n 3, 1) := zd zm_14001 (by decide +kernel)
theorem d_14001_36 {σ : Nat → Nat} {n0 : Nat} {bf : ab_B} : decode (ab_code (zx σ n0 bf).1 14001) 36 = .ok (.invokevirtual 20, 3) := zd zm_14001 (by decide +kernel)
theorem d_14001_39 {σ : Nat → Nat} {n0 : Nat} {bf : ab_B} : decode (ab_code (zx σ n0 bf).1 14001) 39 = .ok (.checkcast 24, 3) := zd zm_14001 (by decide +kernel)
theorem d_14001_42 {σ : Nat → Nat} {n0 : Nat} {bf : ab_B} : decode (ab_code (zx σ n0 bf).1 14001) 42 = .ok (.areturn, 1) := zd zm_14001 (by decide +kernel)
theorem d_14001_43 {σ : Nat → Nat} {n0 : Nat} {bf : ab_B} : decode (ab_code (zx σ n0 bf).1 14001) 43 = .ok (.iinc 3 1, 3) := zd zm_14001 (by decide +kernel)
theorem d_14001_46 {σ : Nat → Nat} {n0 : Nat} {bf : ab_B} : decode (ab_code (zx σ n0 bf).1 14001) 46 = .ok (.goto (-44), 3) := zd zm_14001 (by decide +kernel)
theorem d_14001_49 {σ : Nat → Nat} {n0 : Nat} {bf : ab_B} : decode (ab_code (zx σ n0 bf).1 14001) 49 = .ok (.aconst_null, 1) := zd zm_14001 (by decide +kernel)
theorem d_14001_50 {σ : Nat → Nat} {n0 : Nat} {bf : ab_B} : decode (ab_code (zx σ n0 bf).1 14001) 50 = .ok (.areturn, 1) := zd zm_14001 (by decide +kernel)
def w_X15_by_2 (X : zs_X) (d : Nat) (p0 : Nat) (p1 : Int64) (p3 : Int32) (S : zs_T) (Q : zs_Q) : Prop :=
  (zs_K S p0 = some (.inl 14) ∧ ∃ b2, (zs_R S 14001 p0) = some b2 ∧ zs_K S b2 = some (.inl 16) ∧ zs_C X d 16001 [.ref b2] S (zs_kI (fun v6 S5 => (((v6 ≤ p3 → (Q (.returned (some (.null))) S5)) ∧ (¬ (v6 ≤ p3) → (zs_K S5 p0 = some (.inl 14) ∧ ∃ b9, (zs_R S5 14001 p0) = some b9 ∧ zs_K S5 b9 = some (.inl 16) ∧ zs_C X d 16009 [.ref b9, .int p3] S5 (zs_kR (fun v13 S12 => ((∀ a, v13 = some a → zs_K S12 a = some (.inl 15)) ∧ ∃ b15, v13 = some b15 ∧ zs_K S12 b15 = some (.inl 15) ∧ zs_C X d 15001 [.ref b15, .long p1] S12 (zs_kI (fun v19 S18 => (((v19 = 0 → (zs_U X d 14001 2 [(0, .ref p0), (1, .long p1), (3, .int (p3 + (1 : Int32)))] [] S18 Q)) ∧ (¬ (v19 = 0) → (zs_K S18 p0 = some (.inl 14) ∧ ∃ b22, (zs_R S18 14001 p0) = some b22 ∧ zs_K S18 b22 = some (.inl 16) ∧ zs_C X d 16009 [.ref b22, .int p3] S18 (zs_kR (fun v26 S25 => ((∀ a, v26 = some a → zs_K S25 a = some (.inl 15)) ∧ Q (.returned (some (va_rf v26))) S25)) Q)))))) Q))) Q)))))) Q))
theorem u_X15_by_2 {σ : Nat → Nat} {n0 : Nat} {bf : ab_B} {d : Nat} {p0 : Nat} {p1 : Int64} {p3 : Int32} {S : zs_T} {Q : zs_Q} (hB : zt_B bf) (h : w_X15_by_2 (zx σ n0 bf) d p0 p1 p3 S Q) : zs_U (zx σ n0 bf) d 14001 2 [(0, .ref p0), (1, .long p1), (3, .int p3)] [] S Q := by
  unfold w_X15_by_2 at h
  refine zu_iload_n d_14001_2 rfl ?_
  refine zu_aload_n d_14001_3 rfl (zs_ra _) ?_
  obtain ⟨k1, h⟩ := h
  refine zg_14_10 rfl d_14001_4 k1 ?_
  obtain ⟨b2, e3, h⟩ := h
  refine zs_stk0 (zs_rfe e3) ?_
  obtain ⟨k4, h⟩ := h
  refine zc_14_16  hB rfl k4 d_14001_7 (Nat.le_of_ble_eq_true rfl) h (fun v6 S5 h => ?_)
  refine zu_cmpge (t := 49) d_14001_10 rfl (fun c7 => ?_) (fun c7 => ?_)
  · have h := h.1 c7
    refine zu_stk d_14001_49 rfl rfl ?_
    exact zu_aret d_14001_50 zr_14001 zs_r0 h
  · have h := h.2 c7
    refine zu_aload_n d_14001_13 rfl (zs_ra _) ?_
    obtain ⟨k8, h⟩ := h
    refine zg_14_10 rfl d_14001_14 k8 ?_
    refine zu_iload_n d_14001_17 rfl ?_
    obtain ⟨b9, e10, h⟩ := h
    refine zs_stk1 (zs_rfe e10) ?_
    obtain ⟨k11, h⟩ := h
    refine zc_14_20 (x0 := p3) hB rfl k11 d_14001_18 (Nat.le_of_ble_eq_true rfl) h (fun v13 S12 h => ?_)
    obtain ⟨k14, h⟩ := h
    refine zk_14_24 (o := v13) rfl d_14001_21 k14 ?_
    refine zu_lload_n d_14001_24 rfl ?_
    obtain ⟨b15, e16, h⟩ := h
    refine zs_stk1 (zs_rfe e16) ?_
    obtain ⟨k17, h⟩ := h
    refine zc_14_26 (x0 := p1) hB rfl k17 d_14001_25 (Nat.le_of_ble_eq_true rfl) h (fun v19 S18 h => ?_)
    refine zu_ifeq (t := 43) d_14001_28 rfl (fun c20 => ?_) (fun c20 => ?_)
    · have h := h.1 c20
      refine zu_iinc d_14001_43 rfl zi_1 (zs_lt zq_14001 rfl) ?_
      refine zu_goto (t := 2) d_14001_46 rfl ?_
      exact h.weak ⟨rfl, rfl, rfl, trivial⟩
    · have h := h.2 c20
      refine zu_aload_n d_14001_31 rfl (zs_ra _) ?_
      obtain ⟨k21, h⟩ := h
      refine zg_14_10 rfl d_14001_32 k21 ?_
      refine zu_iload_n d_14001_35 rfl ?_
      obtain ⟨b22, e23, h⟩ := h
      refine zs_stk1 (zs_rfe e23) ?_
      obtain ⟨k24, h⟩ := h
      refine zc_14_20 (x0 := p3) hB rfl k24 d_14001_36 (Nat.le_of_ble_eq_true rfl) h (fun v26 S25 h => ?_)
      obtain ⟨k27, h⟩ := h
      refine zk_14_24 (o := v26) rfl d_14001_39 k27 ?_
      exact zu_aret d_14001_42 zr_14001 (zs_rr _) h
def w_X15_by (X : zs_X) (d : Nat) (p0 : Nat) (p1 : Int64) (S : zs_T) (Q : zs_Q) : Prop :=
  (zs_U X d 14001 2 [(0, .ref p0), (1, .long p1), (3, .int (0 : Int32))] [] S Q)
theorem u_X15_by {σ : Nat → Nat} {n0 : Nat} {bf : ab_B} {d : Nat} {p0 : Nat} {p1 : Int64} {S : zs_T} {Q : zs_Q} (hB : zt_B bf) (hd : 1 ≤ d) (h : w_X15_by (zx σ n0 bf) (d - 1) p0 p1 S Q) : zs_C (zx σ n0 bf) d 14001 [.ref p0, .long p1] S Q := by
  have hL : lv_args 0 [.ref p0, .long p1] = [(0, .ref p0), (1, .long p1)] := rfl
  refine zs_C.of1 (hB.2 14001 (by decide) (by decide)) hd (by rw [hL]; exact zs_sub_self _ (by exact ⟨rfl, rfl, trivial⟩)) ?_
  rw [hL]
  clear hL
  unfold w_X15_by at h
  refine zu_iconst d_14001_0 zi_0 ?_
  refine zu_istore_n d_14001_1 (zs_lt zq_14001 rfl) ?_
  exact h.weak ⟨rfl, rfl, rfl, trivial⟩
/-! SchemaPascal$Variant.<init>(LSchemaPascal$Part;)V -/
theorem zm_15000 {σ : Nat → Nat} {n0 : Nat} {bf : ab_B} : ab_code (zx σ n0 bf).1 15000 = prog_14_method_1_code := rfl
theorem zq_15000 {σ : Nat → Nat} {n0 : Nat} {bf : ab_B} : ab_maxL (zx σ n0 bf).1 15000 = 2 := rfl
theorem zr_15000 {σ : Nat → Nat} {n0 : Nat} {bf : ab_B} : ab_ret (zx σ n0 bf).1 15000 = (Option.none : Option Jvm.ClassFile.FieldType) := rfl
theorem d_15000_0 {σ : Nat → Nat} {n0 : Nat} {bf : ab_B} : decode (ab_code (zx σ n0 bf).1 15000) 0 = .ok (.aload_n 0, 1) := zd zm_15000 (by decide +kernel)
theorem d_15000_1 {σ : Nat → Nat} {n0 : Nat} {bf : ab_B} : decode (ab_code (zx σ n0 bf).1 15000) 1 = .ok (.invokespecial 1, 3) := zd zm_15000 (by decide +kernel)
theorem d_15000_4 {σ : Nat → Nat} {n0 : Nat} {bf : ab_B} : decode (ab_code (zx σ n0 bf).1 15000) 4 = .ok (.aload_n 0, 1) := zd zm_15000 (by decide +kernel)
theorem d_15000_5 {σ : Nat → Nat} {n0 : Nat} {bf : ab_B} : decode (ab_code (zx σ n0 bf).1 15000) 5 = .ok (.new 7, 3) := zd zm_15000 (by decide +kernel)
theorem d_15000_8 {σ : Nat → Nat} {n0 : Nat} {bf : ab_B} : decode (ab_code (zx σ n0 bf).1 15000) 8 = .ok (.dup, 1) := zd zm_15000 (by decide +kernel)
theorem d_15000_9 {σ : Nat → Nat} {n0 : Nat} {bf : ab_B} : decode (ab_code (zx σ n0 bf).1 15000) 9 = .ok (.invokespecial 9, 3) := zd zm_15000 (by decide +kernel)
theorem d_15000_12 {σ : Nat → Nat} {n0 : Nat} {bf : ab_B} : decode (ab_code (zx σ n0 bf).1 15000) 12 = .ok (.putfield 10, 3) := zd zm_15000 (by decide +kernel)
theorem d_15000_15 {σ : Nat → Nat} {n0 : Nat} {bf : ab_B} : decode (ab_code (zx σ n0 bf).1 15000) 15 = .ok (.aload_n 0, 1) := zd zm_15000 (by decide +kernel)
theorem d_15000_16 {σ : Nat → Nat} {n0 : Nat} {bf : ab_B} : decode (ab_code (zx σ n0 bf).1 15000) 16 = .ok (.new 16, 3) := zd zm_15000 (by decide +kernel)
theorem d_15000_19 {σ : Nat → Nat} {n0 : Nat} {bf : ab_B} : decode (ab_code (zx σ n0 bf).1 15000) 19 = .ok (.dup, 1) := zd zm_15000 (by decide +kernel)
theorem d_15000_20 {σ : Nat → Nat} {n0 : Nat} {bf : ab_B} : decode (ab_code (zx σ n0 bf).1 15000) 20 = .ok (.invokespecial 18, 3) := zd zm_15000 (by decide +kernel)
theorem d_15000_23 {σ : Nat → Nat} {n0 : Nat} {bf : ab_B} : decode (ab_code (zx σ n0 bf).1 15000) 23 = .ok (.putfield 19, 3) := zd zm_15000 (by decide +kernel)
theorem d_15000_26 {σ : Nat → Nat} {n0 : Nat} {bf : ab_B} : decode (ab_code (zx σ n0 bf).1 15000) 26 = .ok (.aload_n 0, 1) := zd zm_15000 (by decide +kernel)
theorem d_15000_27 {σ : Nat → Nat} {n0 : Nat} {bf : ab_B} : decode (ab_code (zx σ n0 bf).1 15000) 27 = .ok (.aload_n 1, 1) := zd zm_15000 (by decide +kernel)
theorem d_15000_28 {σ : Nat → Nat} {n0 : Nat} {bf : ab_B} : decode (ab_code (zx σ n0 bf).1 15000) 28 = .ok (.putfield 23, 3) := zd zm_15000 (by decide +kernel)
theorem d_15000_31 {σ : Nat → Nat} {n0 : Nat} {bf : ab_B} : decode (ab_code (zx σ n0 bf).1 15000) 31 = .ok (.return_, 1) := zd zm_15000 (by decide +kernel)
def w_X16_init (X : zs_X) (d : Nat) (p0 : Nat) (p1 : Option Nat) (S : zs_T) (Q : zs_Q) : Prop :=
  (zs_C X d 39000 [.ref p0] S (zs_kV (fun S1 => (∀ a3 S4, a3 = zs_N S1 → S4 = zs_nw S1 (.inl 16) 3 → zs_C X d 16000 [.ref a3] S4 (zs_kV (fun S8 => (zs_K S8 p0 = some (.inl 15) ∧ ab_n0 X.1 ≤ p0 ∧ ∀ S12, S12 = zs_sR S8 15001 p0 (some a3) → ∀ a15 S16, a15 = zs_N S12 → S16 = zs_nw S12 (.inl 13) 2 → zs_C X d 13001 [.ref a15] S16 (zs_kV (fun S20 => (zs_K S20 p0 = some (.inl 15) ∧ ∀ S23, S23 = zs_sR S20 15002 p0 (some a15) → ∀ S26, S26 = zs_sR S23 15000 p0 p1 → Q (.returned none) S26)) Q))) Q))) Q))
theorem u_X16_init {σ : Nat → Nat} {n0 : Nat} {bf : ab_B} {d : Nat} {p0 : Nat} {p1 : Option Nat} {S : zs_T} {Q : zs_Q} (hB : zt_B bf) (hd : 1 ≤ d) (h : w_X16_init (zx σ n0 bf) (d - 1) p0 p1 S Q) : zs_C (zx σ n0 bf) d 15000 [.ref p0, va_rf p1] S Q := by
  have hL : lv_args 0 [.ref p0, va_rf p1] = [(0, .ref p0), (1, va_rf p1)] := by simp [lv_args, zs_cat, zs_cI, zs_cJ, zs_cA]
  refine zs_C.of1 (hB.2 15000 (by decide) (by decide)) hd (by rw [hL]; exact zs_sub_self _ (by exact ⟨rfl, rfl, trivial⟩)) ?_
  rw [hL]
  clear hL
  unfold w_X16_init at h
  refine zu_aload_n d_15000_0 rfl (zs_ra _) ?_
  refine zc_15_1  hB rfl d_15000_1 (Nat.le_of_ble_eq_true rfl) h (fun S1 h => ?_)
  refine zu_aload_n d_15000_4 rfl (zs_ra _) ?_
  refine zn_15_7 rfl d_15000_5 ?_
  generalize e6 : zs_nw S1 (.inl 16) 3 = S4
  generalize e5 : zs_N S1 = a3
  have h := h a3 S4 e5.symm e6.symm
  have k7 := zs_kn e5 e6
  refine zu_dup d_15000_8 rfl ?_
  refine zc_15_9  hB rfl d_15000_9 (Nat.le_of_ble_eq_true rfl) h (fun S8 h => ?_)
  obtain ⟨k10, h⟩ := h
  obtain ⟨k11, h⟩ := h
  refine zp_15_10 (v := (some a3)) rfl d_15000_12 k10 k11 ?_
  generalize e13 : zs_sR S8 15001 p0 (some a3) = S12
  have h := h S12 e13.symm
  have K14 : ∀ b, zs_K S12 b = zs_K S8 b := zs_Kt e13 (zs_KsR _ _ _ _) (fun _ => rfl)
  refine zu_aload_n d_15000_15 rfl (zs_ra _) ?_
  refine zn_15_16 rfl d_15000_16 ?_
  generalize e18 : zs_nw S12 (.inl 13) 2 = S16
  generalize e17 : zs_N S12 = a15
  have h := h a15 S16 e17.symm e18.symm
  have k19 := zs_kn e17 e18
  refine zu_dup d_15000_19 rfl ?_
  refine zc_15_18  hB rfl d_15000_20 (Nat.le_of_ble_eq_true rfl) h (fun S20 h => ?_)
  obtain ⟨k22, h⟩ := h
  refine zp_15_19 (v := (some a15)) rfl d_15000_23 k22 k11 ?_
  generalize e24 : zs_sR S20 15002 p0 (some a15) = S23
  have h := h S23 e24.symm
  have K25 : ∀ b, zs_K S23 b = zs_K S20 b := zs_Kt e24 (zs_KsR _ _ _ _) (fun _ => rfl)
  refine zu_aload_n d_15000_26 rfl (zs_ra _) ?_
  refine zu_aload_n d_15000_27 rfl (zs_rr _) ?_
  refine zp_15_23 (v := p1) rfl d_15000_28 ((K25 _).trans k22) k11 ?_
  generalize e27 : zs_sR S23 15000 p0 p1 = S26
  have h := h S26 e27.symm
  have K28 : ∀ b, zs_K S26 b = zs_K S20 b := zs_Kt e27 (zs_KsR _ _ _ _) K25
  exact zu_vret d_15000_31 zr_15000 h
/-! SchemaPascal$Variant.has(J)Z -/
theorem zm_15001 {σ : Nat → Nat} {n0 : Nat} {bf : ab_B} : ab_code (zx σ n0 bf).1 15001 = prog_14_method_2_code := rfl
theorem zq_15001 {σ : Nat → Nat} {n0 : Nat} {bf : ab_B} : ab_maxL (zx σ n0 bf).1 15001 = 4 := rfl
theorem zr_15001 {σ : Nat → Nat} {n0 : Nat} {bf : ab_B} : ab_ret (zx σ n0 bf).1 15001 = (Option.some Jvm.ClassFile.FieldType.boolean) := rfl
theorem d_15001_0 {σ : Nat → Nat} {n0 : Nat} {bf : ab_B} : decode (ab_code (zx σ n0 bf).1 15001) 0 = .ok (.iconst 0, 1) := zd zm_15001 (by decide +kernel)
theorem d_15001_1 {σ : Nat → Nat} {n0 : Nat} {bf : ab_B} : decode (ab_code (zx σ n0 bf).1 15001) 1 = .ok (.istore_n 3, 1) := zd zm_15001 (by decide +kernel)
theorem d_15001_2 {σ : Nat → Nat} {n0 : Nat} {bf : ab_B} : decode (ab_code (zx σ n0 bf).1 15001) 2 = .ok (.iload_n 3, 1) := zd zm_15001 (by decide +kernel)
theorem d_15001_3 {σ : Nat → Nat} {n0 : Nat} {bf : ab_B} : decode (ab_code (zx σ n0 bf).1 15001) 3 = .ok (.aload_n 0, 1) := zd zm_15001 (by decide +kernel)
theorem d_15001_4 {σ : Nat → Nat} {n0 : Nat} {bf : ab_B} : decode (ab_code (zx σ n0 bf).1 15001) 4 = .ok (.getfield 10, 3) := zd zm_15001 (by decide +kernel)
theorem d_15001_7 {σ : Nat → Nat} {n0 : Nat} {bf : ab_B} : decode (ab_code (zx σ n0 bf).1 15001) 7 = .ok (.invokevirtual 27, 3) := zd zm_15001 (by decide +kernel)
theorem d_15001_10 {σ : Nat → Nat} {n0 : Nat} {bf : ab_B} : decode (ab_code (zx σ n0 bf).1 15001) 10 = .ok (.if_icmp .ge 51, 3) := zd zm_15001 (by decide +kernel)
theorem d_15001_13 {σ : Nat → Nat} {n0 : Nat} {bf : ab_B} : decode (ab_code (zx σ n0 bf).1 15001) 13 = .ok (.lload_n 1, 1) := zd zm_15001 (by decide +kernel)
theorem d_15001_14 {σ : Nat → Nat} {n0 : Nat} {bf : ab_B} : decode (ab_code (zx σ n0 bf).1 15001) 14 = .ok (.aload_n 0, 1) := zd zm_15001 (by decide +kernel)
theorem d_15001_15 {σ : Nat → Nat} {n0 : Nat} {bf : ab_B} : decode (ab_code (zx σ n0 bf).1 15001) 15 = .ok (.getfield 10, 3) := zd zm_15001 (by decide +kernel)
theorem d_15001_18 {σ : Nat → Nat} {n0 : Nat} {bf : ab_B} : decode (ab_code (zx σ n0 bf).1 15001) 18 = .ok (.iload_n 3, 1) := zd zm_15001 (by decide +kernel)
theorem d_15001_19 {σ : Nat → Nat} {n0 : Nat} {bf : ab_B} : decode (ab_code (zx σ n0 bf).1 15001) 19 = .ok (.invokevirtual 31, 3) := zd zm_15001 (by decide +kernel)
theorem d_15001_22 {σ : Nat → Nat} {n0 : Nat} {bf : ab_B} : decode (ab_code (zx σ n0 bf).1 15001) 22 = .ok (.checkcast 35, 3) := zd zm_15001 (by decide +kernel)
theorem d_15001_25 {σ : Nat → Nat} {n0 : Nat} {bf : ab_B} : decode (ab_code (zx σ n0 bf).1 15001) 25 = .ok (.invokevirtual 37, 3) := zd zm_15001 (by decide +kernel)
theorem d_15001_28 {σ : Nat → Nat} {n0 : Nat} {bf : ab_B} : decode (ab_code (zx σ n0 bf).1 15001) 28 = .ok (.lcmp, 1) := zd zm_15001 (by decide +kernel)
theorem d_15001_29 {σ : Nat → Nat} {n0 : Nat} {bf : ab_B} : decode (ab_code (zx σ n0 bf).1 15001) 29 = .ok (.ifCond .lt 26, 3) := zd zm_15001 (by decide +kernel)
theorem d_15001_32 {σ : Nat → Nat} {n0 : Nat} {bf : ab_B} : decode (ab_code (zx σ n0 bf).1 15001) 32 = .ok (.lload_n 1, 1) := zd zm_15001 (by decide +kernel)
theorem d_15001_33 {σ : Nat → Nat} {n0 : Nat} {bf : ab_B} : decode (ab_code (zx σ n0 bf).1 15001) 33 = .ok (.aload_n 0, 1) := zd zm_15001 (by decide +kernel)
theorem d_15001_34 {σ : Nat → Nat} {n0 : Nat} {bf : ab_B} : decode (ab_code (zx σ n0 bf).1 15001) 34 = .ok (.getfield 10, 3) := zd zm_15001 (by decide +kernel)
theorem d_15001_37 {σ : Nat → Nat} {n0 : Nat} {bf : ab_B} : decode (ab_code (zx σ n0 bf).1 15001) 37 = .ok (.iload_n 3, 1) := zd zm_15001 (by decide +kernel)
theorem d_15001_38 {σ : Nat → Nat} {n0 : Nat} {bf : ab_B} : decode (ab_code (zx σ n0 bf).1 15001) 38 = .ok (.iconst 1, 1) := zd zm_15001 (by decide +kernel)
theorem d_15001_39 {σ : Nat → Nat} {n0 : Nat} {bf : ab_B} : decode (ab_code (zx σ n0 bf).1 15001) 39 = .ok (.iadd, 1) := zd zm_15001 (by decide +kernel)
theorem d_15001_40 {σ : Nat → Nat} {n0 : Nat} {bf : ab_B} : decode (ab_code (zx σ n0 bf).1 15001) 40 = .ok (.invokevirtual 31, 3) := zd zm_15001 (by decide +kernel)
theorem d_15001_43 {σ : Nat → Nat} {n0 : Nat} {bf : ab_B} : decode (ab_code (zx σ n0 bf).1 15001) 43 = .ok (.checkcast 35, 3) := zd zm_15001 (by decide +kernel)
theorem d_15001_46 {σ : Nat → Nat} {n0 : Nat} {bf : ab_B} : decode (ab_code (zx σ n0 bf).1 15001) 46 = .ok (.invokevirtual 37, 3) := zd zm_15001 (by decide +kernel)
theorem d_15001_49 {σ : Nat → Nat} {n0 : Nat} {bf : ab_B} : decode (ab_code (zx σ n0 bf).1 15001) 49 = .ok (.lcmp, 1) := zd zm_15001 (by decide +kernel)
theorem d_15001_50 {σ : Nat → Nat} {n0 : Nat} {bf : ab_B} : decode (ab_code (zx σ n0 bf).1 15001) 50 = .ok (.ifCond .gt 5, 3) := zd zm_15001 (by decide +kernel)
theorem d_15001_53 {σ : Nat → Nat} {n0 : Nat} {bf : ab_B} : decode (ab_code (zx σ n0 bf).1 15001) 53 = .ok (.iconst 1, 1) := zd zm_15001 (by decide +kernel)
theorem d_15001_54 {σ : Nat → Nat} {n0 : Nat} {bf : ab_B} : decode (ab_code (zx σ n0 bf).1 15001) 54 = .ok (.ireturn, 1) := zd zm_15001 (by decide +kernel)
theorem d_15001_55 {σ : Nat → Nat} {n0 : Nat} {bf : ab_B} : decode (ab_code (zx σ n0 bf).1 15001) 55 = .ok (.iinc 3 2, 3) := zd zm_15001 (by decide +kernel)
theorem d_15001_58 {σ : Nat → Nat} {n0 : Nat} {bf : ab_B} : decode (ab_code (zx σ n0 bf).1 15001) 58 = .ok (.goto (-56), 3) := zd zm_15001 (by decide +kernel)
theorem d_15001_61 {σ : Nat → Nat} {n0 : Nat} {bf : ab_B} : decode (ab_code (zx σ n0 bf).1 15001) 61 = .ok (.iconst 0, 1) := zd zm_15001 (by decide +kernel)
theorem d_15001_62 {σ : Nat → Nat} {n0 : Nat} {bf : ab_B} : decode (ab_code (zx σ n0 bf).1 15001) 62 = .ok (.ireturn, 1) := zd zm_15001 (by decide +kernel)
def w_X16_has_55 (X : zs_X) (d : Nat) (p0 : Nat) (p1 : Int64) (p3 : Int32) (S : zs_T) (Q : zs_Q) : Prop :=
  (zs_U X d 15001 2 [(0, .ref p0), (1, .long p1), (3, .int (p3 + (2 : Int32)))] [] S Q)
theorem u_X16_has_55 {σ : Nat → Nat} {n0 : Nat} {bf : ab_B} {d : Nat} {p0 : Nat} {p1 : Int64} {p3 : Int32} {S : zs_T} {Q : zs_Q} (hB : zt_B bf) (h : w_X16_has_55 (zx σ n0 bf) d p0 p1 p3 S Q) : zs_U (zx σ n0 bf) d 15001 55 [(0, .ref p0), (1, .long p1), (3, .int p3)] [] S Q := by
  unfold w_X16_has_55 at h
  refine zu_iinc d_15001_55 rfl zi_2 (zs_lt zq_15001 rfl) ?_
  refine zu_goto (t := 2) d_15001_58 rfl ?_
  exact h.weak ⟨rfl, rfl, rfl, trivial⟩
def w_X16_has_53 (X : zs_X) (d : Nat)  (S : zs_T) (Q : zs_Q) : Prop :=
  (Q (.returned (some (.int (1 : Int32)))) S)
theorem u_X16_has_53 {σ : Nat → Nat} {n0 : Nat} {bf : ab_B} {d : Nat}  {S : zs_T} {Q : zs_Q} (hB : zt_B bf) (h : w_X16_has_53 (zx σ n0 bf) d  S Q) : zs_U (zx σ n0 bf) d 15001 53 [] [] S Q := by
  unfold w_X16_has_53 at h
  refine zu_iconst d_15001_53 zi_1 ?_
  exact zu_iret d_15001_54 zr_15001 (zs_b_n (Or.inr rfl)) h
def w_X16_has_2 (X : zs_X) (d : Nat) (p0 : Nat) (p1 : Int64) (p3 : Int32) (S : zs_T) (Q : zs_Q) : Prop :=
  (zs_K S p0 = some (.inl 15) ∧ ∃ b2, (zs_R S 15001 p0) = some b2 ∧ zs_K S b2 = some (.inl 16) ∧ zs_C X d 16001 [.ref b2] S (zs_kI (fun v6 S5 => (((v6 ≤ p3 → (Q (.returned (some (.int (0 : Int32)))) S5)) ∧ (¬ (v6 ≤ p3) → (zs_K S5 p0 = some (.inl 15) ∧ ∃ b9, (zs_R S5 15001 p0) = some b9 ∧ zs_K S5 b9 = some (.inl 16) ∧ zs_C X d 16009 [.ref b9, .int p3] S5 (zs_kR (fun v13 S12 => ((∀ a, v13 = some a → zs_K S12 a = some (.inl 22)) ∧ ∃ b15, v13 = some b15 ∧ zs_K S12 b15 = some (.inl 22) ∧ zs_C X d 22000 [.ref b15] S12 (zs_kJ (fun v19 S18 => (((p1 < v19 → w_X16_has_55 X d p0 p1 p3 S18 Q) ∧ (¬ (p1 < v19) → (zs_K S18 p0 = some (.inl 15) ∧ ∃ b22, (zs_R S18 15001 p0) = some b22 ∧ zs_K S18 b22 = some (.inl 16) ∧ zs_C X d 16009 [.ref b22, .int (p3 + (1 : Int32))] S18 (zs_kR (fun v26 S25 => ((∀ a, v26 = some a → zs_K S25 a = some (.inl 22)) ∧ ∃ b28, v26 = some b28 ∧ zs_K S25 b28 = some (.inl 22) ∧ zs_C X d 22000 [.ref b28] S25 (zs_kJ (fun v32 S31 => (((v32 < p1 → w_X16_has_55 X d p0 p1 p3 S31 Q) ∧ (¬ (v32 < p1) → w_X16_has_53 X d  S31 Q)))) Q))) Q)))))) Q))) Q)))))) Q))
theorem u_X16_has_2 {σ : Nat → Nat} {n0 : Nat} {bf : ab_B} {d : Nat} {p0 : Nat} {p1 : Int64} {p3 : Int32} {S : zs_T} {Q : zs_Q} (hB : zt_B bf) (h : w_X16_has_2 (zx σ n0 bf) d p0 p1 p3 S Q) : zs_U (zx σ n0 bf) d 15001 2 [(0, .ref p0), (1, .long p1), (3, .int p3)] [] S Q := by
  unfold w_X16_has_2 at h
  refine zu_iload_n d_15001_2 rfl ?_
  refine zu_aload_n d_15001_3 rfl (zs_ra _) ?_
  obtain ⟨k1, h⟩ := h
  refine zg_15_10 rfl d_15001_4 k1 ?_
  obtain ⟨b2, e3, h⟩ := h
  refine zs_stk0 (zs_rfe e3) ?_
  obtain ⟨k4, h⟩ := h
  refine zc_15_27  hB rfl k4 d_15001_7 (Nat.le_of_ble_eq_true rfl) h (fun v6 S5 h => ?_)
  refine zu_cmpge (t := 61) d_15001_10 rfl (fun c7 => ?_) (fun c7 => ?_)
  · have h := h.1 c7
    refine zu_iconst d_15001_61 zi_0 ?_
    exact zu_iret d_15001_62 zr_15001 (zs_b_n (Or.inl rfl)) h
  · have h := h.2 c7
    refine zu_lload_n d_15001_13 rfl ?_
    refine zu_aload_n d_15001_14 rfl (zs_ra _) ?_
    obtain ⟨k8, h⟩ := h
    refine zg_15_10 rfl d_15001_15 k8 ?_
    refine zu_iload_n d_15001_18 rfl ?_
    obtain ⟨b9, e10, h⟩ := h
    refine zs_stk1 (zs_rfe e10) ?_
    obtain ⟨k11, h⟩ := h
    refine zc_15_31 (x0 := p3) hB rfl k11 d_15001_19 (Nat.le_of_ble_eq_true rfl) h (fun v13 S12 h => ?_)
    obtain ⟨k14, h⟩ := h
    refine zk_15_35 (o := v13) rfl d_15001_22 k14 ?_
    obtain ⟨b15, e16, h⟩ := h
    refine zs_stk0 (zs_rfe e16) ?_
    obtain ⟨k17, h⟩ := h
    refine zc_15_37  hB rfl k17 d_15001_25 (Nat.le_of_ble_eq_true rfl) h (fun v19 S18 h => ?_)
    refine zu_llt (t := 55) d_15001_28 d_15001_29 rfl (fun c20 => ?_) (fun c20 => ?_)
    · have h := h.1 c20
      exact (u_X16_has_55 hB h).weak ⟨rfl, rfl, rfl, trivial⟩
    · have h := h.2 c20
      refine zu_lload_n d_15001_32 rfl ?_
      refine zu_aload_n d_15001_33 rfl (zs_ra _) ?_
      obtain ⟨k21, h⟩ := h
      refine zg_15_10 rfl d_15001_34 k21 ?_
      refine zu_iload_n d_15001_37 rfl ?_
      refine zu_iconst d_15001_38 zi_1 ?_
      refine zu_stk d_15001_39 rfl rfl ?_
      obtain ⟨b22, e23, h⟩ := h
      refine zs_stk1 (zs_rfe e23) ?_
      obtain ⟨k24, h⟩ := h
      refine zc_15_31 (x0 := (p3 + (1 : Int32))) hB rfl k24 d_15001_40 (Nat.le_of_ble_eq_true rfl) h (fun v26 S25 h => ?_)
      obtain ⟨k27, h⟩ := h
      refine zk_15_35 (o := v26) rfl d_15001_43 k27 ?_
      obtain ⟨b28, e29, h⟩ := h
      refine zs_stk0 (zs_rfe e29) ?_
      obtain ⟨k30, h⟩ := h
      refine zc_15_37  hB rfl k30 d_15001_46 (Nat.le_of_ble_eq_true rfl) h (fun v32 S31 h => ?_)
      refine zu_lgt (t := 55) d_15001_49 d_15001_50 rfl (fun c33 => ?_) (fun c33 => ?_)
      · have h := h.1 c33
        exact (u_X16_has_55 hB h).weak ⟨rfl, rfl, rfl, trivial⟩
      · have h := h.2 c33
        exact (u_X16_has_53 hB h).weak trivial
def w_X16_has (X : zs_X) (d : Nat) (p0 : Nat) (p1 : Int64) (S : zs_T) (Q : zs_Q) : Prop :=
  (zs_U X d 15001 2 [(0, .ref p0), (1, .long p1), (3, .int (0 : Int32))] [] S Q)
theorem u_X16_has {σ : Nat → Nat} {n0 : Nat} {bf : ab_B} {d : Nat} {p0 : Nat} {p1 : Int64} {S : zs_T} {Q : zs_Q} (hB : zt_B bf) (hd : 1 ≤ d) (h : w_X16_has (zx σ n0 bf) (d - 1) p0 p1 S Q) : zs_C (zx σ n0 bf) d 15001 [.ref p0, .long p1] S Q := by
  have hL : lv_args 0 [.ref p0, .long p1] = [(0, .ref p0), (1, .long p1)] := rfl
  refine zs_C.of1 (hB.2 15001 (by decide) (by decide)) hd (by rw [hL]; exact zs_sub_self _ (by exact ⟨rfl, rfl, trivial⟩)) ?_
  rw [hL]
  clear hL
  unfold w_X16_has at h
  refine zu_iconst d_15001_0 zi_0 ?_
  refine zu_istore_n d_15001_1 (zs_lt zq_15001 rfl) ?_
  exact h.weak ⟨rfl, rfl, rfl, trivial⟩
/-! SchemaPascal$Words.<init>()V -/
theorem zm_5000 {σ : Nat → Nat} {n0 : Nat} {bf : ab_B} : ab_code (zx σ n0 bf).1 5000 = prog_15_method_1_code := rfl
theorem zq_5000 {σ : Nat → Nat} {n0 : Nat} {bf : ab_B} : ab_maxL (zx σ n0 bf).1 5000 = 1 := rfl
theorem zr_5000 {σ : Nat → Nat} {n0 : Nat} {bf : ab_B} : ab_ret (zx σ n0 bf).1 5000 = (Option.none : Option Jvm.ClassFile.FieldType) := rfl
theorem d_5000_0 {σ : Nat → Nat} {n0 : Nat} {bf : ab_B} : decode (ab_code (zx σ n0 bf).1 5000) 0 = .ok (.aload_n 0, 1) := zd zm_5000 (by decide +kernel)
theorem d_5000_1 {σ : Nat → Nat} {n0 : Nat} {bf : ab_B} : decode (ab_code (zx σ n0 bf).1 5000) 1 = .ok (.invokespecial 3, 3) := zd zm_5000 (by decide +kernel)
theorem d_5000_4 {σ : Nat → Nat} {n0 : Nat} {bf : ab_B} : decode (ab_code (zx σ n0 bf).1 5000) 4 = .ok (.aload_n 0, 1) := zd zm_5000 (by decide +kernel)
theorem d_5000_5 {σ : Nat → Nat} {n0 : Nat} {bf : ab_B} : decode (ab_code (zx σ n0 bf).1 5000) 5 = .ok (.ldc 9, 2) := zd zm_5000 (by decide +kernel)
theorem d_5000_7 {σ : Nat → Nat} {n0 : Nat} {bf : ab_B} : decode (ab_code (zx σ n0 bf).1 5000) 7 = .ok (.newarray .byte, 2) := zd zm_5000 (by decide +kernel)
theorem d_5000_9 {σ : Nat → Nat} {n0 : Nat} {bf : ab_B} : decode (ab_code (zx σ n0 bf).1 5000) 9 = .ok (.putfield 10, 3) := zd zm_5000 (by decide +kernel)
theorem d_5000_12 {σ : Nat → Nat} {n0 : Nat} {bf : ab_B} : decode (ab_code (zx σ n0 bf).1 5000) 12 = .ok (.aload_n 0, 1) := zd zm_5000 (by decide +kernel)
theorem d_5000_13 {σ : Nat → Nat} {n0 : Nat} {bf : ab_B} : decode (ab_code (zx σ n0 bf).1 5000) 13 = .ok (.sipush 16640, 3) := zd zm_5000 (by decide +kernel)
theorem d_5000_16 {σ : Nat → Nat} {n0 : Nat} {bf : ab_B} : decode (ab_code (zx σ n0 bf).1 5000) 16 = .ok (.newarray .int, 2) := zd zm_5000 (by decide +kernel)
theorem d_5000_18 {σ : Nat → Nat} {n0 : Nat} {bf : ab_B} : decode (ab_code (zx σ n0 bf).1 5000) 18 = .ok (.putfield 16, 3) := zd zm_5000 (by decide +kernel)
theorem d_5000_21 {σ : Nat → Nat} {n0 : Nat} {bf : ab_B} : decode (ab_code (zx σ n0 bf).1 5000) 21 = .ok (.aload_n 0, 1) := zd zm_5000 (by decide +kernel)
theorem d_5000_22 {σ : Nat → Nat} {n0 : Nat} {bf : ab_B} : decode (ab_code (zx σ n0 bf).1 5000) 22 = .ok (.sipush 16640, 3) := zd zm_5000 (by decide +kernel)
theorem d_5000_25 {σ : Nat → Nat} {n0 : Nat} {bf : ab_B} : decode (ab_code (zx σ n0 bf).1 5000) 25 = .ok (.newarray .int, 2) := zd zm_5000 (by decide +kernel)
theorem d_5000_27 {σ : Nat → Nat} {n0 : Nat} {bf : ab_B} : decode (ab_code (zx σ n0 bf).1 5000) 27 = .ok (.putfield 20, 3) := zd zm_5000 (by decide +kernel)
theorem d_5000_30 {σ : Nat → Nat} {n0 : Nat} {bf : ab_B} : decode (ab_code (zx σ n0 bf).1 5000) 30 = .ok (.aload_n 0, 1) := zd zm_5000 (by decide +kernel)
theorem d_5000_31 {σ : Nat → Nat} {n0 : Nat} {bf : ab_B} : decode (ab_code (zx σ n0 bf).1 5000) 31 = .ok (.sipush 1024, 3) := zd zm_5000 (by decide +kernel)
theorem d_5000_34 {σ : Nat → Nat} {n0 : Nat} {bf : ab_B} : decode (ab_code (zx σ n0 bf).1 5000) 34 = .ok (.newarray .int, 2) := zd zm_5000 (by decide +kernel)
theorem d_5000_36 {σ : Nat → Nat} {n0 : Nat} {bf : ab_B} : decode (ab_code (zx σ n0 bf).1 5000) 36 = .ok (.putfield 23, 3) := zd zm_5000 (by decide +kernel)
theorem d_5000_39 {σ : Nat → Nat} {n0 : Nat} {bf : ab_B} : decode (ab_code (zx σ n0 bf).1 5000) 39 = .ok (.return_, 1) := zd zm_5000 (by decide +kernel)
def w_X6_init_39 (X : zs_X) (d : Nat)  (S : zs_T) (Q : zs_Q) : Prop :=
  (Q (.returned none) S)
theorem u_X6_init_39 {σ : Nat → Nat} {n0 : Nat} {bf : ab_B} {d : Nat}  {S : zs_T} {Q : zs_Q} (hB : zt_B bf) (h : w_X6_init_39 (zx σ n0 bf) d  S Q) : zs_U (zx σ n0 bf) d 5000 39 [] [] S Q := by
  unfold w_X6_init_39 at h
  exact zu_vret d_5000_39 zr_5000 h
def w_X6_init (X : zs_X) (d : Nat) (p0 : Nat) (S : zs_T) (Q : zs_Q) : Prop :=
  (zs_C X d 39000 [.ref p0] S (zs_kV (fun S1 => (∀ a3 S4, a3 = zs_N S1 → S4 = zs_nw S1 (.inr (1, (33792 : Int32).toNatClampNeg)) (33792 : Int32).toNatClampNeg → zs_K S4 p0 = some (.inl 5) ∧ ab_n0 X.1 ≤ p0 ∧ ∀ S10, S10 = zs_sR S4 5008 p0 (some a3) → ∀ a13 S14, a13 = zs_N S10 → S14 = zs_nw S10 (.inr (0, (16640 : Int32).toNatClampNeg)) (16640 : Int32).toNatClampNeg → zs_K S14 p0 = some (.inl 5) ∧ ∀ S19, S19 = zs_sR S14 5009 p0 (some a13) → ∀ a22 S23, a22 = zs_N S19 → S23 = zs_nw S19 (.inr (0, (16640 : Int32).toNatClampNeg)) (16640 : Int32).toNatClampNeg → zs_K S23 p0 = some (.inl 5) ∧ ∀ S28, S28 = zs_sR S23 5010 p0 (some a22) → ∀ a31 S32, a31 = zs_N S28 → S32 = zs_nw S28 (.inr (0, (1024 : Int32).toNatClampNeg)) (1024 : Int32).toNatClampNeg → zs_K S32 p0 = some (.inl 5) ∧ ∀ S37, S37 = zs_sR S32 5011 p0 (some a31) → w_X6_init_39 X d  S37 Q)) Q))
theorem u_X6_init {σ : Nat → Nat} {n0 : Nat} {bf : ab_B} {d : Nat} {p0 : Nat} {S : zs_T} {Q : zs_Q} (hB : zt_B bf) (hd : 1 ≤ d) (h : w_X6_init (zx σ n0 bf) (d - 1) p0 S Q) : zs_C (zx σ n0 bf) d 5000 [.ref p0] S Q := by
  have hL : lv_args 0 [.ref p0] = [(0, .ref p0)] := rfl
  refine zs_C.of1 (hB.2 5000 (by decide) (by decide)) hd (by rw [hL]; exact zs_sub_self _ (by exact ⟨rfl, trivial⟩)) ?_
  rw [hL]
  clear hL
  unfold w_X6_init at h
  refine zu_aload_n d_5000_0 rfl (zs_ra _) ?_
  refine zc_5_3  hB rfl d_5000_1 (Nat.le_of_ble_eq_true rfl) h (fun S1 h => ?_)
  refine zu_aload_n d_5000_4 rfl (zs_ra _) ?_
  refine zl_5_9 rfl d_5000_5 ?_
  refine zu_newa0 (k := 1) d_5000_7 rfl rfl (fun _ => rfl) (by decide) (by decide) ?_
  generalize e6 : zs_nw S1 (.inr (1, (33792 : Int32).toNatClampNeg)) (33792 : Int32).toNatClampNeg = S4
  generalize e5 : zs_N S1 = a3
  have h := h a3 S4 e5.symm e6.symm
  have k7 := zs_kn e5 e6
  obtain ⟨k8, h⟩ := h
  obtain ⟨k9, h⟩ := h
  refine zp_5_10 (v := (some a3)) rfl d_5000_9 k8 k9 ?_
  generalize e11 : zs_sR S4 5008 p0 (some a3) = S10
  have h := h S10 e11.symm
  have K12 : ∀ b, zs_K S10 b = zs_K S4 b := zs_Kt e11 (zs_KsR _ _ _ _) (fun _ => rfl)
  refine zu_aload_n d_5000_12 rfl (zs_ra _) ?_
  refine zu_sipush d_5000_13 zh_16640 ?_
  refine zu_newa0 (k := 0) d_5000_16 rfl rfl (fun _ => rfl) (by decide) (by decide) ?_
  generalize e16 : zs_nw S10 (.inr (0, (16640 : Int32).toNatClampNeg)) (16640 : Int32).toNatClampNeg = S14
  generalize e15 : zs_N S10 = a13
  have h := h a13 S14 e15.symm e16.symm
  have k17 := zs_kn e15 e16
  obtain ⟨k18, h⟩ := h
  refine zp_5_16 (v := (some a13)) rfl d_5000_18 k18 k9 ?_
  generalize e20 : zs_sR S14 5009 p0 (some a13) = S19
  have h := h S19 e20.symm
  have K21 : ∀ b, zs_K S19 b = zs_K S14 b := zs_Kt e20 (zs_KsR _ _ _ _) (fun _ => rfl)
  refine zu_aload_n d_5000_21 rfl (zs_ra _) ?_
  refine zu_sipush d_5000_22 zh_16640 ?_
  refine zu_newa0 (k := 0) d_5000_25 rfl rfl (fun _ => rfl) (by decide) (by decide) ?_
  generalize e25 : zs_nw S19 (.inr (0, (16640 : Int32).toNatClampNeg)) (16640 : Int32).toNatClampNeg = S23
  generalize e24 : zs_N S19 = a22
  have h := h a22 S23 e24.symm e25.symm
  have k26 := zs_kn e24 e25
  obtain ⟨k27, h⟩ := h
  refine zp_5_20 (v := (some a22)) rfl d_5000_27 k27 k9 ?_
  generalize e29 : zs_sR S23 5010 p0 (some a22) = S28
  have h := h S28 e29.symm
  have K30 : ∀ b, zs_K S28 b = zs_K S23 b := zs_Kt e29 (zs_KsR _ _ _ _) (fun _ => rfl)
  refine zu_aload_n d_5000_30 rfl (zs_ra _) ?_
  refine zu_sipush d_5000_31 zh_1024 ?_
  refine zu_newa0 (k := 0) d_5000_34 rfl rfl (fun _ => rfl) (by decide) (by decide) ?_
  generalize e34 : zs_nw S28 (.inr (0, (1024 : Int32).toNatClampNeg)) (1024 : Int32).toNatClampNeg = S32
  generalize e33 : zs_N S28 = a31
  have h := h a31 S32 e33.symm e34.symm
  have k35 := zs_kn e33 e34
  obtain ⟨k36, h⟩ := h
  refine zp_5_23 (v := (some a31)) rfl d_5000_36 k36 k9 ?_
  generalize e38 : zs_sR S32 5011 p0 (some a31) = S37
  have h := h S37 e38.symm
  have K39 : ∀ b, zs_K S37 b = zs_K S32 b := zs_Kt e38 (zs_KsR _ _ _ _) (fun _ => rfl)
  exact (u_X6_init_39 hB h).weak trivial
/-! SchemaPascal$Words.begin([BI)V -/
theorem zm_5001 {σ : Nat → Nat} {n0 : Nat} {bf : ab_B} : ab_code (zx σ n0 bf).1 5001 = prog_15_method_2_code := rfl
theorem zq_5001 {σ : Nat → Nat} {n0 : Nat} {bf : ab_B} : ab_maxL (zx σ n0 bf).1 5001 = 4 := rfl
theorem zr_5001 {σ : Nat → Nat} {n0 : Nat} {bf : ab_B} : ab_ret (zx σ n0 bf).1 5001 = (Option.none : Option Jvm.ClassFile.FieldType) := rfl
theorem d_5001_0 {σ : Nat → Nat} {n0 : Nat} {bf : ab_B} : decode (ab_code (zx σ n0 bf).1 5001) 0 = .ok (.aload_n 0, 1) := zd zm_5001 (by decide +kernel)
theorem d_5001_1 {σ : Nat → Nat} {n0 : Nat} {bf : ab_B} : decode (ab_code (zx σ n0 bf).1 5001) 1 = .ok (.aload_n 1, 1) := zd zm_5001 (by decide +kernel)
theorem d_5001_2 {σ : Nat → Nat} {n0 : Nat} {bf : ab_B} : decode (ab_code (zx σ n0 bf).1 5001) 2 = .ok (.putfield 26, 3) := zd zm_5001 (by decide +kernel)
theorem d_5001_5 {σ : Nat → Nat} {n0 : Nat} {bf : ab_B} : decode (ab_code (zx σ n0 bf).1 5001) 5 = .ok (.aload_n 0, 1) := zd zm_5001 (by decide +kernel)
theorem d_5001_6 {σ : Nat → Nat} {n0 : Nat} {bf : ab_B} : decode (ab_code (zx σ n0 bf).1 5001) 6 = .ok (.iload_n 2, 1) := zd zm_5001 (by decide +kernel)
theorem d_5001_7 {σ : Nat → Nat} {n0 : Nat} {bf : ab_B} : decode (ab_code (zx σ n0 bf).1 5001) 7 = .ok (.putfield 29, 3) := zd zm_5001 (by decide +kernel)
theorem d_5001_10 {σ : Nat → Nat} {n0 : Nat} {bf : ab_B} : decode (ab_code (zx σ n0 bf).1 5001) 10 = .ok (.aload_n 0, 1) := zd zm_5001 (by decide +kernel)
theorem d_5001_11 {σ : Nat → Nat} {n0 : Nat} {bf : ab_B} : decode (ab_code (zx σ n0 bf).1 5001) 11 = .ok (.iconst 0, 1) := zd zm_5001 (by decide +kernel)
theorem d_5001_12 {σ : Nat → Nat} {n0 : Nat} {bf : ab_B} : decode (ab_code (zx σ n0 bf).1 5001) 12 = .ok (.putfield 33, 3) := zd zm_5001 (by decide +kernel)
theorem d_5001_15 {σ : Nat → Nat} {n0 : Nat} {bf : ab_B} : decode (ab_code (zx σ n0 bf).1 5001) 15 = .ok (.aload_n 0, 1) := zd zm_5001 (by decide +kernel)
theorem d_5001_16 {σ : Nat → Nat} {n0 : Nat} {bf : ab_B} : decode (ab_code (zx σ n0 bf).1 5001) 16 = .ok (.iconst 0, 1) := zd zm_5001 (by decide +kernel)
theorem d_5001_17 {σ : Nat → Nat} {n0 : Nat} {bf : ab_B} : decode (ab_code (zx σ n0 bf).1 5001) 17 = .ok (.putfield 36, 3) := zd zm_5001 (by decide +kernel)
theorem d_5001_20 {σ : Nat → Nat} {n0 : Nat} {bf : ab_B} : decode (ab_code (zx σ n0 bf).1 5001) 20 = .ok (.aload_n 0, 1) := zd zm_5001 (by decide +kernel)
theorem d_5001_21 {σ : Nat → Nat} {n0 : Nat} {bf : ab_B} : decode (ab_code (zx σ n0 bf).1 5001) 21 = .ok (.getfield 16, 3) := zd zm_5001 (by decide +kernel)
theorem d_5001_24 {σ : Nat → Nat} {n0 : Nat} {bf : ab_B} : decode (ab_code (zx σ n0 bf).1 5001) 24 = .ok (.iconst 0, 1) := zd zm_5001 (by decide +kernel)
theorem d_5001_25 {σ : Nat → Nat} {n0 : Nat} {bf : ab_B} : decode (ab_code (zx σ n0 bf).1 5001) 25 = .ok (.iconst 0, 1) := zd zm_5001 (by decide +kernel)
theorem d_5001_26 {σ : Nat → Nat} {n0 : Nat} {bf : ab_B} : decode (ab_code (zx σ n0 bf).1 5001) 26 = .ok (.iastore, 1) := zd zm_5001 (by decide +kernel)
theorem d_5001_27 {σ : Nat → Nat} {n0 : Nat} {bf : ab_B} : decode (ab_code (zx σ n0 bf).1 5001) 27 = .ok (.iconst 0, 1) := zd zm_5001 (by decide +kernel)
theorem d_5001_28 {σ : Nat → Nat} {n0 : Nat} {bf : ab_B} : decode (ab_code (zx σ n0 bf).1 5001) 28 = .ok (.istore_n 3, 1) := zd zm_5001 (by decide +kernel)
theorem d_5001_29 {σ : Nat → Nat} {n0 : Nat} {bf : ab_B} : decode (ab_code (zx σ n0 bf).1 5001) 29 = .ok (.iload_n 3, 1) := zd zm_5001 (by decide +kernel)
theorem d_5001_30 {σ : Nat → Nat} {n0 : Nat} {bf : ab_B} : decode (ab_code (zx σ n0 bf).1 5001) 30 = .ok (.aload_n 0, 1) := zd zm_5001 (by decide +kernel)
theorem d_5001_31 {σ : Nat → Nat} {n0 : Nat} {bf : ab_B} : decode (ab_code (zx σ n0 bf).1 5001) 31 = .ok (.getfield 23, 3) := zd zm_5001 (by decide +kernel)
theorem d_5001_34 {σ : Nat → Nat} {n0 : Nat} {bf : ab_B} : decode (ab_code (zx σ n0 bf).1 5001) 34 = .ok (.arraylength, 1) := zd zm_5001 (by decide +kernel)
theorem d_5001_35 {σ : Nat → Nat} {n0 : Nat} {bf : ab_B} : decode (ab_code (zx σ n0 bf).1 5001) 35 = .ok (.if_icmp .ge 16, 3) := zd zm_5001 (by decide +kernel)
theorem d_5001_38 {σ : Nat → Nat} {n0 : Nat} {bf : ab_B} : decode (ab_code (zx σ n0 bf).1 5001) 38 = .ok (.aload_n 0, 1) := zd zm_5001 (by decide +kernel)
theorem d_5001_39 {σ : Nat → Nat} {n0 : Nat} {bf : ab_B} : decode (ab_code (zx σ n0 bf).1 5001) 39 = .ok (.getfield 23, 3) := zd zm_5001 (by decide +kernel)
theorem d_5001_42 {σ : Nat → Nat} {n0 : Nat} {bf : ab_B} : decode (ab_code (zx σ n0 bf).1 5001) 42 = .ok (.iload_n 3, 1) := zd zm_5001 (by decide +kernel)
theorem d_5001_43 {σ : Nat → Nat} {n0 : Nat} {bf : ab_B} : decode (ab_code (zx σ n0 bf).1 5001) 43 = .ok (.iconst (-1), 1) := zd zm_5001 (by decide +kernel)
theorem d_5001_44 {σ : Nat → Nat} {n0 : Nat} {bf : ab_B} : decode (ab_code (zx σ n0 bf).1 5001) 44 = .ok (.iastore, 1) := zd zm_5001 (by decide +kernel)
theorem d_5001_45 {σ : Nat → Nat} {n0 : Nat} {bf : ab_B} : decode (ab_code (zx σ n0 bf).1 5001) 45 = .ok (.iinc 3 1, 3) := zd zm_5001 (by decide +kernel)
theorem d_5001_48 {σ : Nat → Nat} {n0 : Nat} {bf : ab_B} : decode (ab_code (zx σ n0 bf).1 5001) 48 = .ok (.goto (-19), 3) := zd zm_5001 (by decide +kernel)
theorem d_5001_51 {σ : Nat → Nat} {n0 : Nat} {bf : ab_B} : decode (ab_code (zx σ n0 bf).1 5001) 51 = .ok (.aload_n 0, 1) := zd zm_5001 (by decide +kernel)
theorem d_5001_52 {σ : Nat → Nat} {n0 : Nat} {bf : ab_B} : decode (ab_code (zx σ n0 bf).1 5001) 52 = .ok (.ldc 39, 2) := zd zm_5001 (by decide +kernel)
theorem d_5001_54 {σ : Nat → Nat} {n0 : Nat} {bf : ab_B} : decode (ab_code (zx σ n0 bf).1 5001) 54 = .ok (.invokevirtual 41, 3) := zd zm_5001 (by decide +kernel)
theorem d_5001_57 {σ : Nat → Nat} {n0 : Nat} {bf : ab_B} : decode (ab_code (zx σ n0 bf).1 5001) 57 = .ok (.aload_n 0, 1) := zd zm_5001 (by decide +kernel)
theorem d_5001_58 {σ : Nat → Nat} {n0 : Nat} {bf : ab_B} : decode (ab_code (zx σ n0 bf).1 5001) 58 = .ok (.ldc 45, 2) := zd zm_5001 (by decide +kernel)
theorem d_5001_60 {σ : Nat → Nat} {n0 : Nat} {bf : ab_B} : decode (ab_code (zx σ n0 bf).1 5001) 60 = .ok (.invokevirtual 41, 3) := zd zm_5001 (by decide +kernel)
theorem d_5001_63 {σ : Nat → Nat} {n0 : Nat} {bf : ab_B} : decode (ab_code (zx σ n0 bf).1 5001) 63 = .ok (.aload_n 0, 1) := zd zm_5001 (by decide +kernel)
theorem d_5001_64 {σ : Nat → Nat} {n0 : Nat} {bf : ab_B} : decode (ab_code (zx σ n0 bf).1 5001) 64 = .ok (.invokevirtual 47, 3) := zd zm_5001 (by decide +kernel)
theorem d_5001_67 {σ : Nat → Nat} {n0 : Nat} {bf : ab_B} : decode (ab_code (zx σ n0 bf).1 5001) 67 = .ok (.return_, 1) := zd zm_5001 (by decide +kernel)
def w_X6_begin_27 (X : zs_X) (d : Nat) (p0 : Nat) (S : zs_T) (Q : zs_Q) : Prop :=
  (zs_U X d 5001 29 [(0, .ref p0), (3, .int (0 : Int32))] [] S Q)
theorem u_X6_begin_27 {σ : Nat → Nat} {n0 : Nat} {bf : ab_B} {d : Nat} {p0 : Nat} {S : zs_T} {Q : zs_Q} (hB : zt_B bf) (h : w_X6_begin_27 (zx σ n0 bf) d p0 S Q) : zs_U (zx σ n0 bf) d 5001 27 [(0, .ref p0)] [] S Q := by
  unfold w_X6_begin_27 at h
  refine zu_iconst d_5001_27 zi_0 ?_
  refine zu_istore_n d_5001_28 (zs_lt zq_5001 rfl) ?_
  exact h.weak ⟨rfl, rfl, trivial⟩
def w_X6_begin_29 (X : zs_X) (d : Nat) (p0 : Nat) (p3 : Int32) (S : zs_T) (Q : zs_Q) : Prop :=
  (zs_K S p0 = some (.inl 5) ∧ ∃ b2, (zs_R S 5011 p0) = some b2 ∧ ∃ n4, zs_K S b2 = some (.inr (0, n4)) ∧ (((Int32.ofNat n4) ≤ p3 → (zs_C X d 5002 [.ref p0, va_rf (some (zs_str X 5001 39))] S (zs_kV (fun S7 => (zs_K S7 p0 = some (.inl 5) ∧ zs_C X d 5002 [.ref p0, va_rf (some (zs_str X 5001 45))] S7 (zs_kV (fun S10 => (zs_K S10 p0 = some (.inl 5) ∧ zs_C X d 5004 [.ref p0] S10 (zs_kV (fun S13 => (Q (.returned none) S13)) Q))) Q))) Q))) ∧ (¬ ((Int32.ofNat n4) ≤ p3) → (zs_A S b2 0 p3 ∧ ab_n0 X.1 ≤ b2 ∧ ∀ S17, S17 = zs_si S b2 p3.toNatClampNeg (-1 : Int32) → zs_U X d 5001 29 [(0, .ref p0), (3, .int (p3 + (1 : Int32)))] [] S17 Q))))
theorem u_X6_begin_29 {σ : Nat → Nat} {n0 : Nat} {bf : ab_B} {d : Nat} {p0 : Nat} {p3 : Int32} {S : zs_T} {Q : zs_Q} (hB : zt_B bf) (h : w_X6_begin_29 (zx σ n0 bf) d p0 p3 S Q) : zs_U (zx σ n0 bf) d 5001 29 [(0, .ref p0), (3, .int p3)] [] S Q := by
  unfold w_X6_begin_29 at h
  refine zu_iload_n d_5001_29 rfl ?_
  refine zu_aload_n d_5001_30 rfl (zs_ra _) ?_
  obtain ⟨k1, h⟩ := h
  refine zg_5_23 rfl d_5001_31 k1 ?_
  obtain ⟨b2, e3, h⟩ := h
  refine zs_stk0 (zs_rfe e3) ?_
  obtain ⟨n4, k5, h⟩ := h
  refine zu_alen d_5001_34 k5 (zs_lt (b := 7) rfl rfl) ?_
  refine zu_cmpge (t := 51) d_5001_35 rfl (fun c6 => ?_) (fun c6 => ?_)
  · have h := h.1 c6
    refine zu_aload_n d_5001_51 rfl (zs_ra _) ?_
    refine zl_5_39 rfl d_5001_52 ?_
    refine zc_5_41 (x0 := (some (zs_str (zx σ n0 bf) 5001 39))) hB rfl k1 d_5001_54 (Nat.le_of_ble_eq_true rfl) h (fun S7 h => ?_)
    refine zu_aload_n d_5001_57 rfl (zs_ra _) ?_
    refine zl_5_45 rfl d_5001_58 ?_
    obtain ⟨k9, h⟩ := h
    refine zc_5_41 (x0 := (some (zs_str (zx σ n0 bf) 5001 45))) hB rfl k9 d_5001_60 (Nat.le_of_ble_eq_true rfl) h (fun S10 h => ?_)
    refine zu_aload_n d_5001_63 rfl (zs_ra _) ?_
    obtain ⟨k12, h⟩ := h
    refine zc_5_47  hB rfl k12 d_5001_64 (Nat.le_of_ble_eq_true rfl) h (fun S13 h => ?_)
    exact zu_vret d_5001_67 zr_5001 h
  · have h := h.2 c6
    refine zu_aload_n d_5001_38 rfl (zs_ra _) ?_
    refine zg_5_23 rfl d_5001_39 k1 ?_
    refine zu_iload_n d_5001_42 rfl ?_
    refine zu_iconst d_5001_43 zi_m1 ?_
    refine zs_stk2 (zs_rfe e3) ?_
    obtain ⟨k15, h⟩ := h
    obtain ⟨k16, h⟩ := h
    refine zu_iast (k := 0) d_5001_44 rfl rfl k16 k15 ?_
    generalize e18 : zs_si S b2 p3.toNatClampNeg (-1 : Int32) = S17
    have h := h S17 e18.symm
    have K19 : ∀ b, zs_K S17 b = zs_K S b := zs_Kt e18 (zs_Ksi _ _ _ _) (fun _ => rfl)
    refine zu_iinc d_5001_45 rfl zi_1 (zs_lt zq_5001 rfl) ?_
    refine zu_goto (t := 29) d_5001_48 rfl ?_
    exact h.weak ⟨rfl, rfl, trivial⟩
def w_X6_begin (X : zs_X) (d : Nat) (p0 : Nat) (p1 : Option Nat) (p2 : Int32) (S : zs_T) (Q : zs_Q) : Prop :=
  (zs_K S p0 = some (.inl 5) ∧ ab_n0 X.1 ≤ p0 ∧ ∀ S3, S3 = zs_sR S 5000 p0 p1 → ∀ S6, S6 = zs_sI S3 5001 p0 p2 → ∀ S9, S9 = zs_sI S6 5002 p0 (0 : Int32) → ∀ S12, S12 = zs_sI S9 5012 p0 (0 : Int32) → ∃ b15, (zs_R S12 5009 p0) = some b15 ∧ zs_A S b15 0 (0 : Int32) ∧ ab_n0 X.1 ≤ b15 ∧ ∀ S19, S19 = zs_si S12 b15 (0 : Int32).toNatClampNeg (0 : Int32) → w_X6_begin_27 X d p0 S19 Q)
theorem u_X6_begin {σ : Nat → Nat} {n0 : Nat} {bf : ab_B} {d : Nat} {p0 : Nat} {p1 : Option Nat} {p2 : Int32} {S : zs_T} {Q : zs_Q} (hB : zt_B bf) (hd : 1 ≤ d) (h : w_X6_begin (zx σ n0 bf) (d - 1) p0 p1 p2 S Q) : zs_C (zx σ n0 bf) d 5001 [.ref p0, va_rf p1, .int p2] S Q := by
  have hL : lv_args 0 [.ref p0, va_rf p1, .int p2] = [(0, .ref p0), (1, va_rf p1), (2, .int p2)] := by simp [lv_args, zs_cat, zs_cI, zs_cJ, zs_cA]
  refine zs_C.of1 (hB.2 5001 (by decide) (by decide)) hd (by rw [hL]; exact zs_sub_self _ (by exact ⟨rfl, rfl, rfl, trivial⟩)) ?_
  rw [hL]
  clear hL
  unfold w_X6_begin at h
  refine zu_aload_n d_5001_0 rfl (zs_ra _) ?_
  refine zu_aload_n d_5001_1 rfl (zs_rr _) ?_
  obtain ⟨k1, h⟩ := h
  obtain ⟨k2, h⟩ := h
  refine zp_5_26 (v := p1) rfl d_5001_2 k1 k2 ?_
  generalize e4 : zs_sR S 5000 p0 p1 = S3
  have h := h S3 e4.symm
  have K5 : ∀ b, zs_K S3 b = zs_K S b := zs_Kt e4 (zs_KsR _ _ _ _) (fun _ => rfl)
  refine zu_aload_n d_5001_5 rfl (zs_ra _) ?_
  refine zu_iload_n d_5001_6 rfl ?_
  refine zp_5_29 (v := p2) rfl d_5001_7 ((K5 _).trans k1) k2 ?_
  generalize e7 : zs_sI S3 5001 p0 p2 = S6
  have h := h S6 e7.symm
  have K8 : ∀ b, zs_K S6 b = zs_K S b := zs_Kt e7 (zs_KsI _ _ _ _) K5
  refine zu_aload_n d_5001_10 rfl (zs_ra _) ?_
  refine zu_iconst d_5001_11 zi_0 ?_
  refine zp_5_33 (v := (0 : Int32)) rfl d_5001_12 ((K8 _).trans k1) k2 ?_
  generalize e10 : zs_sI S6 5002 p0 (0 : Int32) = S9
  have h := h S9 e10.symm
  have K11 : ∀ b, zs_K S9 b = zs_K S b := zs_Kt e10 (zs_KsI _ _ _ _) K8
  refine zu_aload_n d_5001_15 rfl (zs_ra _) ?_
  refine zu_iconst d_5001_16 zi_0 ?_
  refine zp_5_36 (v := (0 : Int32)) rfl d_5001_17 ((K11 _).trans k1) k2 ?_
  generalize e13 : zs_sI S9 5012 p0 (0 : Int32) = S12
  have h := h S12 e13.symm
  have K14 : ∀ b, zs_K S12 b = zs_K S b := zs_Kt e13 (zs_KsI _ _ _ _) K11
  refine zu_aload_n d_5001_20 rfl (zs_ra _) ?_
  refine zg_5_16 rfl d_5001_21 ((K14 _).trans k1) ?_
  refine zu_iconst d_5001_24 zi_0 ?_
  refine zu_iconst d_5001_25 zi_0 ?_
  obtain ⟨b15, e16, h⟩ := h
  refine zs_stk2 (zs_rfe e16) ?_
  obtain ⟨k17, h⟩ := h
  obtain ⟨k18, h⟩ := h
  refine zu_iast (k := 0) d_5001_26 rfl rfl k18 (zs_Ak K14 k17) ?_
  generalize e20 : zs_si S12 b15 (0 : Int32).toNatClampNeg (0 : Int32) = S19
  have h := h S19 e20.symm
  have K21 : ∀ b, zs_K S19 b = zs_K S b := zs_Kt e20 (zs_Ksi _ _ _ _) K14
  exact (u_X6_begin_27 hB h).weak ⟨rfl, trivial⟩
/-! SchemaPascal$Words.all(Ljava/lang/String;)V -/
theorem zm_5002 {σ : Nat → Nat} {n0 : Nat} {bf : ab_B} : ab_code (zx σ n0 bf).1 5002 = prog_15_method_3_code := rfl
theorem zq_5002 {σ : Nat → Nat} {n0 : Nat} {bf : ab_B} : ab_maxL (zx σ n0 bf).1 5002 = 4 := rfl
theorem zr_5002 {σ : Nat → Nat} {n0 : Nat} {bf : ab_B} : ab_ret (zx σ n0 bf).1 5002 = (Option.none : Option Jvm.ClassFile.FieldType) := rfl
theorem d_5002_0 {σ : Nat → Nat} {n0 : Nat} {bf : ab_B} : decode (ab_code (zx σ n0 bf).1 5002) 0 = .ok (.iconst 0, 1) := zd zm_5002 (by decide +kernel)
theorem d_5002_1 {σ : Nat → Nat} {n0 : Nat} {bf : ab_B} : decode (ab_code (zx σ n0 bf).1 5002) 1 = .ok (.istore_n 2, 1) := zd zm_5002 (by decide +kernel)
theorem d_5002_2 {σ : Nat → Nat} {n0 : Nat} {bf : ab_B} : decode (ab_code (zx σ n0 bf).1 5002) 2 = .ok (.iconst 0, 1) := zd zm_5002 (by decide +kernel)
theorem d_5002_3 {σ : Nat → Nat} {n0 : Nat} {bf : ab_B} : decode (ab_code (zx σ n0 bf).1 5002) 3 = .ok (.istore_n 3, 1) := zd zm_5002 (by decide +kernel)
theorem d_5002_4 {σ : Nat → Nat} {n0 : Nat} {bf : ab_B} : decode (ab_code (zx σ n0 bf).1 5002) 4 = .ok (.iload_n 3, 1) := zd zm_5002 (by decide +kernel)
theorem d_5002_5 {σ : Nat → Nat} {n0 : Nat} {bf : ab_B} : decode (ab_code (zx σ n0 bf).1 5002) 5 = .ok (.aload_n 1, 1) := zd zm_5002 (by decide +kernel)
theorem d_5002_6 {σ : Nat → Nat} {n0 : Nat} {bf : ab_B} : decode (ab_code (zx σ n0 bf).1 5002) 6 = .ok (.invokevirtual 50, 3) := zd zm_5002 (by decide +kernel)
theorem d_5002_9 {σ : Nat → Nat} {n0 : Nat} {bf : ab_B} : decode (ab_code (zx σ n0 bf).1 5002) 9 = .ok (.if_icmp .ge 55, 3) := zd zm_5002 (by decide +kernel)
theorem d_5002_12 {σ : Nat → Nat} {n0 : Nat} {bf : ab_B} : decode (ab_code (zx σ n0 bf).1 5002) 12 = .ok (.aload_n 1, 1) := zd zm_5002 (by decide +kernel)
theorem d_5002_13 {σ : Nat → Nat} {n0 : Nat} {bf : ab_B} : decode (ab_code (zx σ n0 bf).1 5002) 13 = .ok (.iload_n 3, 1) := zd zm_5002 (by decide +kernel)
theorem d_5002_14 {σ : Nat → Nat} {n0 : Nat} {bf : ab_B} : decode (ab_code (zx σ n0 bf).1 5002) 14 = .ok (.invokevirtual 56, 3) := zd zm_5002 (by decide +kernel)
theorem d_5002_17 {σ : Nat → Nat} {n0 : Nat} {bf : ab_B} : decode (ab_code (zx σ n0 bf).1 5002) 17 = .ok (.bipush 32, 2) := zd zm_5002 (by decide +kernel)
theorem d_5002_19 {σ : Nat → Nat} {n0 : Nat} {bf : ab_B} : decode (ab_code (zx σ n0 bf).1 5002) 19 = .ok (.if_icmp .eq 31, 3) := zd zm_5002 (by decide +kernel)
theorem d_5002_22 {σ : Nat → Nat} {n0 : Nat} {bf : ab_B} : decode (ab_code (zx σ n0 bf).1 5002) 22 = .ok (.aload_n 0, 1) := zd zm_5002 (by decide +kernel)
theorem d_5002_23 {σ : Nat → Nat} {n0 : Nat} {bf : ab_B} : decode (ab_code (zx σ n0 bf).1 5002) 23 = .ok (.getfield 10, 3) := zd zm_5002 (by decide +kernel)
theorem d_5002_26 {σ : Nat → Nat} {n0 : Nat} {bf : ab_B} : decode (ab_code (zx σ n0 bf).1 5002) 26 = .ok (.aload_n 0, 1) := zd zm_5002 (by decide +kernel)
theorem d_5002_27 {σ : Nat → Nat} {n0 : Nat} {bf : ab_B} : decode (ab_code (zx σ n0 bf).1 5002) 27 = .ok (.getfield 16, 3) := zd zm_5002 (by decide +kernel)
theorem d_5002_30 {σ : Nat → Nat} {n0 : Nat} {bf : ab_B} : decode (ab_code (zx σ n0 bf).1 5002) 30 = .ok (.aload_n 0, 1) := zd zm_5002 (by decide +kernel)
theorem d_5002_31 {σ : Nat → Nat} {n0 : Nat} {bf : ab_B} : decode (ab_code (zx σ n0 bf).1 5002) 31 = .ok (.getfield 36, 3) := zd zm_5002 (by decide +kernel)
theorem d_5002_34 {σ : Nat → Nat} {n0 : Nat} {bf : ab_B} : decode (ab_code (zx σ n0 bf).1 5002) 34 = .ok (.iaload, 1) := zd zm_5002 (by decide +kernel)
theorem d_5002_35 {σ : Nat → Nat} {n0 : Nat} {bf : ab_B} : decode (ab_code (zx σ n0 bf).1 5002) 35 = .ok (.iload_n 2, 1) := zd zm_5002 (by decide +kernel)
theorem d_5002_36 {σ : Nat → Nat} {n0 : Nat} {bf : ab_B} : decode (ab_code (zx σ n0 bf).1 5002) 36 = .ok (.iinc 2 1, 3) := zd zm_5002 (by decide +kernel)
theorem d_5002_39 {σ : Nat → Nat} {n0 : Nat} {bf : ab_B} : decode (ab_code (zx σ n0 bf).1 5002) 39 = .ok (.iadd, 1) := zd zm_5002 (by decide +kernel)
theorem d_5002_40 {σ : Nat → Nat} {n0 : Nat} {bf : ab_B} : decode (ab_code (zx σ n0 bf).1 5002) 40 = .ok (.aload_n 1, 1) := zd zm_5002 (by decide +kernel)
theorem d_5002_41 {σ : Nat → Nat} {n0 : Nat} {bf : ab_B} : decode (ab_code (zx σ n0 bf).1 5002) 41 = .ok (.iload_n 3, 1) := zd zm_5002 (by decide +kernel)
theorem d_5002_42 {σ : Nat → Nat} {n0 : Nat} {bf : ab_B} : decode (ab_code (zx σ n0 bf).1 5002) 42 = .ok (.invokevirtual 56, 3) := zd zm_5002 (by decide +kernel)
theorem d_5002_45 {σ : Nat → Nat} {n0 : Nat} {bf : ab_B} : decode (ab_code (zx σ n0 bf).1 5002) 45 = .ok (.i2b, 1) := zd zm_5002 (by decide +kernel)
theorem d_5002_46 {σ : Nat → Nat} {n0 : Nat} {bf : ab_B} : decode (ab_code (zx σ n0 bf).1 5002) 46 = .ok (.bastore, 1) := zd zm_5002 (by decide +kernel)
theorem d_5002_47 {σ : Nat → Nat} {n0 : Nat} {bf : ab_B} : decode (ab_code (zx σ n0 bf).1 5002) 47 = .ok (.goto 11, 3) := zd zm_5002 (by decide +kernel)
theorem d_5002_50 {σ : Nat → Nat} {n0 : Nat} {bf : ab_B} : decode (ab_code (zx σ n0 bf).1 5002) 50 = .ok (.aload_n 0, 1) := zd zm_5002 (by decide +kernel)
theorem d_5002_51 {σ : Nat → Nat} {n0 : Nat} {bf : ab_B} : decode (ab_code (zx σ n0 bf).1 5002) 51 = .ok (.iload_n 2, 1) := zd zm_5002 (by decide +kernel)
theorem d_5002_52 {σ : Nat → Nat} {n0 : Nat} {bf : ab_B} : decode (ab_code (zx σ n0 bf).1 5002) 52 = .ok (.invokevirtual 60, 3) := zd zm_5002 (by decide +kernel)
theorem d_5002_55 {σ : Nat → Nat} {n0 : Nat} {bf : ab_B} : decode (ab_code (zx σ n0 bf).1 5002) 55 = .ok (.pop, 1) := zd zm_5002 (by decide +kernel)
theorem d_5002_56 {σ : Nat → Nat} {n0 : Nat} {bf : ab_B} : decode (ab_code (zx σ n0 bf).1 5002) 56 = .ok (.iconst 0, 1) := zd zm_5002 (by decide +kernel)
theorem d_5002_57 {σ : Nat → Nat} {n0 : Nat} {bf : ab_B} : decode (ab_code (zx σ n0 bf).1 5002) 57 = .ok (.istore_n 2, 1) := zd zm_5002 (by decide +kernel)
theorem d_5002_58 {σ : Nat → Nat} {n0 : Nat} {bf : ab_B} : decode (ab_code (zx σ n0 bf).1 5002) 58 = .ok (.iinc 3 1, 3) := zd zm_5002 (by decide +kernel)
theorem d_5002_61 {σ : Nat → Nat} {n0 : Nat} {bf : ab_B} : decode (ab_code (zx σ n0 bf).1 5002) 61 = .ok (.goto (-57), 3) := zd zm_5002 (by decide +kernel)
theorem d_5002_64 {σ : Nat → Nat} {n0 : Nat} {bf : ab_B} : decode (ab_code (zx σ n0 bf).1 5002) 64 = .ok (.return_, 1) := zd zm_5002 (by decide +kernel)
def w_X6_all_61 (X : zs_X) (d : Nat) (p0 : Nat) (p1 : Option Nat) (p2 : Int32) (p3 : Int32) (S : zs_T) (Q : zs_Q) : Prop :=
  (zs_U X d 5002 4 [(0, .ref p0), (1, va_rf p1), (2, .int p2), (3, .int p3)] [] S Q)
theorem u_X6_all_61 {σ : Nat → Nat} {n0 : Nat} {bf : ab_B} {d : Nat} {p0 : Nat} {p1 : Option Nat} {p2 : Int32} {p3 : Int32} {S : zs_T} {Q : zs_Q} (hB : zt_B bf) (h : w_X6_all_61 (zx σ n0 bf) d p0 p1 p2 p3 S Q) : zs_U (zx σ n0 bf) d 5002 61 [(0, .ref p0), (1, va_rf p1), (2, .int p2), (3, .int p3)] [] S Q := by
  unfold w_X6_all_61 at h
  refine zu_goto (t := 4) d_5002_61 rfl ?_
  exact h.weak ⟨rfl, rfl, rfl, rfl, trivial⟩
def w_X6_all_47 (X : zs_X) (d : Nat) (p0 : Nat) (p1 : Option Nat) (p2 : Int32) (p3 : Int32) (S : zs_T) (Q : zs_Q) : Prop :=
  (w_X6_all_61 X d p0 p1 p2 (p3 + (1 : Int32)) S Q)
theorem u_X6_all_47 {σ : Nat → Nat} {n0 : Nat} {bf : ab_B} {d : Nat} {p0 : Nat} {p1 : Option Nat} {p2 : Int32} {p3 : Int32} {S : zs_T} {Q : zs_Q} (hB : zt_B bf) (h : w_X6_all_47 (zx σ n0 bf) d p0 p1 p2 p3 S Q) : zs_U (zx σ n0 bf) d 5002 47 [(0, .ref p0), (1, va_rf p1), (2, .int p2), (3, .int p3)] [] S Q := by
  unfold w_X6_all_47 at h
  refine zu_goto (t := 58) d_5002_47 rfl ?_
  refine zu_iinc d_5002_58 rfl zi_1 (zs_lt zq_5002 rfl) ?_
  exact (u_X6_all_61 hB h).weak ⟨rfl, rfl, rfl, rfl, trivial⟩
def w_X6_all_4 (X : zs_X) (d : Nat) (p0 : Nat) (p1 : Option Nat) (p2 : Int32) (p3 : Int32) (S : zs_T) (Q : zs_Q) : Prop :=
  (∃ b1, p1 = some b1 ∧ zs_K S b1 = some (.inl 20) ∧ zs_C X d 20000 [.ref b1] S (zs_kI (fun v5 S4 => (((v5 ≤ p3 → (Q (.returned none) S4)) ∧ (¬ (v5 ≤ p3) → (zs_K S4 b1 = some (.inl 20) ∧ zs_C X d 20002 [.ref b1, .int p3] S4 (zs_kI (fun v9 S8 => (((v9 = (32 : Int32) → (zs_K S8 p0 = some (.inl 5) ∧ zs_C X d 5003 [.ref p0, .int p2] S8 (zs_kI (fun v13 S12 => (w_X6_all_61 X d p0 p1 (0 : Int32) (p3 + (1 : Int32)) S12 Q)) Q))) ∧ (¬ (v9 = (32 : Int32)) → (zs_K S8 p0 = some (.inl 5) ∧ ∃ b15, (zs_R S8 5009 p0) = some b15 ∧ zs_A S8 b15 0 (zs_I S8 5012 p0) ∧ zs_K S8 b1 = some (.inl 20) ∧ zs_C X d 20002 [.ref b1, .int p3] S8 (zs_kI (fun v20 S19 => (∃ b21, (zs_R S8 5008 p0) = some b21 ∧ zs_A S19 b21 1 ((zs_i S8 b15 (zs_I S8 5012 p0).toNatClampNeg) + p2) ∧ ab_n0 X.1 ≤ b21 ∧ ∀ S25, S25 = zs_si S19 b21 ((zs_i S8 b15 (zs_I S8 5012 p0).toNatClampNeg) + p2).toNatClampNeg (vp_nar .byte ((v20).toInt8.toInt32)) → w_X6_all_47 X d p0 p1 (p2 + (1 : Int32)) p3 S25 Q)) Q)))))) Q)))))) Q))
theorem u_X6_all_4 {σ : Nat → Nat} {n0 : Nat} {bf : ab_B} {d : Nat} {p0 : Nat} {p1 : Option Nat} {p2 : Int32} {p3 : Int32} {S : zs_T} {Q : zs_Q} (hB : zt_B bf) (h : w_X6_all_4 (zx σ n0 bf) d p0 p1 p2 p3 S Q) : zs_U (zx σ n0 bf) d 5002 4 [(0, .ref p0), (1, va_rf p1), (2, .int p2), (3, .int p3)] [] S Q := by
  unfold w_X6_all_4 at h
  refine zu_iload_n d_5002_4 rfl ?_
  refine zu_aload_n d_5002_5 rfl (zs_rr _) ?_
  obtain ⟨b1, e2, h⟩ := h
  refine zs_stk0 (zs_rfe e2) ?_
  obtain ⟨k3, h⟩ := h
  refine zc_5_50  hB rfl k3 d_5002_6 (Nat.le_of_ble_eq_true rfl) h (fun v5 S4 h => ?_)
  refine zu_cmpge (t := 64) d_5002_9 rfl (fun c6 => ?_) (fun c6 => ?_)
  · have h := h.1 c6
    exact zu_vret d_5002_64 zr_5002 h
  · have h := h.2 c6
    refine zu_aload_n d_5002_12 rfl (zs_rr _) ?_
    refine zu_iload_n d_5002_13 rfl ?_
    refine zs_stk1 (zs_rfe e2) ?_
    obtain ⟨k7, h⟩ := h
    refine zc_5_56 (x0 := p3) hB rfl k7 d_5002_14 (Nat.le_of_ble_eq_true rfl) h (fun v9 S8 h => ?_)
    refine zu_bipush d_5002_17 zj_32 ?_
    refine zu_cmpeq (t := 50) d_5002_19 rfl (fun c10 => ?_) (fun c10 => ?_)
    · have h := h.1 c10
      refine zu_aload_n d_5002_50 rfl (zs_ra _) ?_
      refine zu_iload_n d_5002_51 rfl ?_
      obtain ⟨k11, h⟩ := h
      refine zc_5_60 (x0 := p2) hB rfl k11 d_5002_52 (Nat.le_of_ble_eq_true rfl) h (fun v13 S12 h => ?_)
      refine zu_pop d_5002_55 rfl ?_
      refine zu_iconst d_5002_56 zi_0 ?_
      refine zu_istore_n d_5002_57 (zs_lt zq_5002 rfl) ?_
      refine zs_U.weak (L1 := [(2, .int (0 : Int32)), (0, .ref p0), (1, va_rf p1), (3, .int p3)]) ?_ ⟨rfl, zs_gp1 rfl (Or.inl rfl) rfl, zs_gp1 rfl (Or.inl (zs_cat _)) rfl, zs_gp1 rfl (Or.inl rfl) rfl, trivial⟩
      refine zu_iinc d_5002_58 rfl zi_1 (zs_lt zq_5002 rfl) ?_
      exact (u_X6_all_61 hB h).weak ⟨rfl, rfl, rfl, rfl, trivial⟩
    · have h := h.2 c10
      refine zu_aload_n d_5002_22 rfl (zs_ra _) ?_
      obtain ⟨k14, h⟩ := h
      refine zg_5_10 rfl d_5002_23 k14 ?_
      refine zu_aload_n d_5002_26 rfl (zs_ra _) ?_
      refine zg_5_16 rfl d_5002_27 k14 ?_
      refine zu_aload_n d_5002_30 rfl (zs_ra _) ?_
      refine zg_5_36 rfl d_5002_31 k14 ?_
      obtain ⟨b15, e16, h⟩ := h
      refine zs_stk1 (zs_rfe e16) ?_
      obtain ⟨k17, h⟩ := h
      refine zu_iald (k := 0) d_5002_34 rfl rfl k17 ?_
      refine zu_iload_n d_5002_35 rfl ?_
      refine zu_iinc d_5002_36 rfl zi_1 (zs_lt zq_5002 rfl) ?_
      refine zs_U.weak (L1 := [(2, .int (p2 + (1 : Int32))), (0, .ref p0), (1, va_rf p1), (3, .int p3)]) ?_ ⟨rfl, zs_gp1 rfl (Or.inl rfl) rfl, zs_gp1 rfl (Or.inl (zs_cat _)) rfl, zs_gp1 rfl (Or.inl rfl) rfl, trivial⟩
      refine zu_stk d_5002_39 rfl rfl ?_
      refine zu_aload_n d_5002_40 rfl (zs_rr _) ?_
      refine zu_iload_n d_5002_41 rfl ?_
      refine zs_stk1 (zs_rfe e2) ?_
      obtain ⟨k18, h⟩ := h
      refine zc_5_56 (x0 := p3) hB rfl k18 d_5002_42 (by simp only [List.map_cons, List.map_nil, List.sum_cons, List.sum_nil, zs_cat, zs_cI, zs_cJ, zs_cA]; exact Nat.le_of_ble_eq_true rfl) h (fun v20 S19 h => ?_)
      refine zu_stk d_5002_45 rfl rfl ?_
      obtain ⟨b21, e22, h⟩ := h
      refine zs_stk2 (zs_rfe e22) ?_
      obtain ⟨k23, h⟩ := h
      obtain ⟨k24, h⟩ := h
      refine zu_bast_byte (k := 1) d_5002_46 rfl rfl k24 k23 ?_
      generalize e26 : zs_si S19 b21 ((zs_i S8 b15 (zs_I S8 5012 p0).toNatClampNeg) + p2).toNatClampNeg (vp_nar .byte ((v20).toInt8.toInt32)) = S25
      have h := h S25 e26.symm
      have K27 : ∀ b, zs_K S25 b = zs_K S19 b := zs_Kt e26 (zs_Ksi _ _ _ _) (fun _ => rfl)
      exact (u_X6_all_47 hB h).weak ⟨rfl, rfl, rfl, rfl, trivial⟩
def w_X6_all (X : zs_X) (d : Nat) (p0 : Nat) (p1 : Option Nat) (S : zs_T) (Q : zs_Q) : Prop :=
  (zs_U X d 5002 4 [(0, .ref p0), (1, va_rf p1), (2, .int (0 : Int32)), (3, .int (0 : Int32))] [] S Q)
theorem u_X6_all {σ : Nat → Nat} {n0 : Nat} {bf : ab_B} {d : Nat} {p0 : Nat} {p1 : Option Nat} {S : zs_T} {Q : zs_Q} (hB : zt_B bf) (hd : 1 ≤ d) (h : w_X6_all (zx σ n0 bf) (d - 1) p0 p1 S Q) : zs_C (zx σ n0 bf) d 5002 [.ref p0, va_rf p1] S Q := by
  have hL : lv_args 0 [.ref p0, va_rf p1] = [(0, .ref p0), (1, va_rf p1)] := by simp [lv_args, zs_cat, zs_cI, zs_cJ, zs_cA]
  refine zs_C.of1 (hB.2 5002 (by decide) (by decide)) hd (by rw [hL]; exact zs_sub_self _ (by exact ⟨rfl, rfl, trivial⟩)) ?_
  rw [hL]
  clear hL
  unfold w_X6_all at h
  refine zu_iconst d_5002_0 zi_0 ?_
  refine zu_istore_n d_5002_1 (zs_lt zq_5002 rfl) ?_
  refine zs_U.weak (L1 := [(2, .int (0 : Int32)), (0, .ref p0), (1, va_rf p1)]) ?_ ⟨rfl, zs_gp1 rfl (Or.inl rfl) rfl, zs_gp1 rfl (Or.inl (zs_cat _)) rfl, trivial⟩
  refine zu_iconst d_5002_2 zi_0 ?_
  refine zu_istore_n d_5002_3 (zs_lt zq_5002 rfl) ?_
  exact h.weak ⟨rfl, rfl, rfl, rfl, trivial⟩
/-! SchemaPascal$Words.enter(I)I -/
theorem zm_5003 {σ : Nat → Nat} {n0 : Nat} {bf : ab_B} : ab_code (zx σ n0 bf).1 5003 = prog_15_method_4_code := rfl
theorem zq_5003 {σ : Nat → Nat} {n0 : Nat} {bf : ab_B} : ab_maxL (zx σ n0 bf).1 5003 = 7 := rfl
theorem zr_5003 {σ : Nat → Nat} {n0 : Nat} {bf : ab_B} : ab_ret (zx σ n0 bf).1 5003 = (Option.some Jvm.ClassFile.FieldType.int) := rfl
theorem d_5003_0 {σ : Nat → Nat} {n0 : Nat} {bf : ab_B} : decode (ab_code (zx σ n0 bf).1 5003) 0 = .ok (.aload_n 0, 1) := zd zm_5003 (by decide +kernel)
theorem d_5003_1 {σ : Nat → Nat} {n0 : Nat} {bf : ab_B} : decode (ab_code (zx σ n0 bf).1 5003) 1 = .ok (.getfield 16, 3) := zd zm_5003 (by decide +kernel)
theorem d_5003_4 {σ : Nat → Nat} {n0 : Nat} {bf : ab_B} : decode (ab_code (zx σ n0 bf).1 5003) 4 = .ok (.aload_n 0, 1) := zd zm_5003 (by decide +kernel)
theorem d_5003_5 {σ : Nat → Nat} {n0 : Nat} {bf : ab_B} : decode (ab_code (zx σ n0 bf).1 5003) 5 = .ok (.getfield 36, 3) := zd zm_5003 (by decide +kernel)
theorem d_5003_8 {σ : Nat → Nat} {n0 : Nat} {bf : ab_B} : decode (ab_code (zx σ n0 bf).1 5003) 8 = .ok (.iaload, 1) := zd zm_5003 (by decide +kernel)
theorem d_5003_9 {σ : Nat → Nat} {n0 : Nat} {bf : ab_B} : decode (ab_code (zx σ n0 bf).1 5003) 9 = .ok (.istore_n 2, 1) := zd zm_5003 (by decide +kernel)
theorem d_5003_10 {σ : Nat → Nat} {n0 : Nat} {bf : ab_B} : decode (ab_code (zx σ n0 bf).1 5003) 10 = .ok (.iconst 0, 1) := zd zm_5003 (by decide +kernel)
theorem d_5003_11 {σ : Nat → Nat} {n0 : Nat} {bf : ab_B} : decode (ab_code (zx σ n0 bf).1 5003) 11 = .ok (.istore_n 3, 1) := zd zm_5003 (by decide +kernel)
theorem d_5003_12 {σ : Nat → Nat} {n0 : Nat} {bf : ab_B} : decode (ab_code (zx σ n0 bf).1 5003) 12 = .ok (.iconst 0, 1) := zd zm_5003 (by decide +kernel)
theorem d_5003_13 {σ : Nat → Nat} {n0 : Nat} {bf : ab_B} : decode (ab_code (zx σ n0 bf).1 5003) 13 = .ok (.istore 4, 2) := zd zm_5003 (by decide +kernel)
theorem d_5003_15 {σ : Nat → Nat} {n0 : Nat} {bf : ab_B} : decode (ab_code (zx σ n0 bf).1 5003) 15 = .ok (.iload 4, 2) := zd zm_5003 (by decide +kernel)
theorem d_5003_17 {σ : Nat → Nat} {n0 : Nat} {bf : ab_B} : decode (ab_code (zx σ n0 bf).1 5003) 17 = .ok (.iload_n 1, 1) := zd zm_5003 (by decide +kernel)
theorem d_5003_18 {σ : Nat → Nat} {n0 : Nat} {bf : ab_B} : decode (ab_code (zx σ n0 bf).1 5003) 18 = .ok (.if_icmp .ge 24, 3) := zd zm_5003 (by decide +kernel)
theorem d_5003_21 {σ : Nat → Nat} {n0 : Nat} {bf : ab_B} : decode (ab_code (zx σ n0 bf).1 5003) 21 = .ok (.bipush 31, 2) := zd zm_5003 (by decide +kernel)
theorem d_5003_23 {σ : Nat → Nat} {n0 : Nat} {bf : ab_B} : decode (ab_code (zx σ n0 bf).1 5003) 23 = .ok (.iload_n 3, 1) := zd zm_5003 (by decide +kernel)
theorem d_5003_24 {σ : Nat → Nat} {n0 : Nat} {bf : ab_B} : decode (ab_code (zx σ n0 bf).1 5003) 24 = .ok (.imul, 1) := zd zm_5003 (by decide +kernel)
theorem d_5003_25 {σ : Nat → Nat} {n0 : Nat} {bf : ab_B} : decode (ab_code (zx σ n0 bf).1 5003) 25 = .ok (.aload_n 0, 1) := zd zm_5003 (by decide +kernel)
theorem d_5003_26 {σ : Nat → Nat} {n0 : Nat} {bf : ab_B} : decode (ab_code (zx σ n0 bf).1 5003) 26 = .ok (.getfield 10, 3) := zd zm_5003 (by decide +kernel)
theorem d_5003_29 {σ : Nat → Nat} {n0 : Nat} {bf : ab_B} : decode (ab_code (zx σ n0 bf).1 5003) 29 = .ok (.iload_n 2, 1) := zd zm_5003 (by decide +kernel)
theorem d_5003_30 {σ : Nat → Nat} {n0 : Nat} {bf : ab_B} : decode (ab_code (zx σ n0 bf).1 5003) 30 = .ok (.iload 4, 2) := zd zm_5003 (by decide +kernel)
theorem d_5003_32 {σ : Nat → Nat} {n0 : Nat} {bf : ab_B} : decode (ab_code (zx σ n0 bf).1 5003) 32 = .ok (.iadd, 1) := zd zm_5003 (by decide +kernel)
theorem d_5003_33 {σ : Nat → Nat} {n0 : Nat} {bf : ab_B} : decode (ab_code (zx σ n0 bf).1 5003) 33 = .ok (.baload, 1) := zd zm_5003 (by decide +kernel)
theorem d_5003_34 {σ : Nat → Nat} {n0 : Nat} {bf : ab_B} : decode (ab_code (zx σ n0 bf).1 5003) 34 = .ok (.iadd, 1) := zd zm_5003 (by decide +kernel)
theorem d_5003_35 {σ : Nat → Nat} {n0 : Nat} {bf : ab_B} : decode (ab_code (zx σ n0 bf).1 5003) 35 = .ok (.istore_n 3, 1) := zd zm_5003 (by decide +kernel)
theorem d_5003_36 {σ : Nat → Nat} {n0 : Nat} {bf : ab_B} : decode (ab_code (zx σ n0 bf).1 5003) 36 = .ok (.iinc 4 1, 3) := zd zm_5003 (by decide +kernel)
theorem d_5003_39 {σ : Nat → Nat} {n0 : Nat} {bf : ab_B} : decode (ab_code (zx σ n0 bf).1 5003) 39 = .ok (.goto (-24), 3) := zd zm_5003 (by decide +kernel)
theorem d_5003_42 {σ : Nat → Nat} {n0 : Nat} {bf : ab_B} : decode (ab_code (zx σ n0 bf).1 5003) 42 = .ok (.iload_n 3, 1) := zd zm_5003 (by decide +kernel)
theorem d_5003_43 {σ : Nat → Nat} {n0 : Nat} {bf : ab_B} : decode (ab_code (zx σ n0 bf).1 5003) 43 = .ok (.sipush 1023, 3) := zd zm_5003 (by decide +kernel)
theorem d_5003_46 {σ : Nat → Nat} {n0 : Nat} {bf : ab_B} : decode (ab_code (zx σ n0 bf).1 5003) 46 = .ok (.iand, 1) := zd zm_5003 (by decide +kernel)
theorem d_5003_47 {σ : Nat → Nat} {n0 : Nat} {bf : ab_B} : decode (ab_code (zx σ n0 bf).1 5003) 47 = .ok (.istore_n 3, 1) := zd zm_5003 (by decide +kernel)
theorem d_5003_48 {σ : Nat → Nat} {n0 : Nat} {bf : ab_B} : decode (ab_code (zx σ n0 bf).1 5003) 48 = .ok (.aload_n 0, 1) := zd zm_5003 (by decide +kernel)
theorem d_5003_49 {σ : Nat → Nat} {n0 : Nat} {bf : ab_B} : decode (ab_code (zx σ n0 bf).1 5003) 49 = .ok (.getfield 23, 3) := zd zm_5003 (by decide +kernel)
theorem d_5003_52 {σ : Nat → Nat} {n0 : Nat} {bf : ab_B} : decode (ab_code (zx σ n0 bf).1 5003) 52 = .ok (.iload_n 3, 1) := zd zm_5003 (by decide +kernel)
theorem d_5003_53 {σ : Nat → Nat} {n0 : Nat} {bf : ab_B} : decode (ab_code (zx σ n0 bf).1 5003) 53 = .ok (.iaload, 1) := zd zm_5003 (by decide +kernel)
theorem d_5003_54 {σ : Nat → Nat} {n0 : Nat} {bf : ab_B} : decode (ab_code (zx σ n0 bf).1 5003) 54 = .ok (.istore 4, 2) := zd zm_5003 (by decide +kernel)
theorem d_5003_56 {σ : Nat → Nat} {n0 : Nat} {bf : ab_B} : decode (ab_code (zx σ n0 bf).1 5003) 56 = .ok (.iload 4, 2) := zd zm_5003 (by decide +kernel)
theorem d_5003_58 {σ : Nat → Nat} {n0 : Nat} {bf : ab_B} : decode (ab_code (zx σ n0 bf).1 5003) 58 = .ok (.iconst (-1), 1) := zd zm_5003 (by decide +kernel)
theorem d_5003_59 {σ : Nat → Nat} {n0 : Nat} {bf : ab_B} : decode (ab_code (zx σ n0 bf).1 5003) 59 = .ok (.if_icmp .eq 105, 3) := zd zm_5003 (by decide +kernel)
theorem d_5003_62 {σ : Nat → Nat} {n0 : Nat} {bf : ab_B} : decode (ab_code (zx σ n0 bf).1 5003) 62 = .ok (.aload_n 0, 1) := zd zm_5003 (by decide +kernel)
theorem d_5003_63 {σ : Nat → Nat} {n0 : Nat} {bf : ab_B} : decode (ab_code (zx σ n0 bf).1 5003) 63 = .ok (.getfield 16, 3) := zd zm_5003 (by decide +kernel)
theorem d_5003_66 {σ : Nat → Nat} {n0 : Nat} {bf : ab_B} : decode (ab_code (zx σ n0 bf).1 5003) 66 = .ok (.iload 4, 2) := zd zm_5003 (by decide +kernel)
theorem d_5003_68 {σ : Nat → Nat} {n0 : Nat} {bf : ab_B} : decode (ab_code (zx σ n0 bf).1 5003) 68 = .ok (.iconst 1, 1) := zd zm_5003 (by decide +kernel)
theorem d_5003_69 {σ : Nat → Nat} {n0 : Nat} {bf : ab_B} : decode (ab_code (zx σ n0 bf).1 5003) 69 = .ok (.iadd, 1) := zd zm_5003 (by decide +kernel)
theorem d_5003_70 {σ : Nat → Nat} {n0 : Nat} {bf : ab_B} : decode (ab_code (zx σ n0 bf).1 5003) 70 = .ok (.iaload, 1) := zd zm_5003 (by decide +kernel)
theorem d_5003_71 {σ : Nat → Nat} {n0 : Nat} {bf : ab_B} : decode (ab_code (zx σ n0 bf).1 5003) 71 = .ok (.aload_n 0, 1) := zd zm_5003 (by decide +kernel)
theorem d_5003_72 {σ : Nat → Nat} {n0 : Nat} {bf : ab_B} : decode (ab_code (zx σ n0 bf).1 5003) 72 = .ok (.getfield 16, 3) := zd zm_5003 (by decide +kernel)
theorem d_5003_75 {σ : Nat → Nat} {n0 : Nat} {bf : ab_B} : decode (ab_code (zx σ n0 bf).1 5003) 75 = .ok (.iload 4, 2) := zd zm_5003 (by decide +kernel)
theorem d_5003_77 {σ : Nat → Nat} {n0 : Nat} {bf : ab_B} : decode (ab_code (zx σ n0 bf).1 5003) 77 = .ok (.iaload, 1) := zd zm_5003 (by decide +kernel)
theorem d_5003_78 {σ : Nat → Nat} {n0 : Nat} {bf : ab_B} : decode (ab_code (zx σ n0 bf).1 5003) 78 = .ok (.isub, 1) := zd zm_5003 (by decide +kernel)
theorem d_5003_79 {σ : Nat → Nat} {n0 : Nat} {bf : ab_B} : decode (ab_code (zx σ n0 bf).1 5003) 79 = .ok (.iload_n 1, 1) := zd zm_5003 (by decide +kernel)
theorem d_5003_80 {σ : Nat → Nat} {n0 : Nat} {bf : ab_B} : decode (ab_code (zx σ n0 bf).1 5003) 80 = .ok (.if_icmp .ne 7, 3) := zd zm_5003 (by decide +kernel)
theorem d_5003_83 {σ : Nat → Nat} {n0 : Nat} {bf : ab_B} : decode (ab_code (zx σ n0 bf).1 5003) 83 = .ok (.iconst 1, 1) := zd zm_5003 (by decide +kernel)
theorem d_5003_84 {σ : Nat → Nat} {n0 : Nat} {bf : ab_B} : decode (ab_code (zx σ n0 bf).1 5003) 84 = .ok (.goto 4, 3) := zd zm_5003 (by decide +kernel)
theorem d_5003_87 {σ : Nat → Nat} {n0 : Nat} {bf : ab_B} : decode (ab_code (zx σ n0 bf).1 5003) 87 = .ok (.iconst 0, 1) := zd zm_5003 (by decide +kernel)
theorem d_5003_88 {σ : Nat → Nat} {n0 : Nat} {bf : ab_B} : decode (ab_code (zx σ n0 bf).1 5003) 88 = .ok (.istore 5, 2) := zd zm_5003 (by decide +kernel)
theorem d_5003_90 {σ : Nat → Nat} {n0 : Nat} {bf : ab_B} : decode (ab_code (zx σ n0 bf).1 5003) 90 = .ok (.iconst 0, 1) := zd zm_5003 (by decide +kernel)
theorem d_5003_91 {σ : Nat → Nat} {n0 : Nat} {bf : ab_B} : decode (ab_code (zx σ n0 bf).1 5003) 91 = .ok (.istore 6, 2) := zd zm_5003 (by decide +kernel)
theorem d_5003_93 {σ : Nat → Nat} {n0 : Nat} {bf : ab_B} : decode (ab_code (zx σ n0 bf).1 5003) 93 = .ok (.iload 6, 2) := zd zm_5003 (by decide +kernel)
theorem d_5003_95 {σ : Nat → Nat} {n0 : Nat} {bf : ab_B} : decode (ab_code (zx σ n0 bf).1 5003) 95 = .ok (.iload_n 1, 1) := zd zm_5003 (by decide +kernel)
theorem d_5003_96 {σ : Nat → Nat} {n0 : Nat} {bf : ab_B} : decode (ab_code (zx σ n0 bf).1 5003) 96 = .ok (.if_icmp .ge 48, 3) := zd zm_5003 (by decide +kernel)
theorem d_5003_99 {σ : Nat → Nat} {n0 : Nat} {bf : ab_B} : decode (ab_code (zx σ n0 bf).1 5003) 99 = .ok (.iload 5, 2) := zd zm_5003 (by decide +kernel)
theorem d_5003_101 {σ : Nat → Nat} {n0 : Nat} {bf : ab_B} : decode (ab_code (zx σ n0 bf).1 5003) 101 = .ok (.ifCond .eq 43, 3) := zd zm_5003 (by decide +kernel)
theorem d_5003_104 {σ : Nat → Nat} {n0 : Nat} {bf : ab_B} : decode (ab_code (zx σ n0 bf).1 5003) 104 = .ok (.aload_n 0, 1) := zd zm_5003 (by decide +kernel)
theorem d_5003_105 {σ : Nat → Nat} {n0 : Nat} {bf : ab_B} : decode (ab_code (zx σ n0 bf).1 5003) 105 = .ok (.getfield 10, 3) := zd zm_5003 (by decide +kernel)
theorem d_5003_108 {σ : Nat → Nat} {n0 : Nat} {bf : ab_B} : decode (ab_code (zx σ n0 bf).1 5003) 108 = .ok (.aload_n 0, 1) := zd zm_5003 (by decide +kernel)
theorem d_5003_109 {σ : Nat → Nat} {n0 : Nat} {bf : ab_B} : decode (ab_code (zx σ n0 bf).1 5003) 109 = .ok (.getfield 16, 3) := zd zm_5003 (by decide +kernel)
theorem d_5003_112 {σ : Nat → Nat} {n0 : Nat} {bf : ab_B} : decode (ab_code (zx σ n0 bf).1 5003) 112 = .ok (.iload 4, 2) := zd zm_5003 (by decide +kernel)
theorem d_5003_114 {σ : Nat → Nat} {n0 : Nat} {bf : ab_B} : decode (ab_code (zx σ n0 bf).1 5003) 114 = .ok (.iaload, 1) := zd zm_5003 (by decide +kernel)
theorem d_5003_115 {σ : Nat → Nat} {n0 : Nat} {bf : ab_B} : decode (ab_code (zx σ n0 bf).1 5003) 115 = .ok (.iload 6, 2) := zd zm_5003 (by decide +kernel)
theorem d_5003_117 {σ : Nat → Nat} {n0 : Nat} {bf : ab_B} : decode (ab_code (zx σ n0 bf).1 5003) 117 = .ok (.iadd, 1) := zd zm_5003 (by decide +kernel)
theorem d_5003_118 {σ : Nat → Nat} {n0 : Nat} {bf : ab_B} : decode (ab_code (zx σ n0 bf).1 5003) 118 = .ok (.baload, 1) := zd zm_5003 (by decide +kernel)
theorem d_5003_119 {σ : Nat → Nat} {n0 : Nat} {bf : ab_B} : decode (ab_code (zx σ n0 bf).1 5003) 119 = .ok (.aload_n 0, 1) := zd zm_5003 (by decide +kernel)
theorem d_5003_120 {σ : Nat → Nat} {n0 : Nat} {bf : ab_B} : decode (ab_code (zx σ n0 bf).1 5003) 120 = .ok (.getfield 10, 3) := zd zm_5003 (by decide +kernel)
theorem d_5003_123 {σ : Nat → Nat} {n0 : Nat} {bf : ab_B} : decode (ab_code (zx σ n0 bf).1 5003) 123 = .ok (.iload_n 2, 1) := zd zm_5003 (by decide +kernel)
theorem d_5003_124 {σ : Nat → Nat} {n0 : Nat} {bf : ab_B} : decode (ab_code (zx σ n0 bf).1 5003) 124 = .ok (.iload 6, 2) := zd zm_5003 (by decide +kernel)
theorem d_5003_126 {σ : Nat → Nat} {n0 : Nat} {bf : ab_B} : decode (ab_code (zx σ n0 bf).1 5003) 126 = .ok (.iadd, 1) := zd zm_5003 (by decide +kernel)
theorem d_5003_127 {σ : Nat → Nat} {n0 : Nat} {bf : ab_B} : decode (ab_code (zx σ n0 bf).1 5003) 127 = .ok (.baload, 1) := zd zm_5003 (by decide +kernel)
theorem d_5003_128 {σ : Nat → Nat} {n0 : Nat} {bf : ab_B} : decode (ab_code (zx σ n0 bf).1 5003) 128 = .ok (.if_icmp .ne 7, 3) := zd zm_5003 (by decide +kernel)
theorem d_5003_131 {σ : Nat → Nat} {n0 : Nat} {bf : ab_B} : decode (ab_code (zx σ n0 bf).1 5003) 131 = .ok (.iconst 1, 1) := zd zm_5003 (by decide +kernel)
theorem d_5003_132 {σ : Nat → Nat} {n0 : Nat} {bf : ab_B} : decode (ab_code (zx σ n0 bf).1 5003) 132 = .ok (.goto 4, 3) := zd zm_5003 (by decide +kernel)
theorem d_5003_135 {σ : Nat → Nat} {n0 : Nat} {bf : ab_B} : decode (ab_code (zx σ n0 bf).1 5003) 135 = .ok (.iconst 0, 1) := zd zm_5003 (by decide +kernel)
theorem d_5003_136 {σ : Nat → Nat} {n0 : Nat} {bf : ab_B} : decode (ab_code (zx σ n0 bf).1 5003) 136 = .ok (.istore 5, 2) := zd zm_5003 (by decide +kernel)
theorem d_5003_138 {σ : Nat → Nat} {n0 : Nat} {bf : ab_B} : decode (ab_code (zx σ n0 bf).1 5003) 138 = .ok (.iinc 6 1, 3) := zd zm_5003 (by decide +kernel)
theorem d_5003_141 {σ : Nat → Nat} {n0 : Nat} {bf : ab_B} : decode (ab_code (zx σ n0 bf).1 5003) 141 = .ok (.goto (-48), 3) := zd zm_5003 (by decide +kernel)
theorem d_5003_144 {σ : Nat → Nat} {n0 : Nat} {bf : ab_B} : decode (ab_code (zx σ n0 bf).1 5003) 144 = .ok (.iload 5, 2) := zd zm_5003 (by decide +kernel)
theorem d_5003_146 {σ : Nat → Nat} {n0 : Nat} {bf : ab_B} : decode (ab_code (zx σ n0 bf).1 5003) 146 = .ok (.ifCond .eq 6, 3) := zd zm_5003 (by decide +kernel)
theorem d_5003_149 {σ : Nat → Nat} {n0 : Nat} {bf : ab_B} : decode (ab_code (zx σ n0 bf).1 5003) 149 = .ok (.iload 4, 2) := zd zm_5003 (by decide +kernel)
theorem d_5003_151 {σ : Nat → Nat} {n0 : Nat} {bf : ab_B} : decode (ab_code (zx σ n0 bf).1 5003) 151 = .ok (.ireturn, 1) := zd zm_5003 (by decide +kernel)
theorem d_5003_152 {σ : Nat → Nat} {n0 : Nat} {bf : ab_B} : decode (ab_code (zx σ n0 bf).1 5003) 152 = .ok (.aload_n 0, 1) := zd zm_5003 (by decide +kernel)
theorem d_5003_153 {σ : Nat → Nat} {n0 : Nat} {bf : ab_B} : decode (ab_code (zx σ n0 bf).1 5003) 153 = .ok (.getfield 20, 3) := zd zm_5003 (by decide +kernel)
theorem d_5003_156 {σ : Nat → Nat} {n0 : Nat} {bf : ab_B} : decode (ab_code (zx σ n0 bf).1 5003) 156 = .ok (.iload 4, 2) := zd zm_5003 (by decide +kernel)
theorem d_5003_158 {σ : Nat → Nat} {n0 : Nat} {bf : ab_B} : decode (ab_code (zx σ n0 bf).1 5003) 158 = .ok (.iaload, 1) := zd zm_5003 (by decide +kernel)
theorem d_5003_159 {σ : Nat → Nat} {n0 : Nat} {bf : ab_B} : decode (ab_code (zx σ n0 bf).1 5003) 159 = .ok (.istore 4, 2) := zd zm_5003 (by decide +kernel)
theorem d_5003_161 {σ : Nat → Nat} {n0 : Nat} {bf : ab_B} : decode (ab_code (zx σ n0 bf).1 5003) 161 = .ok (.goto (-105), 3) := zd zm_5003 (by decide +kernel)
theorem d_5003_164 {σ : Nat → Nat} {n0 : Nat} {bf : ab_B} : decode (ab_code (zx σ n0 bf).1 5003) 164 = .ok (.aload_n 0, 1) := zd zm_5003 (by decide +kernel)
theorem d_5003_165 {σ : Nat → Nat} {n0 : Nat} {bf : ab_B} : decode (ab_code (zx σ n0 bf).1 5003) 165 = .ok (.getfield 20, 3) := zd zm_5003 (by decide +kernel)
theorem d_5003_168 {σ : Nat → Nat} {n0 : Nat} {bf : ab_B} : decode (ab_code (zx σ n0 bf).1 5003) 168 = .ok (.aload_n 0, 1) := zd zm_5003 (by decide +kernel)
theorem d_5003_169 {σ : Nat → Nat} {n0 : Nat} {bf : ab_B} : decode (ab_code (zx σ n0 bf).1 5003) 169 = .ok (.getfield 36, 3) := zd zm_5003 (by decide +kernel)
theorem d_5003_172 {σ : Nat → Nat} {n0 : Nat} {bf : ab_B} : decode (ab_code (zx σ n0 bf).1 5003) 172 = .ok (.aload_n 0, 1) := zd zm_5003 (by decide +kernel)
theorem d_5003_173 {σ : Nat → Nat} {n0 : Nat} {bf : ab_B} : decode (ab_code (zx σ n0 bf).1 5003) 173 = .ok (.getfield 23, 3) := zd zm_5003 (by decide +kernel)
theorem d_5003_176 {σ : Nat → Nat} {n0 : Nat} {bf : ab_B} : decode (ab_code (zx σ n0 bf).1 5003) 176 = .ok (.iload_n 3, 1) := zd zm_5003 (by decide +kernel)
theorem d_5003_177 {σ : Nat → Nat} {n0 : Nat} {bf : ab_B} : decode (ab_code (zx σ n0 bf).1 5003) 177 = .ok (.iaload, 1) := zd zm_5003 (by decide +kernel)
theorem d_5003_178 {σ : Nat → Nat} {n0 : Nat} {bf : ab_B} : decode (ab_code (zx σ n0 bf).1 5003) 178 = .ok (.iastore, 1) := zd zm_5003 (by decide +kernel)
theorem d_5003_179 {σ : Nat → Nat} {n0 : Nat} {bf : ab_B} : decode (ab_code (zx σ n0 bf).1 5003) 179 = .ok (.aload_n 0, 1) := zd zm_5003 (by decide +kernel)
theorem d_5003_180 {σ : Nat → Nat} {n0 : Nat} {bf : ab_B} : decode (ab_code (zx σ n0 bf).1 5003) 180 = .ok (.getfield 23, 3) := zd zm_5003 (by decide +kernel)
theorem d_5003_183 {σ : Nat → Nat} {n0 : Nat} {bf : ab_B} : decode (ab_code (zx σ n0 bf).1 5003) 183 = .ok (.iload_n 3, 1) := zd zm_5003 (by decide +kernel)
theorem d_5003_184 {σ : Nat → Nat} {n0 : Nat} {bf : ab_B} : decode (ab_code (zx σ n0 bf).1 5003) 184 = .ok (.aload_n 0, 1) := zd zm_5003 (by decide +kernel)
theorem d_5003_185 {σ : Nat → Nat} {n0 : Nat} {bf : ab_B} : decode (ab_code (zx σ n0 bf).1 5003) 185 = .ok (.getfield 36, 3) := zd zm_5003 (by decide +kernel)
theorem d_5003_188 {σ : Nat → Nat} {n0 : Nat} {bf : ab_B} : decode (ab_code (zx σ n0 bf).1 5003) 188 = .ok (.iastore, 1) := zd zm_5003 (by decide +kernel)
theorem d_5003_189 {σ : Nat → Nat} {n0 : Nat} {bf : ab_B} : decode (ab_code (zx σ n0 bf).1 5003) 189 = .ok (.aload_n 0, 1) := zd zm_5003 (by decide +kernel)
theorem d_5003_190 {σ : Nat → Nat} {n0 : Nat} {bf : ab_B} : decode (ab_code (zx σ n0 bf).1 5003) 190 = .ok (.getfield 16, 3) := zd zm_5003 (by decide +kernel)
theorem d_5003_193 {σ : Nat → Nat} {n0 : Nat} {bf : ab_B} : decode (ab_code (zx σ n0 bf).1 5003) 193 = .ok (.aload_n 0, 1) := zd zm_5003 (by decide +kernel)
theorem d_5003_194 {σ : Nat → Nat} {n0 : Nat} {bf : ab_B} : decode (ab_code (zx σ n0 bf).1 5003) 194 = .ok (.dup, 1) := zd zm_5003 (by decide +kernel)
theorem d_5003_195 {σ : Nat → Nat} {n0 : Nat} {bf : ab_B} : decode (ab_code (zx σ n0 bf).1 5003) 195 = .ok (.getfield 36, 3) := zd zm_5003 (by decide +kernel)
theorem d_5003_198 {σ : Nat → Nat} {n0 : Nat} {bf : ab_B} : decode (ab_code (zx σ n0 bf).1 5003) 198 = .ok (.iconst 1, 1) := zd zm_5003 (by decide +kernel)
theorem d_5003_199 {σ : Nat → Nat} {n0 : Nat} {bf : ab_B} : decode (ab_code (zx σ n0 bf).1 5003) 199 = .ok (.iadd, 1) := zd zm_5003 (by decide +kernel)
theorem d_5003_200 {σ : Nat → Nat} {n0 : Nat} {bf : ab_B} : decode (ab_code (zx σ n0 bf).1 5003) 200 = .ok (.dup_x1, 1) := zd zm_5003 (by decide +kernel)
theorem d_5003_201 {σ : Nat → Nat} {n0 : Nat} {bf : ab_B} : decode (ab_code (zx σ n0 bf).1 5003) 201 = .ok (.putfield 36, 3) := zd zm_5003 (by decide +kernel)
theorem d_5003_204 {σ : Nat → Nat} {n0 : Nat} {bf : ab_B} : decode (ab_code (zx σ n0 bf).1 5003) 204 = .ok (.iload_n 2, 1) := zd zm_5003 (by decide +kernel)
theorem d_5003_205 {σ : Nat → Nat} {n0 : Nat} {bf : ab_B} : decode (ab_code (zx σ n0 bf).1 5003) 205 = .ok (.iload_n 1, 1) := zd zm_5003 (by decide +kernel)
theorem d_5003_206 {σ : Nat → Nat} {n0 : Nat} {bf : ab_B} : decode (ab_code (zx σ n0 bf).1 5003) 206 = .ok (.iadd, 1) := zd zm_5003 (by decide +kernel)
theorem d_5003_207 {σ : Nat → Nat} {n0 : Nat} {bf : ab_B} : decode (ab_code (zx σ n0 bf).1 5003) 207 = .ok (.iastore, 1) := zd zm_5003 (by decide +kernel)
theorem d_5003_208 {σ : Nat → Nat} {n0 : Nat} {bf : ab_B} : decode (ab_code (zx σ n0 bf).1 5003) 208 = .ok (.aload_n 0, 1) := zd zm_5003 (by decide +kernel)
theorem d_5003_209 {σ : Nat → Nat} {n0 : Nat} {bf : ab_B} : decode (ab_code (zx σ n0 bf).1 5003) 209 = .ok (.getfield 36, 3) := zd zm_5003 (by decide +kernel)
theorem d_5003_212 {σ : Nat → Nat} {n0 : Nat} {bf : ab_B} : decode (ab_code (zx σ n0 bf).1 5003) 212 = .ok (.iconst 1, 1) := zd zm_5003 (by decide +kernel)
theorem d_5003_213 {σ : Nat → Nat} {n0 : Nat} {bf : ab_B} : decode (ab_code (zx σ n0 bf).1 5003) 213 = .ok (.isub, 1) := zd zm_5003 (by decide +kernel)
theorem d_5003_214 {σ : Nat → Nat} {n0 : Nat} {bf : ab_B} : decode (ab_code (zx σ n0 bf).1 5003) 214 = .ok (.ireturn, 1) := zd zm_5003 (by decide +kernel)
def w_X6_enter_15 (X : zs_X) (d : Nat) (p0 : Nat) (p1 : Int32) (p2 : Int32) (p3 : Int32) (p4 : Int32) (S : zs_T) (Q : zs_Q) : Prop :=
  (((p1 ≤ p4 → (zs_K S p0 = some (.inl 5) ∧ ∃ b3, (zs_R S 5011 p0) = some b3 ∧ zs_A S b3 0 (p3 &&& (1023 : Int32)) ∧ zs_U X d 5003 56 [(0, .ref p0), (1, .int p1), (2, .int p2), (3, .int (p3 &&& (1023 : Int32))), (4, .int (zs_i S b3 (p3 &&& (1023 : Int32)).toNatClampNeg))] [] S Q)) ∧ (¬ (p1 ≤ p4) → (zs_K S p0 = some (.inl 5) ∧ ∃ b7, (zs_R S 5008 p0) = some b7 ∧ zs_A S b7 1 (p2 + p4) ∧ zs_U X d 5003 15 [(0, .ref p0), (1, .int p1), (2, .int p2), (3, .int (((31 : Int32) * p3) + (zs_i S b7 (p2 + p4).toNatClampNeg))), (4, .int (p4 + (1 : Int32)))] [] S Q))))
theorem u_X6_enter_15 {σ : Nat → Nat} {n0 : Nat} {bf : ab_B} {d : Nat} {p0 : Nat} {p1 : Int32} {p2 : Int32} {p3 : Int32} {p4 : Int32} {S : zs_T} {Q : zs_Q} (hB : zt_B bf) (h : w_X6_enter_15 (zx σ n0 bf) d p0 p1 p2 p3 p4 S Q) : zs_U (zx σ n0 bf) d 5003 15 [(0, .ref p0), (1, .int p1), (2, .int p2), (3, .int p3), (4, .int p4)] [] S Q := by
  unfold w_X6_enter_15 at h
  refine zu_iload d_5003_15 rfl ?_
  refine zu_iload_n d_5003_17 rfl ?_
  refine zu_cmpge (t := 42) d_5003_18 rfl (fun c1 => ?_) (fun c1 => ?_)
  · have h := h.1 c1
    refine zu_iload_n d_5003_42 rfl ?_
    refine zu_sipush d_5003_43 zh_1023 ?_
    refine zu_stk d_5003_46 rfl rfl ?_
    refine zu_istore_n d_5003_47 (zs_lt zq_5003 rfl) ?_
    refine zu_aload_n d_5003_48 rfl (zs_ra _) ?_
    obtain ⟨k2, h⟩ := h
    refine zg_5_23 rfl d_5003_49 k2 ?_
    refine zu_iload_n d_5003_52 rfl ?_
    obtain ⟨b3, e4, h⟩ := h
    refine zs_stk1 (zs_rfe e4) ?_
    obtain ⟨k5, h⟩ := h
    refine zu_iald (k := 0) d_5003_53 rfl rfl k5 ?_
    refine zu_istore d_5003_54 (zs_lt zq_5003 rfl) ?_
    exact h.weak ⟨rfl, rfl, rfl, rfl, rfl, trivial⟩
  · have h := h.2 c1
    refine zu_bipush d_5003_21 zj_31 ?_
    refine zu_iload_n d_5003_23 rfl ?_
    refine zu_stk d_5003_24 rfl rfl ?_
    refine zu_aload_n d_5003_25 rfl (zs_ra _) ?_
    obtain ⟨k6, h⟩ := h
    refine zg_5_10 rfl d_5003_26 k6 ?_
    refine zu_iload_n d_5003_29 rfl ?_
    refine zu_iload d_5003_30 rfl ?_
    refine zu_stk d_5003_32 rfl rfl ?_
    obtain ⟨b7, e8, h⟩ := h
    refine zs_stk1 (zs_rfe e8) ?_
    obtain ⟨k9, h⟩ := h
    refine zu_bald (k := 1) d_5003_33 rfl (Or.inl rfl) k9 ?_
    refine zu_stk d_5003_34 rfl rfl ?_
    refine zu_istore_n d_5003_35 (zs_lt zq_5003 rfl) ?_
    refine zu_iinc d_5003_36 rfl zi_1 (zs_lt zq_5003 rfl) ?_
    refine zu_goto (t := 15) d_5003_39 rfl ?_
    exact h.weak ⟨rfl, rfl, rfl, rfl, rfl, trivial⟩
def w_X6_enter_189 (X : zs_X) (d : Nat) (p0 : Nat) (p1 : Int32) (p2 : Int32) (S : zs_T) (Q : zs_Q) : Prop :=
  (zs_K S p0 = some (.inl 5) ∧ ab_n0 X.1 ≤ p0 ∧ ∀ S3, S3 = zs_sI S 5012 p0 ((zs_I S 5012 p0) + (1 : Int32)) → ∃ b6, (zs_R S 5009 p0) = some b6 ∧ zs_A S b6 0 ((zs_I S 5012 p0) + (1 : Int32)) ∧ ab_n0 X.1 ≤ b6 ∧ ∀ S10, S10 = zs_si S3 b6 ((zs_I S 5012 p0) + (1 : Int32)).toNatClampNeg (p2 + p1) → Q (.returned (some (.int ((zs_I S10 5012 p0) - (1 : Int32))))) S10)
theorem u_X6_enter_189 {σ : Nat → Nat} {n0 : Nat} {bf : ab_B} {d : Nat} {p0 : Nat} {p1 : Int32} {p2 : Int32} {S : zs_T} {Q : zs_Q} (hB : zt_B bf) (h : w_X6_enter_189 (zx σ n0 bf) d p0 p1 p2 S Q) : zs_U (zx σ n0 bf) d 5003 189 [(0, .ref p0), (1, .int p1), (2, .int p2)] [] S Q := by
  unfold w_X6_enter_189 at h
  refine zu_aload_n d_5003_189 rfl (zs_ra _) ?_
  obtain ⟨k1, h⟩ := h
  refine zg_5_16 rfl d_5003_190 k1 ?_
  refine zu_aload_n d_5003_193 rfl (zs_ra _) ?_
  refine zu_dup d_5003_194 rfl ?_
  refine zg_5_36 rfl d_5003_195 k1 ?_
  refine zu_iconst d_5003_198 zi_1 ?_
  refine zu_stk d_5003_199 rfl rfl ?_
  refine zu_dup_x1 d_5003_200 rfl rfl ?_
  obtain ⟨k2, h⟩ := h
  refine zp_5_36 (v := ((zs_I S 5012 p0) + (1 : Int32))) rfl d_5003_201 k1 k2 ?_
  generalize e4 : zs_sI S 5012 p0 ((zs_I S 5012 p0) + (1 : Int32)) = S3
  have h := h S3 e4.symm
  have K5 : ∀ b, zs_K S3 b = zs_K S b := zs_Kt e4 (zs_KsI _ _ _ _) (fun _ => rfl)
  refine zu_iload_n d_5003_204 rfl ?_
  refine zu_iload_n d_5003_205 rfl ?_
  refine zu_stk d_5003_206 rfl rfl ?_
  obtain ⟨b6, e7, h⟩ := h
  refine zs_stk2 (zs_rfe e7) ?_
  obtain ⟨k8, h⟩ := h
  obtain ⟨k9, h⟩ := h
  refine zu_iast (k := 0) d_5003_207 rfl rfl k9 (zs_Ak K5 k8) ?_
  generalize e11 : zs_si S3 b6 ((zs_I S 5012 p0) + (1 : Int32)).toNatClampNeg (p2 + p1) = S10
  have h := h S10 e11.symm
  have K12 : ∀ b, zs_K S10 b = zs_K S b := zs_Kt e11 (zs_Ksi _ _ _ _) K5
  refine zu_aload_n d_5003_208 rfl (zs_ra _) ?_
  refine zg_5_36 rfl d_5003_209 ((K12 _).trans k1) ?_
  refine zu_iconst d_5003_212 zi_1 ?_
  refine zu_stk d_5003_213 rfl rfl ?_
  exact zu_iret d_5003_214 zr_5003 rfl h
def w_X6_enter_87 (X : zs_X) (d : Nat) (p0 : Nat) (p1 : Int32) (p2 : Int32) (p3 : Int32) (p4 : Int32) (S : zs_T) (Q : zs_Q) : Prop :=
  (zs_U X d 5003 93 [(0, .ref p0), (1, .int p1), (2, .int p2), (3, .int p3), (4, .int p4), (5, .int (0 : Int32)), (6, .int (0 : Int32))] [] S Q)
theorem u_X6_enter_87 {σ : Nat → Nat} {n0 : Nat} {bf : ab_B} {d : Nat} {p0 : Nat} {p1 : Int32} {p2 : Int32} {p3 : Int32} {p4 : Int32} {S : zs_T} {Q : zs_Q} (hB : zt_B bf) (h : w_X6_enter_87 (zx σ n0 bf) d p0 p1 p2 p3 p4 S Q) : zs_U (zx σ n0 bf) d 5003 87 [(0, .ref p0), (1, .int p1), (2, .int p2), (3, .int p3), (4, .int p4)] [] S Q := by
  unfold w_X6_enter_87 at h
  refine zu_iconst d_5003_87 zi_0 ?_
  refine zu_istore d_5003_88 (zs_lt zq_5003 rfl) ?_
  refine zu_iconst d_5003_90 zi_0 ?_
  refine zu_istore d_5003_91 (zs_lt zq_5003 rfl) ?_
  exact h.weak ⟨rfl, rfl, rfl, rfl, rfl, rfl, rfl, trivial⟩
def w_X6_enter_83 (X : zs_X) (d : Nat) (p0 : Nat) (p1 : Int32) (p2 : Int32) (p3 : Int32) (p4 : Int32) (S : zs_T) (Q : zs_Q) : Prop :=
  (zs_U X d 5003 93 [(0, .ref p0), (1, .int p1), (2, .int p2), (3, .int p3), (4, .int p4), (5, .int (1 : Int32)), (6, .int (0 : Int32))] [] S Q)
theorem u_X6_enter_83 {σ : Nat → Nat} {n0 : Nat} {bf : ab_B} {d : Nat} {p0 : Nat} {p1 : Int32} {p2 : Int32} {p3 : Int32} {p4 : Int32} {S : zs_T} {Q : zs_Q} (hB : zt_B bf) (h : w_X6_enter_83 (zx σ n0 bf) d p0 p1 p2 p3 p4 S Q) : zs_U (zx σ n0 bf) d 5003 83 [(0, .ref p0), (1, .int p1), (2, .int p2), (3, .int p3), (4, .int p4)] [] S Q := by
  unfold w_X6_enter_83 at h
  refine zu_iconst d_5003_83 zi_1 ?_
  refine zu_goto (t := 88) d_5003_84 rfl ?_
  refine zu_istore d_5003_88 (zs_lt zq_5003 rfl) ?_
  refine zu_iconst d_5003_90 zi_0 ?_
  refine zu_istore d_5003_91 (zs_lt zq_5003 rfl) ?_
  exact h.weak ⟨rfl, rfl, rfl, rfl, rfl, rfl, rfl, trivial⟩
def w_X6_enter_56 (X : zs_X) (d : Nat) (p0 : Nat) (p1 : Int32) (p2 : Int32) (p3 : Int32) (p4 : Int32) (S : zs_T) (Q : zs_Q) : Prop :=
  (((p4 = (-1 : Int32) → (zs_K S p0 = some (.inl 5) ∧ ∃ b3, (zs_R S 5011 p0) = some b3 ∧ zs_A S b3 0 p3 ∧ ∃ b6, (zs_R S 5010 p0) = some b6 ∧ zs_A S b6 0 (zs_I S 5012 p0) ∧ ab_n0 X.1 ≤ b6 ∧ ∀ S10, S10 = zs_si S b6 (zs_I S 5012 p0).toNatClampNeg (zs_i S b3 p3.toNatClampNeg) → ∃ b13, (zs_R S10 5011 p0) = some b13 ∧ zs_A S b13 0 p3 ∧ ab_n0 X.1 ≤ b13 ∧ ∀ S17, S17 = zs_si S10 b13 p3.toNatClampNeg (zs_I S10 5012 p0) → w_X6_enter_189 X d p0 p1 p2 S17 Q)) ∧ (¬ (p4 = (-1 : Int32)) → (zs_K S p0 = some (.inl 5) ∧ ∃ b21, (zs_R S 5009 p0) = some b21 ∧ zs_A S b21 0 (p4 + (1 : Int32)) ∧ zs_A S b21 0 p4 ∧ ((¬ ((zs_i S b21 (p4 + (1 : Int32)).toNatClampNeg) - (zs_i S b21 p4.toNatClampNeg)) = p1 → w_X6_enter_87 X d p0 p1 p2 p3 p4 S Q) ∧ (¬ (¬ ((zs_i S b21 (p4 + (1 : Int32)).toNatClampNeg) - (zs_i S b21 p4.toNatClampNeg)) = p1) → w_X6_enter_83 X d p0 p1 p2 p3 p4 S Q))))))
theorem u_X6_enter_56 {σ : Nat → Nat} {n0 : Nat} {bf : ab_B} {d : Nat} {p0 : Nat} {p1 : Int32} {p2 : Int32} {p3 : Int32} {p4 : Int32} {S : zs_T} {Q : zs_Q} (hB : zt_B bf) (h : w_X6_enter_56 (zx σ n0 bf) d p0 p1 p2 p3 p4 S Q) : zs_U (zx σ n0 bf) d 5003 56 [(0, .ref p0), (1, .int p1), (2, .int p2), (3, .int p3), (4, .int p4)] [] S Q := by
  unfold w_X6_enter_56 at h
  refine zu_iload d_5003_56 rfl ?_
  refine zu_iconst d_5003_58 zi_m1 ?_
  refine zu_cmpeq (t := 164) d_5003_59 rfl (fun c1 => ?_) (fun c1 => ?_)
  · have h := h.1 c1
    refine zu_aload_n d_5003_164 rfl (zs_ra _) ?_
    obtain ⟨k2, h⟩ := h
    refine zg_5_20 rfl d_5003_165 k2 ?_
    refine zu_aload_n d_5003_168 rfl (zs_ra _) ?_
    refine zg_5_36 rfl d_5003_169 k2 ?_
    refine zu_aload_n d_5003_172 rfl (zs_ra _) ?_
    refine zg_5_23 rfl d_5003_173 k2 ?_
    refine zu_iload_n d_5003_176 rfl ?_
    obtain ⟨b3, e4, h⟩ := h
    refine zs_stk1 (zs_rfe e4) ?_
    obtain ⟨k5, h⟩ := h
    refine zu_iald (k := 0) d_5003_177 rfl rfl k5 ?_
    obtain ⟨b6, e7, h⟩ := h
    refine zs_stk2 (zs_rfe e7) ?_
    obtain ⟨k8, h⟩ := h
    obtain ⟨k9, h⟩ := h
    refine zu_iast (k := 0) d_5003_178 rfl rfl k9 k8 ?_
    generalize e11 : zs_si S b6 (zs_I S 5012 p0).toNatClampNeg (zs_i S b3 p3.toNatClampNeg) = S10
    have h := h S10 e11.symm
    have K12 : ∀ b, zs_K S10 b = zs_K S b := zs_Kt e11 (zs_Ksi _ _ _ _) (fun _ => rfl)
    refine zu_aload_n d_5003_179 rfl (zs_ra _) ?_
    refine zg_5_23 rfl d_5003_180 ((K12 _).trans k2) ?_
    refine zu_iload_n d_5003_183 rfl ?_
    refine zu_aload_n d_5003_184 rfl (zs_ra _) ?_
    refine zg_5_36 rfl d_5003_185 ((K12 _).trans k2) ?_
    obtain ⟨b13, e14, h⟩ := h
    refine zs_stk2 (zs_rfe e14) ?_
    obtain ⟨k15, h⟩ := h
    obtain ⟨k16, h⟩ := h
    refine zu_iast (k := 0) d_5003_188 rfl rfl k16 (zs_Ak K12 k15) ?_
    generalize e18 : zs_si S10 b13 p3.toNatClampNeg (zs_I S10 5012 p0) = S17
    have h := h S17 e18.symm
    have K19 : ∀ b, zs_K S17 b = zs_K S b := zs_Kt e18 (zs_Ksi _ _ _ _) K12
    exact (u_X6_enter_189 hB h).weak ⟨rfl, rfl, rfl, trivial⟩
  · have h := h.2 c1
    refine zu_aload_n d_5003_62 rfl (zs_ra _) ?_
    obtain ⟨k20, h⟩ := h
    refine zg_5_16 rfl d_5003_63 k20 ?_
    refine zu_iload d_5003_66 rfl ?_
    refine zu_iconst d_5003_68 zi_1 ?_
    refine zu_stk d_5003_69 rfl rfl ?_
    obtain ⟨b21, e22, h⟩ := h
    refine zs_stk1 (zs_rfe e22) ?_
    obtain ⟨k23, h⟩ := h
    refine zu_iald (k := 0) d_5003_70 rfl rfl k23 ?_
    refine zu_aload_n d_5003_71 rfl (zs_ra _) ?_
    refine zg_5_16 rfl d_5003_72 k20 ?_
    refine zu_iload d_5003_75 rfl ?_
    refine zs_stk1 (zs_rfe e22) ?_
    obtain ⟨k24, h⟩ := h
    refine zu_iald (k := 0) d_5003_77 rfl rfl k24 ?_
    refine zu_stk d_5003_78 rfl rfl ?_
    refine zu_iload_n d_5003_79 rfl ?_
    refine zu_cmpne (t := 87) d_5003_80 rfl (fun c25 => ?_) (fun c25 => ?_)
    · have h := h.1 c25
      exact (u_X6_enter_87 hB h).weak ⟨rfl, rfl, rfl, rfl, rfl, trivial⟩
    · have h := h.2 c25
      exact (u_X6_enter_83 hB h).weak ⟨rfl, rfl, rfl, rfl, rfl, trivial⟩
def w_X6_enter_144 (X : zs_X) (d : Nat) (p0 : Nat) (p1 : Int32) (p2 : Int32) (p3 : Int32) (p4 : Int32) (p5 : Int32) (S : zs_T) (Q : zs_Q) : Prop :=
  (((p5 = 0 → (zs_K S p0 = some (.inl 5) ∧ ∃ b3, (zs_R S 5010 p0) = some b3 ∧ zs_A S b3 0 p4 ∧ zs_U X d 5003 56 [(0, .ref p0), (1, .int p1), (2, .int p2), (3, .int p3), (4, .int (zs_i S b3 p4.toNatClampNeg))] [] S Q)) ∧ (¬ (p5 = 0) → (Q (.returned (some (.int p4))) S))))
theorem u_X6_enter_144 {σ : Nat → Nat} {n0 : Nat} {bf : ab_B} {d : Nat} {p0 : Nat} {p1 : Int32} {p2 : Int32} {p3 : Int32} {p4 : Int32} {p5 : Int32} {S : zs_T} {Q : zs_Q} (hB : zt_B bf) (h : w_X6_enter_144 (zx σ n0 bf) d p0 p1 p2 p3 p4 p5 S Q) : zs_U (zx σ n0 bf) d 5003 144 [(0, .ref p0), (1, .int p1), (2, .int p2), (3, .int p3), (4, .int p4), (5, .int p5)] [] S Q := by
  unfold w_X6_enter_144 at h
  refine zu_iload d_5003_144 rfl ?_
  refine zu_ifeq (t := 152) d_5003_146 rfl (fun c1 => ?_) (fun c1 => ?_)
  · have h := h.1 c1
    refine zu_aload_n d_5003_152 rfl (zs_ra _) ?_
    obtain ⟨k2, h⟩ := h
    refine zg_5_20 rfl d_5003_153 k2 ?_
    refine zu_iload d_5003_156 rfl ?_
    obtain ⟨b3, e4, h⟩ := h
    refine zs_stk1 (zs_rfe e4) ?_
    obtain ⟨k5, h⟩ := h
    refine zu_iald (k := 0) d_5003_158 rfl rfl k5 ?_
    refine zu_istore d_5003_159 (zs_lt zq_5003 rfl) ?_
    refine zu_goto (t := 56) d_5003_161 rfl ?_
    exact h.weak ⟨rfl, rfl, rfl, rfl, rfl, trivial⟩
  · have h := h.2 c1
    refine zu_iload d_5003_149 rfl ?_
    exact zu_iret d_5003_151 zr_5003 rfl h
def w_X6_enter_135 (X : zs_X) (d : Nat) (p0 : Nat) (p1 : Int32) (p2 : Int32) (p3 : Int32) (p4 : Int32) (p6 : Int32) (S : zs_T) (Q : zs_Q) : Prop :=
  (zs_U X d 5003 93 [(0, .ref p0), (1, .int p1), (2, .int p2), (3, .int p3), (4, .int p4), (5, .int (0 : Int32)), (6, .int (p6 + (1 : Int32)))] [] S Q)
theorem u_X6_enter_135 {σ : Nat → Nat} {n0 : Nat} {bf : ab_B} {d : Nat} {p0 : Nat} {p1 : Int32} {p2 : Int32} {p3 : Int32} {p4 : Int32} {p6 : Int32} {S : zs_T} {Q : zs_Q} (hB : zt_B bf) (h : w_X6_enter_135 (zx σ n0 bf) d p0 p1 p2 p3 p4 p6 S Q) : zs_U (zx σ n0 bf) d 5003 135 [(0, .ref p0), (1, .int p1), (2, .int p2), (3, .int p3), (4, .int p4), (6, .int p6)] [] S Q := by
  unfold w_X6_enter_135 at h
  refine zu_iconst d_5003_135 zi_0 ?_
  refine zu_istore d_5003_136 (zs_lt zq_5003 rfl) ?_
  refine zu_iinc d_5003_138 rfl zi_1 (zs_lt zq_5003 rfl) ?_
  refine zu_goto (t := 93) d_5003_141 rfl ?_
  exact h.weak ⟨rfl, rfl, rfl, rfl, rfl, rfl, rfl, trivial⟩
def w_X6_enter_131 (X : zs_X) (d : Nat) (p0 : Nat) (p1 : Int32) (p2 : Int32) (p3 : Int32) (p4 : Int32) (p6 : Int32) (S : zs_T) (Q : zs_Q) : Prop :=
  (zs_U X d 5003 93 [(0, .ref p0), (1, .int p1), (2, .int p2), (3, .int p3), (4, .int p4), (5, .int (1 : Int32)), (6, .int (p6 + (1 : Int32)))] [] S Q)
theorem u_X6_enter_131 {σ : Nat → Nat} {n0 : Nat} {bf : ab_B} {d : Nat} {p0 : Nat} {p1 : Int32} {p2 : Int32} {p3 : Int32} {p4 : Int32} {p6 : Int32} {S : zs_T} {Q : zs_Q} (hB : zt_B bf) (h : w_X6_enter_131 (zx σ n0 bf) d p0 p1 p2 p3 p4 p6 S Q) : zs_U (zx σ n0 bf) d 5003 131 [(0, .ref p0), (1, .int p1), (2, .int p2), (3, .int p3), (4, .int p4), (6, .int p6)] [] S Q := by
  unfold w_X6_enter_131 at h
  refine zu_iconst d_5003_131 zi_1 ?_
  refine zu_goto (t := 136) d_5003_132 rfl ?_
  refine zu_istore d_5003_136 (zs_lt zq_5003 rfl) ?_
  refine zu_iinc d_5003_138 rfl zi_1 (zs_lt zq_5003 rfl) ?_
  refine zu_goto (t := 93) d_5003_141 rfl ?_
  exact h.weak ⟨rfl, rfl, rfl, rfl, rfl, rfl, rfl, trivial⟩
def w_X6_enter_93 (X : zs_X) (d : Nat) (p0 : Nat) (p1 : Int32) (p2 : Int32) (p3 : Int32) (p4 : Int32) (p5 : Int32) (p6 : Int32) (S : zs_T) (Q : zs_Q) : Prop :=
  (((p1 ≤ p6 → w_X6_enter_144 X d p0 p1 p2 p3 p4 p5 S Q) ∧ (¬ (p1 ≤ p6) → (((p5 = 0 → w_X6_enter_144 X d p0 p1 p2 p3 p4 p5 S Q) ∧ (¬ (p5 = 0) → (zs_K S p0 = some (.inl 5) ∧ ∃ b4, (zs_R S 5009 p0) = some b4 ∧ zs_A S b4 0 p4 ∧ ∃ b7, (zs_R S 5008 p0) = some b7 ∧ zs_A S b7 1 ((zs_i S b4 p4.toNatClampNeg) + p6) ∧ zs_A S b7 1 (p2 + p6) ∧ ((¬ (zs_i S b7 ((zs_i S b4 p4.toNatClampNeg) + p6).toNatClampNeg) = (zs_i S b7 (p2 + p6).toNatClampNeg) → w_X6_enter_135 X d p0 p1 p2 p3 p4 p6 S Q) ∧ (¬ (¬ (zs_i S b7 ((zs_i S b4 p4.toNatClampNeg) + p6).toNatClampNeg) = (zs_i S b7 (p2 + p6).toNatClampNeg)) → w_X6_enter_131 X d p0 p1 p2 p3 p4 p6 S Q)))))))))
theorem u_X6_enter_93 {σ : Nat → Nat} {n0 : Nat} {bf : ab_B} {d : Nat} {p0 : Nat} {p1 : Int32} {p2 : Int32} {p3 : Int32} {p4 : Int32} {p5 : Int32} {p6 : Int32} {S : zs_T} {Q : zs_Q} (hB : zt_B bf) (h : w_X6_enter_93 (zx σ n0 bf) d p0 p1 p2 p3 p4 p5 p6 S Q) : zs_U (zx σ n0 bf) d 5003 93 [(0, .ref p0), (1, .int p1), (2, .int p2), (3, .int p3), (4, .int p4), (5, .int p5), (6, .int p6)] [] S Q := by
  unfold w_X6_enter_93 at h
  refine zu_iload d_5003_93 rfl ?_
  refine zu_iload_n d_5003_95 rfl ?_
  refine zu_cmpge (t := 144) d_5003_96 rfl (fun c1 => ?_) (fun c1 => ?_)
  · have h := h.1 c1
    exact (u_X6_enter_144 hB h).weak ⟨rfl, rfl, rfl, rfl, rfl, rfl, trivial⟩
  · have h := h.2 c1
    refine zu_iload d_5003_99 rfl ?_
    refine zu_ifeq (t := 144) d_5003_101 rfl (fun c2 => ?_) (fun c2 => ?_)
    · have h := h.1 c2
      exact (u_X6_enter_144 hB h).weak ⟨rfl, rfl, rfl, rfl, rfl, rfl, trivial⟩
    · have h := h.2 c2
      refine zu_aload_n d_5003_104 rfl (zs_ra _) ?_
      obtain ⟨k3, h⟩ := h
      refine zg_5_10 rfl d_5003_105 k3 ?_
      refine zu_aload_n d_5003_108 rfl (zs_ra _) ?_
      refine zg_5_16 rfl d_5003_109 k3 ?_
      refine zu_iload d_5003_112 rfl ?_
      obtain ⟨b4, e5, h⟩ := h
      refine zs_stk1 (zs_rfe e5) ?_
      obtain ⟨k6, h⟩ := h
      refine zu_iald (k := 0) d_5003_114 rfl rfl k6 ?_
      refine zu_iload d_5003_115 rfl ?_
      refine zu_stk d_5003_117 rfl rfl ?_
      obtain ⟨b7, e8, h⟩ := h
      refine zs_stk1 (zs_rfe e8) ?_
      obtain ⟨k9, h⟩ := h
      refine zu_bald (k := 1) d_5003_118 rfl (Or.inl rfl) k9 ?_
      refine zu_aload_n d_5003_119 rfl (zs_ra _) ?_
      refine zg_5_10 rfl d_5003_120 k3 ?_
      refine zu_iload_n d_5003_123 rfl ?_
      refine zu_iload d_5003_124 rfl ?_
      refine zu_stk d_5003_126 rfl rfl ?_
      refine zs_stk1 (zs_rfe e8) ?_
      obtain ⟨k10, h⟩ := h
      refine zu_bald (k := 1) d_5003_127 rfl (Or.inl rfl) k10 ?_
      refine zu_cmpne (t := 135) d_5003_128 rfl (fun c11 => ?_) (fun c11 => ?_)
      · have h := h.1 c11
        exact (u_X6_enter_135 hB h).weak ⟨rfl, rfl, rfl, rfl, rfl, rfl, trivial⟩
      · have h := h.2 c11
        exact (u_X6_enter_131 hB h).weak ⟨rfl, rfl, rfl, rfl, rfl, rfl, trivial⟩
def w_X6_enter (X : zs_X) (d : Nat) (p0 : Nat) (p1 : Int32) (S : zs_T) (Q : zs_Q) : Prop :=
  (zs_K S p0 = some (.inl 5) ∧ ∃ b2, (zs_R S 5009 p0) = some b2 ∧ zs_A S b2 0 (zs_I S 5012 p0) ∧ zs_U X d 5003 15 [(0, .ref p0), (1, .int p1), (2, .int (zs_i S b2 (zs_I S 5012 p0).toNatClampNeg)), (3, .int (0 : Int32)), (4, .int (0 : Int32))] [] S Q)
theorem u_X6_enter {σ : Nat → Nat} {n0 : Nat} {bf : ab_B} {d : Nat} {p0 : Nat} {p1 : Int32} {S : zs_T} {Q : zs_Q} (hB : zt_B bf) (hd : 1 ≤ d) (h : w_X6_enter (zx σ n0 bf) (d - 1) p0 p1 S Q) : zs_C (zx σ n0 bf) d 5003 [.ref p0, .int p1] S Q := by
  have hL : lv_args 0 [.ref p0, .int p1] = [(0, .ref p0), (1, .int p1)] := rfl
  refine zs_C.of1 (hB.2 5003 (by decide) (by decide)) hd (by rw [hL]; exact zs_sub_self _ (by exact ⟨rfl, rfl, trivial⟩)) ?_
  rw [hL]
  clear hL
  unfold w_X6_enter at h
  refine zu_aload_n d_5003_0 rfl (zs_ra _) ?_
  obtain ⟨k1, h⟩ := h
  refine zg_5_16 rfl d_5003_1 k1 ?_
  refine zu_aload_n d_5003_4 rfl (zs_ra _) ?_
  refine zg_5_36 rfl d_5003_5 k1 ?_
  obtain ⟨b2, e3, h⟩ := h
  refine zs_stk1 (zs_rfe e3) ?_
  obtain ⟨k4, h⟩ := h
  refine zu_iald (k := 0) d_5003_8 rfl rfl k4 ?_
  refine zu_istore_n d_5003_9 (zs_lt zq_5003 rfl) ?_
  refine zu_iconst d_5003_10 zi_0 ?_
  refine zu_istore_n d_5003_11 (zs_lt zq_5003 rfl) ?_
  refine zu_iconst d_5003_12 zi_0 ?_
  refine zu_istore d_5003_13 (zs_lt zq_5003 rfl) ?_
  exact h.weak ⟨rfl, rfl, rfl, rfl, rfl, trivial⟩
/-! SchemaPascal$Words.next()V -/
theorem zm_5004 {σ : Nat → Nat} {n0 : Nat} {bf : ab_B} : ab_code (zx σ n0 bf).1 5004 = prog_15_method_11_code := rfl
theorem zq_5004 {σ : Nat → Nat} {n0 : Nat} {bf : ab_B} : ab_maxL (zx σ n0 bf).1 5004 = 2 := rfl
theorem zr_5004 {σ : Nat → Nat} {n0 : Nat} {bf : ab_B} : ab_ret (zx σ n0 bf).1 5004 = (Option.none : Option Jvm.ClassFile.FieldType) := rfl
theorem d_5004_0 {σ : Nat → Nat} {n0 : Nat} {bf : ab_B} : decode (ab_code (zx σ n0 bf).1 5004) 0 = .ok (.aload_n 0, 1) := zd zm_5004 (by decide +kernel)
theorem d_5004_1 {σ : Nat → Nat} {n0 : Nat} {bf : ab_B} : decode (ab_code (zx σ n0 bf).1 5004) 1 = .ok (.invokevirtual 83, 3) := zd zm_5004 (by decide +kernel)
theorem d_5004_4 {σ : Nat → Nat} {n0 : Nat} {bf : ab_B} : decode (ab_code (zx σ n0 bf).1 5004) 4 = .ok (.aload_n 0, 1) := zd zm_5004 (by decide +kernel)
theorem d_5004_5 {σ : Nat → Nat} {n0 : Nat} {bf : ab_B} : decode (ab_code (zx σ n0 bf).1 5004) 5 = .ok (.aload_n 0, 1) := zd zm_5004 (by decide +kernel)
theorem d_5004_6 {σ : Nat → Nat} {n0 : Nat} {bf : ab_B} : decode (ab_code (zx σ n0 bf).1 5004) 6 = .ok (.getfield 33, 3) := zd zm_5004 (by decide +kernel)
theorem d_5004_9 {σ : Nat → Nat} {n0 : Nat} {bf : ab_B} : decode (ab_code (zx σ n0 bf).1 5004) 9 = .ok (.putfield 86, 3) := zd zm_5004 (by decide +kernel)
theorem d_5004_12 {σ : Nat → Nat} {n0 : Nat} {bf : ab_B} : decode (ab_code (zx σ n0 bf).1 5004) 12 = .ok (.aload_n 0, 1) := zd zm_5004 (by decide +kernel)
theorem d_5004_13 {σ : Nat → Nat} {n0 : Nat} {bf : ab_B} : decode (ab_code (zx σ n0 bf).1 5004) 13 = .ok (.aload_n 0, 1) := zd zm_5004 (by decide +kernel)
theorem d_5004_14 {σ : Nat → Nat} {n0 : Nat} {bf : ab_B} : decode (ab_code (zx σ n0 bf).1 5004) 14 = .ok (.getfield 33, 3) := zd zm_5004 (by decide +kernel)
theorem d_5004_17 {σ : Nat → Nat} {n0 : Nat} {bf : ab_B} : decode (ab_code (zx σ n0 bf).1 5004) 17 = .ok (.invokevirtual 71, 3) := zd zm_5004 (by decide +kernel)
theorem d_5004_20 {σ : Nat → Nat} {n0 : Nat} {bf : ab_B} : decode (ab_code (zx σ n0 bf).1 5004) 20 = .ok (.istore_n 1, 1) := zd zm_5004 (by decide +kernel)
theorem d_5004_21 {σ : Nat → Nat} {n0 : Nat} {bf : ab_B} : decode (ab_code (zx σ n0 bf).1 5004) 21 = .ok (.aload_n 0, 1) := zd zm_5004 (by decide +kernel)
theorem d_5004_22 {σ : Nat → Nat} {n0 : Nat} {bf : ab_B} : decode (ab_code (zx σ n0 bf).1 5004) 22 = .ok (.getfield 33, 3) := zd zm_5004 (by decide +kernel)
theorem d_5004_25 {σ : Nat → Nat} {n0 : Nat} {bf : ab_B} : decode (ab_code (zx σ n0 bf).1 5004) 25 = .ok (.aload_n 0, 1) := zd zm_5004 (by decide +kernel)
theorem d_5004_26 {σ : Nat → Nat} {n0 : Nat} {bf : ab_B} : decode (ab_code (zx σ n0 bf).1 5004) 26 = .ok (.getfield 29, 3) := zd zm_5004 (by decide +kernel)
theorem d_5004_29 {σ : Nat → Nat} {n0 : Nat} {bf : ab_B} : decode (ab_code (zx σ n0 bf).1 5004) 29 = .ok (.if_icmp .lt 17, 3) := zd zm_5004 (by decide +kernel)
theorem d_5004_32 {σ : Nat → Nat} {n0 : Nat} {bf : ab_B} : decode (ab_code (zx σ n0 bf).1 5004) 32 = .ok (.aload_n 0, 1) := zd zm_5004 (by decide +kernel)
theorem d_5004_33 {σ : Nat → Nat} {n0 : Nat} {bf : ab_B} : decode (ab_code (zx σ n0 bf).1 5004) 33 = .ok (.iconst 4, 1) := zd zm_5004 (by decide +kernel)
theorem d_5004_34 {σ : Nat → Nat} {n0 : Nat} {bf : ab_B} : decode (ab_code (zx σ n0 bf).1 5004) 34 = .ok (.putfield 89, 3) := zd zm_5004 (by decide +kernel)
theorem d_5004_37 {σ : Nat → Nat} {n0 : Nat} {bf : ab_B} : decode (ab_code (zx σ n0 bf).1 5004) 37 = .ok (.aload_n 0, 1) := zd zm_5004 (by decide +kernel)
theorem d_5004_38 {σ : Nat → Nat} {n0 : Nat} {bf : ab_B} : decode (ab_code (zx σ n0 bf).1 5004) 38 = .ok (.aload_n 0, 1) := zd zm_5004 (by decide +kernel)
theorem d_5004_39 {σ : Nat → Nat} {n0 : Nat} {bf : ab_B} : decode (ab_code (zx σ n0 bf).1 5004) 39 = .ok (.getfield 33, 3) := zd zm_5004 (by decide +kernel)
theorem d_5004_42 {σ : Nat → Nat} {n0 : Nat} {bf : ab_B} : decode (ab_code (zx σ n0 bf).1 5004) 42 = .ok (.putfield 92, 3) := zd zm_5004 (by decide +kernel)
theorem d_5004_45 {σ : Nat → Nat} {n0 : Nat} {bf : ab_B} : decode (ab_code (zx σ n0 bf).1 5004) 45 = .ok (.return_, 1) := zd zm_5004 (by decide +kernel)
theorem d_5004_46 {σ : Nat → Nat} {n0 : Nat} {bf : ab_B} : decode (ab_code (zx σ n0 bf).1 5004) 46 = .ok (.iload_n 1, 1) := zd zm_5004 (by decide +kernel)
theorem d_5004_47 {σ : Nat → Nat} {n0 : Nat} {bf : ab_B} : decode (ab_code (zx σ n0 bf).1 5004) 47 = .ok (.invokestatic 68, 3) := zd zm_5004 (by decide +kernel)
theorem d_5004_50 {σ : Nat → Nat} {n0 : Nat} {bf : ab_B} : decode (ab_code (zx σ n0 bf).1 5004) 50 = .ok (.ifCond .eq 10, 3) := zd zm_5004 (by decide +kernel)
theorem d_5004_53 {σ : Nat → Nat} {n0 : Nat} {bf : ab_B} : decode (ab_code (zx σ n0 bf).1 5004) 53 = .ok (.aload_n 0, 1) := zd zm_5004 (by decide +kernel)
theorem d_5004_54 {σ : Nat → Nat} {n0 : Nat} {bf : ab_B} : decode (ab_code (zx σ n0 bf).1 5004) 54 = .ok (.invokevirtual 95, 3) := zd zm_5004 (by decide +kernel)
theorem d_5004_57 {σ : Nat → Nat} {n0 : Nat} {bf : ab_B} : decode (ab_code (zx σ n0 bf).1 5004) 57 = .ok (.goto 35, 3) := zd zm_5004 (by decide +kernel)
theorem d_5004_60 {σ : Nat → Nat} {n0 : Nat} {bf : ab_B} : decode (ab_code (zx σ n0 bf).1 5004) 60 = .ok (.iload_n 1, 1) := zd zm_5004 (by decide +kernel)
theorem d_5004_61 {σ : Nat → Nat} {n0 : Nat} {bf : ab_B} : decode (ab_code (zx σ n0 bf).1 5004) 61 = .ok (.invokestatic 64, 3) := zd zm_5004 (by decide +kernel)
theorem d_5004_64 {σ : Nat → Nat} {n0 : Nat} {bf : ab_B} : decode (ab_code (zx σ n0 bf).1 5004) 64 = .ok (.ifCond .eq 10, 3) := zd zm_5004 (by decide +kernel)
theorem d_5004_67 {σ : Nat → Nat} {n0 : Nat} {bf : ab_B} : decode (ab_code (zx σ n0 bf).1 5004) 67 = .ok (.aload_n 0, 1) := zd zm_5004 (by decide +kernel)
theorem d_5004_68 {σ : Nat → Nat} {n0 : Nat} {bf : ab_B} : decode (ab_code (zx σ n0 bf).1 5004) 68 = .ok (.invokevirtual 98, 3) := zd zm_5004 (by decide +kernel)
theorem d_5004_71 {σ : Nat → Nat} {n0 : Nat} {bf : ab_B} : decode (ab_code (zx σ n0 bf).1 5004) 71 = .ok (.goto 21, 3) := zd zm_5004 (by decide +kernel)
theorem d_5004_74 {σ : Nat → Nat} {n0 : Nat} {bf : ab_B} : decode (ab_code (zx σ n0 bf).1 5004) 74 = .ok (.iload_n 1, 1) := zd zm_5004 (by decide +kernel)
theorem d_5004_75 {σ : Nat → Nat} {n0 : Nat} {bf : ab_B} : decode (ab_code (zx σ n0 bf).1 5004) 75 = .ok (.bipush 39, 2) := zd zm_5004 (by decide +kernel)
theorem d_5004_77 {σ : Nat → Nat} {n0 : Nat} {bf : ab_B} : decode (ab_code (zx σ n0 bf).1 5004) 77 = .ok (.if_icmp .ne 10, 3) := zd zm_5004 (by decide +kernel)
theorem d_5004_80 {σ : Nat → Nat} {n0 : Nat} {bf : ab_B} : decode (ab_code (zx σ n0 bf).1 5004) 80 = .ok (.aload_n 0, 1) := zd zm_5004 (by decide +kernel)
theorem d_5004_81 {σ : Nat → Nat} {n0 : Nat} {bf : ab_B} : decode (ab_code (zx σ n0 bf).1 5004) 81 = .ok (.invokevirtual 101, 3) := zd zm_5004 (by decide +kernel)
theorem d_5004_84 {σ : Nat → Nat} {n0 : Nat} {bf : ab_B} : decode (ab_code (zx σ n0 bf).1 5004) 84 = .ok (.goto 8, 3) := zd zm_5004 (by decide +kernel)
theorem d_5004_87 {σ : Nat → Nat} {n0 : Nat} {bf : ab_B} : decode (ab_code (zx σ n0 bf).1 5004) 87 = .ok (.aload_n 0, 1) := zd zm_5004 (by decide +kernel)
theorem d_5004_88 {σ : Nat → Nat} {n0 : Nat} {bf : ab_B} : decode (ab_code (zx σ n0 bf).1 5004) 88 = .ok (.iload_n 1, 1) := zd zm_5004 (by decide +kernel)
theorem d_5004_89 {σ : Nat → Nat} {n0 : Nat} {bf : ab_B} : decode (ab_code (zx σ n0 bf).1 5004) 89 = .ok (.invokevirtual 104, 3) := zd zm_5004 (by decide +kernel)
theorem d_5004_92 {σ : Nat → Nat} {n0 : Nat} {bf : ab_B} : decode (ab_code (zx σ n0 bf).1 5004) 92 = .ok (.aload_n 0, 1) := zd zm_5004 (by decide +kernel)
theorem d_5004_93 {σ : Nat → Nat} {n0 : Nat} {bf : ab_B} : decode (ab_code (zx σ n0 bf).1 5004) 93 = .ok (.aload_n 0, 1) := zd zm_5004 (by decide +kernel)
theorem d_5004_94 {σ : Nat → Nat} {n0 : Nat} {bf : ab_B} : decode (ab_code (zx σ n0 bf).1 5004) 94 = .ok (.getfield 33, 3) := zd zm_5004 (by decide +kernel)
theorem d_5004_97 {σ : Nat → Nat} {n0 : Nat} {bf : ab_B} : decode (ab_code (zx σ n0 bf).1 5004) 97 = .ok (.putfield 92, 3) := zd zm_5004 (by decide +kernel)
theorem d_5004_100 {σ : Nat → Nat} {n0 : Nat} {bf : ab_B} : decode (ab_code (zx σ n0 bf).1 5004) 100 = .ok (.return_, 1) := zd zm_5004 (by decide +kernel)
def w_X6_next_32 (X : zs_X) (d : Nat) (p0 : Nat) (S : zs_T) (Q : zs_Q) : Prop :=
  (zs_K S p0 = some (.inl 5) ∧ ab_n0 X.1 ≤ p0 ∧ ∀ S3, S3 = zs_sI S 5003 p0 (4 : Int32) → ∀ S6, S6 = zs_sI S3 5006 p0 (zs_I S3 5002 p0) → Q (.returned none) S6)
theorem u_X6_next_32 {σ : Nat → Nat} {n0 : Nat} {bf : ab_B} {d : Nat} {p0 : Nat} {S : zs_T} {Q : zs_Q} (hB : zt_B bf) (h : w_X6_next_32 (zx σ n0 bf) d p0 S Q) : zs_U (zx σ n0 bf) d 5004 32 [(0, .ref p0)] [] S Q := by
  unfold w_X6_next_32 at h
  refine zu_aload_n d_5004_32 rfl (zs_ra _) ?_
  refine zu_iconst d_5004_33 zi_4 ?_
  obtain ⟨k1, h⟩ := h
  obtain ⟨k2, h⟩ := h
  refine zp_5_89 (v := (4 : Int32)) rfl d_5004_34 k1 k2 ?_
  generalize e4 : zs_sI S 5003 p0 (4 : Int32) = S3
  have h := h S3 e4.symm
  have K5 : ∀ b, zs_K S3 b = zs_K S b := zs_Kt e4 (zs_KsI _ _ _ _) (fun _ => rfl)
  refine zu_aload_n d_5004_37 rfl (zs_ra _) ?_
  refine zu_aload_n d_5004_38 rfl (zs_ra _) ?_
  refine zg_5_33 rfl d_5004_39 ((K5 _).trans k1) ?_
  refine zp_5_92 (v := (zs_I S3 5002 p0)) rfl d_5004_42 ((K5 _).trans k1) k2 ?_
  generalize e7 : zs_sI S3 5006 p0 (zs_I S3 5002 p0) = S6
  have h := h S6 e7.symm
  have K8 : ∀ b, zs_K S6 b = zs_K S b := zs_Kt e7 (zs_KsI _ _ _ _) K5
  exact zu_vret d_5004_45 zr_5004 h
def w_X6_next_92 (X : zs_X) (d : Nat) (p0 : Nat) (S : zs_T) (Q : zs_Q) : Prop :=
  (zs_K S p0 = some (.inl 5) ∧ ab_n0 X.1 ≤ p0 ∧ ∀ S3, S3 = zs_sI S 5006 p0 (zs_I S 5002 p0) → Q (.returned none) S3)
theorem u_X6_next_92 {σ : Nat → Nat} {n0 : Nat} {bf : ab_B} {d : Nat} {p0 : Nat} {S : zs_T} {Q : zs_Q} (hB : zt_B bf) (h : w_X6_next_92 (zx σ n0 bf) d p0 S Q) : zs_U (zx σ n0 bf) d 5004 92 [(0, .ref p0)] [] S Q := by
  unfold w_X6_next_92 at h
  refine zu_aload_n d_5004_92 rfl (zs_ra _) ?_
  refine zu_aload_n d_5004_93 rfl (zs_ra _) ?_
  obtain ⟨k1, h⟩ := h
  refine zg_5_33 rfl d_5004_94 k1 ?_
  obtain ⟨k2, h⟩ := h
  refine zp_5_92 (v := (zs_I S 5002 p0)) rfl d_5004_97 k1 k2 ?_
  generalize e4 : zs_sI S 5006 p0 (zs_I S 5002 p0) = S3
  have h := h S3 e4.symm
  have K5 : ∀ b, zs_K S3 b = zs_K S b := zs_Kt e4 (zs_KsI _ _ _ _) (fun _ => rfl)
  exact zu_vret d_5004_100 zr_5004 h
def w_X6_next_46 (X : zs_X) (d : Nat) (p0 : Nat) (p1 : Int32) (S : zs_T) (Q : zs_Q) : Prop :=
  (zs_C X d 5008 [.int p1] S (zs_kI (fun v2 S1 => (((v2 = 0 → (zs_C X d 5010 [.int p1] S1 (zs_kI (fun v5 S4 => (((v5 = 0 → (((¬ p1 = (39 : Int32) → (zs_K S4 p0 = some (.inl 5) ∧ zs_C X d 5014 [.ref p0, .int p1] S4 (zs_kV (fun S9 => w_X6_next_92 X d p0 S9 Q) Q))) ∧ (¬ (¬ p1 = (39 : Int32)) → (zs_K S4 p0 = some (.inl 5) ∧ zs_C X d 5013 [.ref p0] S4 (zs_kV (fun S12 => (w_X6_next_92 X d p0 S12 Q)) Q)))))) ∧ (¬ (v5 = 0) → (zs_K S4 p0 = some (.inl 5) ∧ zs_C X d 5011 [.ref p0] S4 (zs_kV (fun S15 => (w_X6_next_92 X d p0 S15 Q)) Q)))))) Q))) ∧ (¬ (v2 = 0) → (zs_K S1 p0 = some (.inl 5) ∧ zs_C X d 5009 [.ref p0] S1 (zs_kV (fun S18 => (w_X6_next_92 X d p0 S18 Q)) Q)))))) Q))
theorem u_X6_next_46 {σ : Nat → Nat} {n0 : Nat} {bf : ab_B} {d : Nat} {p0 : Nat} {p1 : Int32} {S : zs_T} {Q : zs_Q} (hB : zt_B bf) (h : w_X6_next_46 (zx σ n0 bf) d p0 p1 S Q) : zs_U (zx σ n0 bf) d 5004 46 [(0, .ref p0), (1, .int p1)] [] S Q := by
  unfold w_X6_next_46 at h
  refine zu_iload_n d_5004_46 rfl ?_
  refine zc_5_68 (x0 := p1) hB rfl d_5004_47 (Nat.le_of_ble_eq_true rfl) h (fun v2 S1 h => ?_)
  refine zu_ifeq (t := 60) d_5004_50 rfl (fun c3 => ?_) (fun c3 => ?_)
  · have h := h.1 c3
    refine zu_iload_n d_5004_60 rfl ?_
    refine zc_5_64 (x0 := p1) hB rfl d_5004_61 (Nat.le_of_ble_eq_true rfl) h (fun v5 S4 h => ?_)
    refine zu_ifeq (t := 74) d_5004_64 rfl (fun c6 => ?_) (fun c6 => ?_)
    · have h := h.1 c6
      refine zu_iload_n d_5004_74 rfl ?_
      refine zu_bipush d_5004_75 zj_39 ?_
      refine zu_cmpne (t := 87) d_5004_77 rfl (fun c7 => ?_) (fun c7 => ?_)
      · have h := h.1 c7
        refine zu_aload_n d_5004_87 rfl (zs_ra _) ?_
        refine zu_iload_n d_5004_88 rfl ?_
        obtain ⟨k8, h⟩ := h
        refine zc_5_104 (x0 := p1) hB rfl k8 d_5004_89 (Nat.le_of_ble_eq_true rfl) h (fun S9 h => ?_)
        exact (u_X6_next_92 hB h).weak ⟨rfl, trivial⟩
      · have h := h.2 c7
        refine zu_aload_n d_5004_80 rfl (zs_ra _) ?_
        obtain ⟨k11, h⟩ := h
        refine zc_5_101  hB rfl k11 d_5004_81 (Nat.le_of_ble_eq_true rfl) h (fun S12 h => ?_)
        refine zu_goto (t := 92) d_5004_84 rfl ?_
        exact (u_X6_next_92 hB h).weak ⟨rfl, trivial⟩
    · have h := h.2 c6
      refine zu_aload_n d_5004_67 rfl (zs_ra _) ?_
      obtain ⟨k14, h⟩ := h
      refine zc_5_98  hB rfl k14 d_5004_68 (Nat.le_of_ble_eq_true rfl) h (fun S15 h => ?_)
      refine zu_goto (t := 92) d_5004_71 rfl ?_
      exact (u_X6_next_92 hB h).weak ⟨rfl, trivial⟩
  · have h := h.2 c3
    refine zu_aload_n d_5004_53 rfl (zs_ra _) ?_
    obtain ⟨k17, h⟩ := h
    refine zc_5_95  hB rfl k17 d_5004_54 (Nat.le_of_ble_eq_true rfl) h (fun S18 h => ?_)
    refine zu_goto (t := 92) d_5004_57 rfl ?_
    exact (u_X6_next_92 hB h).weak ⟨rfl, trivial⟩
def w_X6_next (X : zs_X) (d : Nat) (p0 : Nat) (S : zs_T) (Q : zs_Q) : Prop :=
  (zs_K S p0 = some (.inl 5) ∧ zs_C X d 5005 [.ref p0] S (zs_kV (fun S2 => (zs_K S2 p0 = some (.inl 5) ∧ ab_n0 X.1 ≤ p0 ∧ ∀ S6, S6 = zs_sI S2 5005 p0 (zs_I S2 5002 p0) → zs_C X d 5006 [.ref p0, .int (zs_I S6 5002 p0)] S6 (zs_kI (fun v10 S9 => (zs_K S9 p0 = some (.inl 5) ∧ (((zs_I S9 5002 p0) < (zs_I S9 5001 p0) → w_X6_next_46 X d p0 v10 S9 Q) ∧ (¬ ((zs_I S9 5002 p0) < (zs_I S9 5001 p0)) → w_X6_next_32 X d p0 S9 Q)))) Q))) Q))
theorem u_X6_next {σ : Nat → Nat} {n0 : Nat} {bf : ab_B} {d : Nat} {p0 : Nat} {S : zs_T} {Q : zs_Q} (hB : zt_B bf) (hd : 1 ≤ d) (h : w_X6_next (zx σ n0 bf) (d - 1) p0 S Q) : zs_C (zx σ n0 bf) d 5004 [.ref p0] S Q := by
  have hL : lv_args 0 [.ref p0] = [(0, .ref p0)] := rfl
  refine zs_C.of1 (hB.2 5004 (by decide) (by decide)) hd (by rw [hL]; exact zs_sub_self _ (by exact ⟨rfl, trivial⟩)) ?_
  rw [hL]
  clear hL
  unfold w_X6_next at h
  refine zu_aload_n d_5004_0 rfl (zs_ra _) ?_
  obtain ⟨k1, h⟩ := h
  refine zc_5_83  hB rfl k1 d_5004_1 (Nat.le_of_ble_eq_true rfl) h (fun S2 h => ?_)
  refine zu_aload_n d_5004_4 rfl (zs_ra _) ?_
  refine zu_aload_n d_5004_5 rfl (zs_ra _) ?_
  obtain ⟨k4, h⟩ := h
  refine zg_5_33 rfl d_5004_6 k4 ?_
  obtain ⟨k5, h⟩ := h
  refine zp_5_86 (v := (zs_I S2 5002 p0)) rfl d_5004_9 k4 k5 ?_
  generalize e7 : zs_sI S2 5005 p0 (zs_I S2 5002 p0) = S6
  have h := h S6 e7.symm
  have K8 : ∀ b, zs_K S6 b = zs_K S2 b := zs_Kt e7 (zs_KsI _ _ _ _) (fun _ => rfl)
  refine zu_aload_n d_5004_12 rfl (zs_ra _) ?_
  refine zu_aload_n d_5004_13 rfl (zs_ra _) ?_
  refine zg_5_33 rfl d_5004_14 ((K8 _).trans k4) ?_
  refine zc_5_71 (x0 := (zs_I S6 5002 p0)) hB rfl ((K8 _).trans k4) d_5004_17 (Nat.le_of_ble_eq_true rfl) h (fun v10 S9 h => ?_)
  refine zu_istore_n d_5004_20 (zs_lt zq_5004 rfl) ?_
  refine zu_aload_n d_5004_21 rfl (zs_ra _) ?_
  obtain ⟨k11, h⟩ := h
  refine zg_5_33 rfl d_5004_22 k11 ?_
  refine zu_aload_n d_5004_25 rfl (zs_ra _) ?_
  refine zg_5_29 rfl d_5004_26 k11 ?_
  refine zu_cmplt (t := 46) d_5004_29 rfl (fun c12 => ?_) (fun c12 => ?_)
  · have h := h.1 c12
    exact (u_X6_next_46 hB h).weak ⟨rfl, rfl, trivial⟩
  · have h := h.2 c12
    exact (u_X6_next_32 hB h).weak ⟨rfl, trivial⟩
/-! SchemaPascal$Words.blanks()V -/
theorem zm_5005 {σ : Nat → Nat} {n0 : Nat} {bf : ab_B} : ab_code (zx σ n0 bf).1 5005 = prog_15_method_9_code := rfl
theorem zq_5005 {σ : Nat → Nat} {n0 : Nat} {bf : ab_B} : ab_maxL (zx σ n0 bf).1 5005 = 4 := rfl
theorem zr_5005 {σ : Nat → Nat} {n0 : Nat} {bf : ab_B} : ab_ret (zx σ n0 bf).1 5005 = (Option.none : Option Jvm.ClassFile.FieldType) := rfl
theorem d_5005_0 {σ : Nat → Nat} {n0 : Nat} {bf : ab_B} : decode (ab_code (zx σ n0 bf).1 5005) 0 = .ok (.iconst 1, 1) := zd zm_5005 (by decide +kernel)
theorem d_5005_1 {σ : Nat → Nat} {n0 : Nat} {bf : ab_B} : decode (ab_code (zx σ n0 bf).1 5005) 1 = .ok (.istore_n 1, 1) := zd zm_5005 (by decide +kernel)
theorem d_5005_2 {σ : Nat → Nat} {n0 : Nat} {bf : ab_B} : decode (ab_code (zx σ n0 bf).1 5005) 2 = .ok (.iload_n 1, 1) := zd zm_5005 (by decide +kernel)
theorem d_5005_3 {σ : Nat → Nat} {n0 : Nat} {bf : ab_B} : decode (ab_code (zx σ n0 bf).1 5005) 3 = .ok (.ifCond .eq 146, 3) := zd zm_5005 (by decide +kernel)
theorem d_5005_6 {σ : Nat → Nat} {n0 : Nat} {bf : ab_B} : decode (ab_code (zx σ n0 bf).1 5005) 6 = .ok (.aload_n 0, 1) := zd zm_5005 (by decide +kernel)
theorem d_5005_7 {σ : Nat → Nat} {n0 : Nat} {bf : ab_B} : decode (ab_code (zx σ n0 bf).1 5005) 7 = .ok (.aload_n 0, 1) := zd zm_5005 (by decide +kernel)
theorem d_5005_8 {σ : Nat → Nat} {n0 : Nat} {bf : ab_B} : decode (ab_code (zx σ n0 bf).1 5005) 8 = .ok (.getfield 33, 3) := zd zm_5005 (by decide +kernel)
theorem d_5005_11 {σ : Nat → Nat} {n0 : Nat} {bf : ab_B} : decode (ab_code (zx σ n0 bf).1 5005) 11 = .ok (.invokevirtual 71, 3) := zd zm_5005 (by decide +kernel)
theorem d_5005_14 {σ : Nat → Nat} {n0 : Nat} {bf : ab_B} : decode (ab_code (zx σ n0 bf).1 5005) 14 = .ok (.istore_n 2, 1) := zd zm_5005 (by decide +kernel)
theorem d_5005_15 {σ : Nat → Nat} {n0 : Nat} {bf : ab_B} : decode (ab_code (zx σ n0 bf).1 5005) 15 = .ok (.aload_n 0, 1) := zd zm_5005 (by decide +kernel)
theorem d_5005_16 {σ : Nat → Nat} {n0 : Nat} {bf : ab_B} : decode (ab_code (zx σ n0 bf).1 5005) 16 = .ok (.getfield 33, 3) := zd zm_5005 (by decide +kernel)
theorem d_5005_19 {σ : Nat → Nat} {n0 : Nat} {bf : ab_B} : decode (ab_code (zx σ n0 bf).1 5005) 19 = .ok (.aload_n 0, 1) := zd zm_5005 (by decide +kernel)
theorem d_5005_20 {σ : Nat → Nat} {n0 : Nat} {bf : ab_B} : decode (ab_code (zx σ n0 bf).1 5005) 20 = .ok (.getfield 29, 3) := zd zm_5005 (by decide +kernel)
theorem d_5005_23 {σ : Nat → Nat} {n0 : Nat} {bf : ab_B} : decode (ab_code (zx σ n0 bf).1 5005) 23 = .ok (.if_icmp .ge 34, 3) := zd zm_5005 (by decide +kernel)
theorem d_5005_26 {σ : Nat → Nat} {n0 : Nat} {bf : ab_B} : decode (ab_code (zx σ n0 bf).1 5005) 26 = .ok (.iload_n 2, 1) := zd zm_5005 (by decide +kernel)
theorem d_5005_27 {σ : Nat → Nat} {n0 : Nat} {bf : ab_B} : decode (ab_code (zx σ n0 bf).1 5005) 27 = .ok (.bipush 123, 2) := zd zm_5005 (by decide +kernel)
theorem d_5005_29 {σ : Nat → Nat} {n0 : Nat} {bf : ab_B} : decode (ab_code (zx σ n0 bf).1 5005) 29 = .ok (.if_icmp .eq 24, 3) := zd zm_5005 (by decide +kernel)
theorem d_5005_32 {σ : Nat → Nat} {n0 : Nat} {bf : ab_B} : decode (ab_code (zx σ n0 bf).1 5005) 32 = .ok (.iload_n 2, 1) := zd zm_5005 (by decide +kernel)
theorem d_5005_33 {σ : Nat → Nat} {n0 : Nat} {bf : ab_B} : decode (ab_code (zx σ n0 bf).1 5005) 33 = .ok (.bipush 40, 2) := zd zm_5005 (by decide +kernel)
theorem d_5005_35 {σ : Nat → Nat} {n0 : Nat} {bf : ab_B} : decode (ab_code (zx σ n0 bf).1 5005) 35 = .ok (.if_icmp .ne 22, 3) := zd zm_5005 (by decide +kernel)
theorem d_5005_38 {σ : Nat → Nat} {n0 : Nat} {bf : ab_B} : decode (ab_code (zx σ n0 bf).1 5005) 38 = .ok (.aload_n 0, 1) := zd zm_5005 (by decide +kernel)
theorem d_5005_39 {σ : Nat → Nat} {n0 : Nat} {bf : ab_B} : decode (ab_code (zx σ n0 bf).1 5005) 39 = .ok (.aload_n 0, 1) := zd zm_5005 (by decide +kernel)
theorem d_5005_40 {σ : Nat → Nat} {n0 : Nat} {bf : ab_B} : decode (ab_code (zx σ n0 bf).1 5005) 40 = .ok (.getfield 33, 3) := zd zm_5005 (by decide +kernel)
theorem d_5005_43 {σ : Nat → Nat} {n0 : Nat} {bf : ab_B} : decode (ab_code (zx σ n0 bf).1 5005) 43 = .ok (.iconst 1, 1) := zd zm_5005 (by decide +kernel)
theorem d_5005_44 {σ : Nat → Nat} {n0 : Nat} {bf : ab_B} : decode (ab_code (zx σ n0 bf).1 5005) 44 = .ok (.iadd, 1) := zd zm_5005 (by decide +kernel)
theorem d_5005_45 {σ : Nat → Nat} {n0 : Nat} {bf : ab_B} : decode (ab_code (zx σ n0 bf).1 5005) 45 = .ok (.invokevirtual 71, 3) := zd zm_5005 (by decide +kernel)
theorem d_5005_48 {σ : Nat → Nat} {n0 : Nat} {bf : ab_B} : decode (ab_code (zx σ n0 bf).1 5005) 48 = .ok (.bipush 42, 2) := zd zm_5005 (by decide +kernel)
theorem d_5005_50 {σ : Nat → Nat} {n0 : Nat} {bf : ab_B} : decode (ab_code (zx σ n0 bf).1 5005) 50 = .ok (.if_icmp .ne 7, 3) := zd zm_5005 (by decide +kernel)
theorem d_5005_53 {σ : Nat → Nat} {n0 : Nat} {bf : ab_B} : decode (ab_code (zx σ n0 bf).1 5005) 53 = .ok (.iconst 1, 1) := zd zm_5005 (by decide +kernel)
theorem d_5005_54 {σ : Nat → Nat} {n0 : Nat} {bf : ab_B} : decode (ab_code (zx σ n0 bf).1 5005) 54 = .ok (.goto 4, 3) := zd zm_5005 (by decide +kernel)
theorem d_5005_57 {σ : Nat → Nat} {n0 : Nat} {bf : ab_B} : decode (ab_code (zx σ n0 bf).1 5005) 57 = .ok (.iconst 0, 1) := zd zm_5005 (by decide +kernel)
theorem d_5005_58 {σ : Nat → Nat} {n0 : Nat} {bf : ab_B} : decode (ab_code (zx σ n0 bf).1 5005) 58 = .ok (.istore_n 3, 1) := zd zm_5005 (by decide +kernel)
theorem d_5005_59 {σ : Nat → Nat} {n0 : Nat} {bf : ab_B} : decode (ab_code (zx σ n0 bf).1 5005) 59 = .ok (.aload_n 0, 1) := zd zm_5005 (by decide +kernel)
theorem d_5005_60 {σ : Nat → Nat} {n0 : Nat} {bf : ab_B} : decode (ab_code (zx σ n0 bf).1 5005) 60 = .ok (.getfield 33, 3) := zd zm_5005 (by decide +kernel)
theorem d_5005_63 {σ : Nat → Nat} {n0 : Nat} {bf : ab_B} : decode (ab_code (zx σ n0 bf).1 5005) 63 = .ok (.aload_n 0, 1) := zd zm_5005 (by decide +kernel)
theorem d_5005_64 {σ : Nat → Nat} {n0 : Nat} {bf : ab_B} : decode (ab_code (zx σ n0 bf).1 5005) 64 = .ok (.getfield 29, 3) := zd zm_5005 (by decide +kernel)
theorem d_5005_67 {σ : Nat → Nat} {n0 : Nat} {bf : ab_B} : decode (ab_code (zx σ n0 bf).1 5005) 67 = .ok (.if_icmp .ge 27, 3) := zd zm_5005 (by decide +kernel)
theorem d_5005_70 {σ : Nat → Nat} {n0 : Nat} {bf : ab_B} : decode (ab_code (zx σ n0 bf).1 5005) 70 = .ok (.iload_n 2, 1) := zd zm_5005 (by decide +kernel)
theorem d_5005_71 {σ : Nat → Nat} {n0 : Nat} {bf : ab_B} : decode (ab_code (zx σ n0 bf).1 5005) 71 = .ok (.bipush 9, 2) := zd zm_5005 (by decide +kernel)
theorem d_5005_73 {σ : Nat → Nat} {n0 : Nat} {bf : ab_B} : decode (ab_code (zx σ n0 bf).1 5005) 73 = .ok (.if_icmp .eq 25, 3) := zd zm_5005 (by decide +kernel)
theorem d_5005_76 {σ : Nat → Nat} {n0 : Nat} {bf : ab_B} : decode (ab_code (zx σ n0 bf).1 5005) 76 = .ok (.iload_n 2, 1) := zd zm_5005 (by decide +kernel)
theorem d_5005_77 {σ : Nat → Nat} {n0 : Nat} {bf : ab_B} : decode (ab_code (zx σ n0 bf).1 5005) 77 = .ok (.bipush 10, 2) := zd zm_5005 (by decide +kernel)
theorem d_5005_79 {σ : Nat → Nat} {n0 : Nat} {bf : ab_B} : decode (ab_code (zx σ n0 bf).1 5005) 79 = .ok (.if_icmp .eq 19, 3) := zd zm_5005 (by decide +kernel)
theorem d_5005_82 {σ : Nat → Nat} {n0 : Nat} {bf : ab_B} : decode (ab_code (zx σ n0 bf).1 5005) 82 = .ok (.iload_n 2, 1) := zd zm_5005 (by decide +kernel)
theorem d_5005_83 {σ : Nat → Nat} {n0 : Nat} {bf : ab_B} : decode (ab_code (zx σ n0 bf).1 5005) 83 = .ok (.bipush 13, 2) := zd zm_5005 (by decide +kernel)
theorem d_5005_85 {σ : Nat → Nat} {n0 : Nat} {bf : ab_B} : decode (ab_code (zx σ n0 bf).1 5005) 85 = .ok (.if_icmp .eq 13, 3) := zd zm_5005 (by decide +kernel)
theorem d_5005_88 {σ : Nat → Nat} {n0 : Nat} {bf : ab_B} : decode (ab_code (zx σ n0 bf).1 5005) 88 = .ok (.iload_n 2, 1) := zd zm_5005 (by decide +kernel)
theorem d_5005_89 {σ : Nat → Nat} {n0 : Nat} {bf : ab_B} : decode (ab_code (zx σ n0 bf).1 5005) 89 = .ok (.bipush 32, 2) := zd zm_5005 (by decide +kernel)
theorem d_5005_91 {σ : Nat → Nat} {n0 : Nat} {bf : ab_B} : decode (ab_code (zx σ n0 bf).1 5005) 91 = .ok (.if_icmp .eq 7, 3) := zd zm_5005 (by decide +kernel)
theorem d_5005_94 {σ : Nat → Nat} {n0 : Nat} {bf : ab_B} : decode (ab_code (zx σ n0 bf).1 5005) 94 = .ok (.iload_n 3, 1) := zd zm_5005 (by decide +kernel)
theorem d_5005_95 {σ : Nat → Nat} {n0 : Nat} {bf : ab_B} : decode (ab_code (zx σ n0 bf).1 5005) 95 = .ok (.ifCond .eq 7, 3) := zd zm_5005 (by decide +kernel)
theorem d_5005_98 {σ : Nat → Nat} {n0 : Nat} {bf : ab_B} : decode (ab_code (zx σ n0 bf).1 5005) 98 = .ok (.iconst 1, 1) := zd zm_5005 (by decide +kernel)
theorem d_5005_99 {σ : Nat → Nat} {n0 : Nat} {bf : ab_B} : decode (ab_code (zx σ n0 bf).1 5005) 99 = .ok (.goto 4, 3) := zd zm_5005 (by decide +kernel)
theorem d_5005_102 {σ : Nat → Nat} {n0 : Nat} {bf : ab_B} : decode (ab_code (zx σ n0 bf).1 5005) 102 = .ok (.iconst 0, 1) := zd zm_5005 (by decide +kernel)
theorem d_5005_103 {σ : Nat → Nat} {n0 : Nat} {bf : ab_B} : decode (ab_code (zx σ n0 bf).1 5005) 103 = .ok (.istore_n 1, 1) := zd zm_5005 (by decide +kernel)
theorem d_5005_104 {σ : Nat → Nat} {n0 : Nat} {bf : ab_B} : decode (ab_code (zx σ n0 bf).1 5005) 104 = .ok (.iload_n 1, 1) := zd zm_5005 (by decide +kernel)
theorem d_5005_105 {σ : Nat → Nat} {n0 : Nat} {bf : ab_B} : decode (ab_code (zx σ n0 bf).1 5005) 105 = .ok (.ifCond .ne 4, 3) := zd zm_5005 (by decide +kernel)
theorem d_5005_108 {σ : Nat → Nat} {n0 : Nat} {bf : ab_B} : decode (ab_code (zx σ n0 bf).1 5005) 108 = .ok (.return_, 1) := zd zm_5005 (by decide +kernel)
theorem d_5005_109 {σ : Nat → Nat} {n0 : Nat} {bf : ab_B} : decode (ab_code (zx σ n0 bf).1 5005) 109 = .ok (.aload_n 0, 1) := zd zm_5005 (by decide +kernel)
theorem d_5005_110 {σ : Nat → Nat} {n0 : Nat} {bf : ab_B} : decode (ab_code (zx σ n0 bf).1 5005) 110 = .ok (.dup, 1) := zd zm_5005 (by decide +kernel)
theorem d_5005_111 {σ : Nat → Nat} {n0 : Nat} {bf : ab_B} : decode (ab_code (zx σ n0 bf).1 5005) 111 = .ok (.getfield 33, 3) := zd zm_5005 (by decide +kernel)
theorem d_5005_114 {σ : Nat → Nat} {n0 : Nat} {bf : ab_B} : decode (ab_code (zx σ n0 bf).1 5005) 114 = .ok (.iconst 1, 1) := zd zm_5005 (by decide +kernel)
theorem d_5005_115 {σ : Nat → Nat} {n0 : Nat} {bf : ab_B} : decode (ab_code (zx σ n0 bf).1 5005) 115 = .ok (.iadd, 1) := zd zm_5005 (by decide +kernel)
theorem d_5005_116 {σ : Nat → Nat} {n0 : Nat} {bf : ab_B} : decode (ab_code (zx σ n0 bf).1 5005) 116 = .ok (.putfield 33, 3) := zd zm_5005 (by decide +kernel)
theorem d_5005_119 {σ : Nat → Nat} {n0 : Nat} {bf : ab_B} : decode (ab_code (zx σ n0 bf).1 5005) 119 = .ok (.iload_n 3, 1) := zd zm_5005 (by decide +kernel)
theorem d_5005_120 {σ : Nat → Nat} {n0 : Nat} {bf : ab_B} : decode (ab_code (zx σ n0 bf).1 5005) 120 = .ok (.ifCond .eq 26, 3) := zd zm_5005 (by decide +kernel)
theorem d_5005_123 {σ : Nat → Nat} {n0 : Nat} {bf : ab_B} : decode (ab_code (zx σ n0 bf).1 5005) 123 = .ok (.aload_n 0, 1) := zd zm_5005 (by decide +kernel)
theorem d_5005_124 {σ : Nat → Nat} {n0 : Nat} {bf : ab_B} : decode (ab_code (zx σ n0 bf).1 5005) 124 = .ok (.iload_n 2, 1) := zd zm_5005 (by decide +kernel)
theorem d_5005_125 {σ : Nat → Nat} {n0 : Nat} {bf : ab_B} : decode (ab_code (zx σ n0 bf).1 5005) 125 = .ok (.bipush 40, 2) := zd zm_5005 (by decide +kernel)
theorem d_5005_127 {σ : Nat → Nat} {n0 : Nat} {bf : ab_B} : decode (ab_code (zx σ n0 bf).1 5005) 127 = .ok (.if_icmp .ne 12, 3) := zd zm_5005 (by decide +kernel)
theorem d_5005_130 {σ : Nat → Nat} {n0 : Nat} {bf : ab_B} : decode (ab_code (zx σ n0 bf).1 5005) 130 = .ok (.aload_n 0, 1) := zd zm_5005 (by decide +kernel)
theorem d_5005_131 {σ : Nat → Nat} {n0 : Nat} {bf : ab_B} : decode (ab_code (zx σ n0 bf).1 5005) 131 = .ok (.getfield 33, 3) := zd zm_5005 (by decide +kernel)
theorem d_5005_134 {σ : Nat → Nat} {n0 : Nat} {bf : ab_B} : decode (ab_code (zx σ n0 bf).1 5005) 134 = .ok (.iconst 1, 1) := zd zm_5005 (by decide +kernel)
theorem d_5005_135 {σ : Nat → Nat} {n0 : Nat} {bf : ab_B} : decode (ab_code (zx σ n0 bf).1 5005) 135 = .ok (.iadd, 1) := zd zm_5005 (by decide +kernel)
theorem d_5005_136 {σ : Nat → Nat} {n0 : Nat} {bf : ab_B} : decode (ab_code (zx σ n0 bf).1 5005) 136 = .ok (.goto 7, 3) := zd zm_5005 (by decide +kernel)
theorem d_5005_139 {σ : Nat → Nat} {n0 : Nat} {bf : ab_B} : decode (ab_code (zx σ n0 bf).1 5005) 139 = .ok (.aload_n 0, 1) := zd zm_5005 (by decide +kernel)
theorem d_5005_140 {σ : Nat → Nat} {n0 : Nat} {bf : ab_B} : decode (ab_code (zx σ n0 bf).1 5005) 140 = .ok (.getfield 33, 3) := zd zm_5005 (by decide +kernel)
theorem d_5005_143 {σ : Nat → Nat} {n0 : Nat} {bf : ab_B} : decode (ab_code (zx σ n0 bf).1 5005) 143 = .ok (.invokevirtual 74, 3) := zd zm_5005 (by decide +kernel)
theorem d_5005_146 {σ : Nat → Nat} {n0 : Nat} {bf : ab_B} : decode (ab_code (zx σ n0 bf).1 5005) 146 = .ok (.goto (-144), 3) := zd zm_5005 (by decide +kernel)
theorem d_5005_149 {σ : Nat → Nat} {n0 : Nat} {bf : ab_B} : decode (ab_code (zx σ n0 bf).1 5005) 149 = .ok (.return_, 1) := zd zm_5005 (by decide +kernel)
def w_X6_blanks_143 (X : zs_X) (d : Nat) (p0 : Nat) (p1 : Int32) (q0 : Option Nat) (q1 : Int32) (S : zs_T) (Q : zs_Q) : Prop :=
  (∃ b1, q0 = some b1 ∧ zs_K S b1 = some (.inl 5) ∧ zs_C X d 5007 [.ref b1, .int q1] S (zs_kV (fun S4 => (zs_U X d 5005 2 [(0, .ref p0), (1, .int p1)] [] S4 Q)) Q))
theorem u_X6_blanks_143 {σ : Nat → Nat} {n0 : Nat} {bf : ab_B} {d : Nat} {p0 : Nat} {p1 : Int32} {q0 : Option Nat} {q1 : Int32} {S : zs_T} {Q : zs_Q} (hB : zt_B bf) (h : w_X6_blanks_143 (zx σ n0 bf) d p0 p1 q0 q1 S Q) : zs_U (zx σ n0 bf) d 5005 143 [(0, .ref p0), (1, .int p1)] [.int q1, va_rf q0] S Q := by
  unfold w_X6_blanks_143 at h
  obtain ⟨b1, e2, h⟩ := h
  refine zs_stk1 (zs_rfe e2) ?_
  obtain ⟨k3, h⟩ := h
  refine zc_5_74 (x0 := q1) hB rfl k3 d_5005_143 (Nat.le_of_ble_eq_true rfl) h (fun S4 h => ?_)
  refine zu_goto (t := 2) d_5005_146 rfl ?_
  exact h.weak ⟨rfl, rfl, trivial⟩
def w_X6_blanks_103 (X : zs_X) (d : Nat) (p0 : Nat) (p2 : Int32) (p3 : Int32) (q0 : Int32) (S : zs_T) (Q : zs_Q) : Prop :=
  (((¬ q0 = 0 → (zs_K S p0 = some (.inl 5) ∧ ab_n0 X.1 ≤ p0 ∧ ∀ S4, S4 = zs_sI S 5002 p0 ((zs_I S 5002 p0) + (1 : Int32)) → ((p3 = 0 → (zs_U X d 5005 2 [(0, .ref p0), (1, .int q0)] [] S4 Q)) ∧ (¬ (p3 = 0) → (((¬ p2 = (40 : Int32) → (w_X6_blanks_143 X d p0 q0 (some p0) (zs_I S4 5002 p0) S4 Q)) ∧ (¬ (¬ p2 = (40 : Int32)) → (w_X6_blanks_143 X d p0 q0 (some p0) ((zs_I S4 5002 p0) + (1 : Int32)) S4 Q)))))))) ∧ (¬ (¬ q0 = 0) → (Q (.returned none) S))))
theorem u_X6_blanks_103 {σ : Nat → Nat} {n0 : Nat} {bf : ab_B} {d : Nat} {p0 : Nat} {p2 : Int32} {p3 : Int32} {q0 : Int32} {S : zs_T} {Q : zs_Q} (hB : zt_B bf) (h : w_X6_blanks_103 (zx σ n0 bf) d p0 p2 p3 q0 S Q) : zs_U (zx σ n0 bf) d 5005 103 [(0, .ref p0), (2, .int p2), (3, .int p3)] [.int q0] S Q := by
  unfold w_X6_blanks_103 at h
  refine zu_istore_n d_5005_103 (zs_lt zq_5005 rfl) ?_
  refine zu_iload_n d_5005_104 rfl ?_
  refine zu_ifne (t := 109) d_5005_105 rfl (fun c1 => ?_) (fun c1 => ?_)
  · have h := h.1 c1
    refine zu_aload_n d_5005_109 rfl (zs_ra _) ?_
    refine zu_dup d_5005_110 rfl ?_
    obtain ⟨k2, h⟩ := h
    refine zg_5_33 rfl d_5005_111 k2 ?_
    refine zu_iconst d_5005_114 zi_1 ?_
    refine zu_stk d_5005_115 rfl rfl ?_
    obtain ⟨k3, h⟩ := h
    refine zp_5_33 (v := ((zs_I S 5002 p0) + (1 : Int32))) rfl d_5005_116 k2 k3 ?_
    generalize e5 : zs_sI S 5002 p0 ((zs_I S 5002 p0) + (1 : Int32)) = S4
    have h := h S4 e5.symm
    have K6 : ∀ b, zs_K S4 b = zs_K S b := zs_Kt e5 (zs_KsI _ _ _ _) (fun _ => rfl)
    refine zu_iload_n d_5005_119 rfl ?_
    refine zu_ifeq (t := 146) d_5005_120 rfl (fun c7 => ?_) (fun c7 => ?_)
    · have h := h.1 c7
      refine zu_goto (t := 2) d_5005_146 rfl ?_
      exact h.weak ⟨rfl, rfl, trivial⟩
    · have h := h.2 c7
      refine zu_aload_n d_5005_123 rfl (zs_ra _) ?_
      refine zu_iload_n d_5005_124 rfl ?_
      refine zu_bipush d_5005_125 zj_40 ?_
      refine zu_cmpne (t := 139) d_5005_127 rfl (fun c8 => ?_) (fun c8 => ?_)
      · have h := h.1 c8
        refine zu_aload_n d_5005_139 rfl (zs_ra _) ?_
        refine zg_5_33 rfl d_5005_140 ((K6 _).trans k2) ?_
        exact (u_X6_blanks_143 hB h).weak ⟨rfl, rfl, trivial⟩
      · have h := h.2 c8
        refine zu_aload_n d_5005_130 rfl (zs_ra _) ?_
        refine zg_5_33 rfl d_5005_131 ((K6 _).trans k2) ?_
        refine zu_iconst d_5005_134 zi_1 ?_
        refine zu_stk d_5005_135 rfl rfl ?_
        refine zu_goto (t := 143) d_5005_136 rfl ?_
        exact (u_X6_blanks_143 hB h).weak ⟨rfl, rfl, trivial⟩
  · have h := h.2 c1
    exact zu_vret d_5005_108 zr_5005 h
def w_X6_blanks_98 (X : zs_X) (d : Nat) (p0 : Nat) (p2 : Int32) (p3 : Int32) (S : zs_T) (Q : zs_Q) : Prop :=
  (w_X6_blanks_103 X d p0 p2 p3 (1 : Int32) S Q)
theorem u_X6_blanks_98 {σ : Nat → Nat} {n0 : Nat} {bf : ab_B} {d : Nat} {p0 : Nat} {p2 : Int32} {p3 : Int32} {S : zs_T} {Q : zs_Q} (hB : zt_B bf) (h : w_X6_blanks_98 (zx σ n0 bf) d p0 p2 p3 S Q) : zs_U (zx σ n0 bf) d 5005 98 [(0, .ref p0), (2, .int p2), (3, .int p3)] [] S Q := by
  unfold w_X6_blanks_98 at h
  refine zu_iconst d_5005_98 zi_1 ?_
  refine zu_goto (t := 103) d_5005_99 rfl ?_
  exact (u_X6_blanks_103 hB h).weak ⟨rfl, rfl, rfl, trivial⟩
def w_X6_blanks_94 (X : zs_X) (d : Nat) (p0 : Nat) (p2 : Int32) (p3 : Int32) (S : zs_T) (Q : zs_Q) : Prop :=
  (((p3 = 0 → (w_X6_blanks_103 X d p0 p2 p3 (0 : Int32) S Q)) ∧ (¬ (p3 = 0) → w_X6_blanks_98 X d p0 p2 p3 S Q)))
theorem u_X6_blanks_94 {σ : Nat → Nat} {n0 : Nat} {bf : ab_B} {d : Nat} {p0 : Nat} {p2 : Int32} {p3 : Int32} {S : zs_T} {Q : zs_Q} (hB : zt_B bf) (h : w_X6_blanks_94 (zx σ n0 bf) d p0 p2 p3 S Q) : zs_U (zx σ n0 bf) d 5005 94 [(0, .ref p0), (2, .int p2), (3, .int p3)] [] S Q := by
  unfold w_X6_blanks_94 at h
  refine zu_iload_n d_5005_94 rfl ?_
  refine zu_ifeq (t := 102) d_5005_95 rfl (fun c1 => ?_) (fun c1 => ?_)
  · have h := h.1 c1
    refine zu_iconst d_5005_102 zi_0 ?_
    exact (u_X6_blanks_103 hB h).weak ⟨rfl, rfl, rfl, trivial⟩
  · have h := h.2 c1
    exact (u_X6_blanks_98 hB h).weak ⟨rfl, rfl, rfl, trivial⟩
def w_X6_blanks_58 (X : zs_X) (d : Nat) (p0 : Nat) (p2 : Int32) (q0 : Int32) (S : zs_T) (Q : zs_Q) : Prop :=
  (zs_K S p0 = some (.inl 5) ∧ (((zs_I S 5001 p0) ≤ (zs_I S 5002 p0) → w_X6_blanks_94 X d p0 p2 q0 S Q) ∧ (¬ ((zs_I S 5001 p0) ≤ (zs_I S 5002 p0)) → (((p2 = (9 : Int32) → w_X6_blanks_98 X d p0 p2 q0 S Q) ∧ (¬ (p2 = (9 : Int32)) → (((p2 = (10 : Int32) → w_X6_blanks_98 X d p0 p2 q0 S Q) ∧ (¬ (p2 = (10 : Int32)) → (((p2 = (13 : Int32) → w_X6_blanks_98 X d p0 p2 q0 S Q) ∧ (¬ (p2 = (13 : Int32)) → (((p2 = (32 : Int32) → w_X6_blanks_98 X d p0 p2 q0 S Q) ∧ (¬ (p2 = (32 : Int32)) → w_X6_blanks_94 X d p0 p2 q0 S Q)))))))))))))))
theorem u_X6_blanks_58 {σ : Nat → Nat} {n0 : Nat} {bf : ab_B} {d : Nat} {p0 : Nat} {p2 : Int32} {q0 : Int32} {S : zs_T} {Q : zs_Q} (hB : zt_B bf) (h : w_X6_blanks_58 (zx σ n0 bf) d p0 p2 q0 S Q) : zs_U (zx σ n0 bf) d 5005 58 [(0, .ref p0), (2, .int p2)] [.int q0] S Q := by
  unfold w_X6_blanks_58 at h
  refine zu_istore_n d_5005_58 (zs_lt zq_5005 rfl) ?_
  refine zu_aload_n d_5005_59 rfl (zs_ra _) ?_
  obtain ⟨k1, h⟩ := h
  refine zg_5_33 rfl d_5005_60 k1 ?_
  refine zu_aload_n d_5005_63 rfl (zs_ra _) ?_
  refine zg_5_29 rfl d_5005_64 k1 ?_
  refine zu_cmpge (t := 94) d_5005_67 rfl (fun c2 => ?_) (fun c2 => ?_)
  · have h := h.1 c2
    exact (u_X6_blanks_94 hB h).weak ⟨rfl, rfl, rfl, trivial⟩
  · have h := h.2 c2
    refine zu_iload_n d_5005_70 rfl ?_
    refine zu_bipush d_5005_71 zj_9 ?_
    refine zu_cmpeq (t := 98) d_5005_73 rfl (fun c3 => ?_) (fun c3 => ?_)
    · have h := h.1 c3
      exact (u_X6_blanks_98 hB h).weak ⟨rfl, rfl, rfl, trivial⟩
    · have h := h.2 c3
      refine zu_iload_n d_5005_76 rfl ?_
      refine zu_bipush d_5005_77 zj_10 ?_
      refine zu_cmpeq (t := 98) d_5005_79 rfl (fun c4 => ?_) (fun c4 => ?_)
      · have h := h.1 c4
        exact (u_X6_blanks_98 hB h).weak ⟨rfl, rfl, rfl, trivial⟩
      · have h := h.2 c4
        refine zu_iload_n d_5005_82 rfl ?_
        refine zu_bipush d_5005_83 zj_13 ?_
        refine zu_cmpeq (t := 98) d_5005_85 rfl (fun c5 => ?_) (fun c5 => ?_)
        · have h := h.1 c5
          exact (u_X6_blanks_98 hB h).weak ⟨rfl, rfl, rfl, trivial⟩
        · have h := h.2 c5
          refine zu_iload_n d_5005_88 rfl ?_
          refine zu_bipush d_5005_89 zj_32 ?_
          refine zu_cmpeq (t := 98) d_5005_91 rfl (fun c6 => ?_) (fun c6 => ?_)
          · have h := h.1 c6
            exact (u_X6_blanks_98 hB h).weak ⟨rfl, rfl, rfl, trivial⟩
          · have h := h.2 c6
            exact (u_X6_blanks_94 hB h).weak ⟨rfl, rfl, rfl, trivial⟩
def w_X6_blanks_57 (X : zs_X) (d : Nat) (p0 : Nat) (p2 : Int32) (S : zs_T) (Q : zs_Q) : Prop :=
  (w_X6_blanks_58 X d p0 p2 (0 : Int32) S Q)
theorem u_X6_blanks_57 {σ : Nat → Nat} {n0 : Nat} {bf : ab_B} {d : Nat} {p0 : Nat} {p2 : Int32} {S : zs_T} {Q : zs_Q} (hB : zt_B bf) (h : w_X6_blanks_57 (zx σ n0 bf) d p0 p2 S Q) : zs_U (zx σ n0 bf) d 5005 57 [(0, .ref p0), (2, .int p2)] [] S Q := by
  unfold w_X6_blanks_57 at h
  refine zu_iconst d_5005_57 zi_0 ?_
  exact (u_X6_blanks_58 hB h).weak ⟨rfl, rfl, trivial⟩
def w_X6_blanks_53 (X : zs_X) (d : Nat) (p0 : Nat) (p2 : Int32) (S : zs_T) (Q : zs_Q) : Prop :=
  (w_X6_blanks_58 X d p0 p2 (1 : Int32) S Q)
theorem u_X6_blanks_53 {σ : Nat → Nat} {n0 : Nat} {bf : ab_B} {d : Nat} {p0 : Nat} {p2 : Int32} {S : zs_T} {Q : zs_Q} (hB : zt_B bf) (h : w_X6_blanks_53 (zx σ n0 bf) d p0 p2 S Q) : zs_U (zx σ n0 bf) d 5005 53 [(0, .ref p0), (2, .int p2)] [] S Q := by
  unfold w_X6_blanks_53 at h
  refine zu_iconst d_5005_53 zi_1 ?_
  refine zu_goto (t := 58) d_5005_54 rfl ?_
  exact (u_X6_blanks_58 hB h).weak ⟨rfl, rfl, trivial⟩
def w_X6_blanks_38 (X : zs_X) (d : Nat) (p0 : Nat) (p2 : Int32) (S : zs_T) (Q : zs_Q) : Prop :=
  (zs_K S p0 = some (.inl 5) ∧ zs_C X d 5006 [.ref p0, .int ((zs_I S 5002 p0) + (1 : Int32))] S (zs_kI (fun v3 S2 => (((¬ v3 = (42 : Int32) → w_X6_blanks_57 X d p0 p2 S2 Q) ∧ (¬ (¬ v3 = (42 : Int32)) → w_X6_blanks_53 X d p0 p2 S2 Q)))) Q))
theorem u_X6_blanks_38 {σ : Nat → Nat} {n0 : Nat} {bf : ab_B} {d : Nat} {p0 : Nat} {p2 : Int32} {S : zs_T} {Q : zs_Q} (hB : zt_B bf) (h : w_X6_blanks_38 (zx σ n0 bf) d p0 p2 S Q) : zs_U (zx σ n0 bf) d 5005 38 [(0, .ref p0), (2, .int p2)] [] S Q := by
  unfold w_X6_blanks_38 at h
  refine zu_aload_n d_5005_38 rfl (zs_ra _) ?_
  refine zu_aload_n d_5005_39 rfl (zs_ra _) ?_
  obtain ⟨k1, h⟩ := h
  refine zg_5_33 rfl d_5005_40 k1 ?_
  refine zu_iconst d_5005_43 zi_1 ?_
  refine zu_stk d_5005_44 rfl rfl ?_
  refine zc_5_71 (x0 := ((zs_I S 5002 p0) + (1 : Int32))) hB rfl k1 d_5005_45 (Nat.le_of_ble_eq_true rfl) h (fun v3 S2 h => ?_)
  refine zu_bipush d_5005_48 zj_42 ?_
  refine zu_cmpne (t := 57) d_5005_50 rfl (fun c4 => ?_) (fun c4 => ?_)
  · have h := h.1 c4
    exact (u_X6_blanks_57 hB h).weak ⟨rfl, rfl, trivial⟩
  · have h := h.2 c4
    exact (u_X6_blanks_53 hB h).weak ⟨rfl, rfl, trivial⟩
def w_X6_blanks_2 (X : zs_X) (d : Nat) (p0 : Nat) (p1 : Int32) (S : zs_T) (Q : zs_Q) : Prop :=
  (((p1 = 0 → (Q (.returned none) S)) ∧ (¬ (p1 = 0) → (zs_K S p0 = some (.inl 5) ∧ zs_C X d 5006 [.ref p0, .int (zs_I S 5002 p0)] S (zs_kI (fun v4 S3 => (zs_K S3 p0 = some (.inl 5) ∧ (((zs_I S3 5001 p0) ≤ (zs_I S3 5002 p0) → w_X6_blanks_57 X d p0 v4 S3 Q) ∧ (¬ ((zs_I S3 5001 p0) ≤ (zs_I S3 5002 p0)) → (((v4 = (123 : Int32) → w_X6_blanks_53 X d p0 v4 S3 Q) ∧ (¬ (v4 = (123 : Int32)) → (((¬ v4 = (40 : Int32) → w_X6_blanks_57 X d p0 v4 S3 Q) ∧ (¬ (¬ v4 = (40 : Int32)) → w_X6_blanks_38 X d p0 v4 S3 Q)))))))))) Q)))))
theorem u_X6_blanks_2 {σ : Nat → Nat} {n0 : Nat} {bf : ab_B} {d : Nat} {p0 : Nat} {p1 : Int32} {S : zs_T} {Q : zs_Q} (hB : zt_B bf) (h : w_X6_blanks_2 (zx σ n0 bf) d p0 p1 S Q) : zs_U (zx σ n0 bf) d 5005 2 [(0, .ref p0), (1, .int p1)] [] S Q := by
  unfold w_X6_blanks_2 at h
  refine zu_iload_n d_5005_2 rfl ?_
  refine zu_ifeq (t := 149) d_5005_3 rfl (fun c1 => ?_) (fun c1 => ?_)
  · have h := h.1 c1
    exact zu_vret d_5005_149 zr_5005 h
  · have h := h.2 c1
    refine zu_aload_n d_5005_6 rfl (zs_ra _) ?_
    refine zu_aload_n d_5005_7 rfl (zs_ra _) ?_
    obtain ⟨k2, h⟩ := h
    refine zg_5_33 rfl d_5005_8 k2 ?_
    refine zc_5_71 (x0 := (zs_I S 5002 p0)) hB rfl k2 d_5005_11 (Nat.le_of_ble_eq_true rfl) h (fun v4 S3 h => ?_)
    refine zu_istore_n d_5005_14 (zs_lt zq_5005 rfl) ?_
    refine zu_aload_n d_5005_15 rfl (zs_ra _) ?_
    obtain ⟨k5, h⟩ := h
    refine zg_5_33 rfl d_5005_16 k5 ?_
    refine zu_aload_n d_5005_19 rfl (zs_ra _) ?_
    refine zg_5_29 rfl d_5005_20 k5 ?_
    refine zu_cmpge (t := 57) d_5005_23 rfl (fun c6 => ?_) (fun c6 => ?_)
    · have h := h.1 c6
      exact (u_X6_blanks_57 hB h).weak ⟨rfl, rfl, trivial⟩
    · have h := h.2 c6
      refine zu_iload_n d_5005_26 rfl ?_
      refine zu_bipush d_5005_27 zj_123 ?_
      refine zu_cmpeq (t := 53) d_5005_29 rfl (fun c7 => ?_) (fun c7 => ?_)
      · have h := h.1 c7
        exact (u_X6_blanks_53 hB h).weak ⟨rfl, rfl, trivial⟩
      · have h := h.2 c7
        refine zu_iload_n d_5005_32 rfl ?_
        refine zu_bipush d_5005_33 zj_40 ?_
        refine zu_cmpne (t := 57) d_5005_35 rfl (fun c8 => ?_) (fun c8 => ?_)
        · have h := h.1 c8
          exact (u_X6_blanks_57 hB h).weak ⟨rfl, rfl, trivial⟩
        · have h := h.2 c8
          exact (u_X6_blanks_38 hB h).weak ⟨rfl, rfl, trivial⟩
def w_X6_blanks (X : zs_X) (d : Nat) (p0 : Nat) (S : zs_T) (Q : zs_Q) : Prop :=
  (zs_U X d 5005 2 [(0, .ref p0), (1, .int (1 : Int32))] [] S Q)
theorem u_X6_blanks {σ : Nat → Nat} {n0 : Nat} {bf : ab_B} {d : Nat} {p0 : Nat} {S : zs_T} {Q : zs_Q} (hB : zt_B bf) (hd : 1 ≤ d) (h : w_X6_blanks (zx σ n0 bf) (d - 1) p0 S Q) : zs_C (zx σ n0 bf) d 5005 [.ref p0] S Q := by
  have hL : lv_args 0 [.ref p0] = [(0, .ref p0)] := rfl
  refine zs_C.of1 (hB.2 5005 (by decide) (by decide)) hd (by rw [hL]; exact zs_sub_self _ (by exact ⟨rfl, trivial⟩)) ?_
  rw [hL]
  clear hL
  unfold w_X6_blanks at h
  refine zu_iconst d_5005_0 zi_1 ?_
  refine zu_istore_n d_5005_1 (zs_lt zq_5005 rfl) ?_
  exact h.weak ⟨rfl, rfl, trivial⟩
/-! SchemaPascal$Words.byteAt(I)I -/
theorem zm_5006 {σ : Nat → Nat} {n0 : Nat} {bf : ab_B} : ab_code (zx σ n0 bf).1 5006 = prog_15_method_5_code := rfl
theorem zq_5006 {σ : Nat → Nat} {n0 : Nat} {bf : ab_B} : ab_maxL (zx σ n0 bf).1 5006 = 2 := rfl
theorem zr_5006 {σ : Nat → Nat} {n0 : Nat} {bf : ab_B} : ab_ret (zx σ n0 bf).1 5006 = (Option.some Jvm.ClassFile.FieldType.int) := rfl
theorem d_5006_0 {σ : Nat → Nat} {n0 : Nat} {bf : ab_B} : decode (ab_code (zx σ n0 bf).1 5006) 0 = .ok (.iload_n 1, 1) := zd zm_5006 (by decide +kernel)
theorem d_5006_1 {σ : Nat → Nat} {n0 : Nat} {bf : ab_B} : decode (ab_code (zx σ n0 bf).1 5006) 1 = .ok (.aload_n 0, 1) := zd zm_5006 (by decide +kernel)
theorem d_5006_2 {σ : Nat → Nat} {n0 : Nat} {bf : ab_B} : decode (ab_code (zx σ n0 bf).1 5006) 2 = .ok (.getfield 29, 3) := zd zm_5006 (by decide +kernel)
theorem d_5006_5 {σ : Nat → Nat} {n0 : Nat} {bf : ab_B} : decode (ab_code (zx σ n0 bf).1 5006) 5 = .ok (.if_icmp .ge 16, 3) := zd zm_5006 (by decide +kernel)
theorem d_5006_8 {σ : Nat → Nat} {n0 : Nat} {bf : ab_B} : decode (ab_code (zx σ n0 bf).1 5006) 8 = .ok (.aload_n 0, 1) := zd zm_5006 (by decide +kernel)
theorem d_5006_9 {σ : Nat → Nat} {n0 : Nat} {bf : ab_B} : decode (ab_code (zx σ n0 bf).1 5006) 9 = .ok (.getfield 26, 3) := zd zm_5006 (by decide +kernel)
theorem d_5006_12 {σ : Nat → Nat} {n0 : Nat} {bf : ab_B} : decode (ab_code (zx σ n0 bf).1 5006) 12 = .ok (.iload_n 1, 1) := zd zm_5006 (by decide +kernel)
theorem d_5006_13 {σ : Nat → Nat} {n0 : Nat} {bf : ab_B} : decode (ab_code (zx σ n0 bf).1 5006) 13 = .ok (.baload, 1) := zd zm_5006 (by decide +kernel)
theorem d_5006_14 {σ : Nat → Nat} {n0 : Nat} {bf : ab_B} : decode (ab_code (zx σ n0 bf).1 5006) 14 = .ok (.sipush 255, 3) := zd zm_5006 (by decide +kernel)
theorem d_5006_17 {σ : Nat → Nat} {n0 : Nat} {bf : ab_B} : decode (ab_code (zx σ n0 bf).1 5006) 17 = .ok (.iand, 1) := zd zm_5006 (by decide +kernel)
theorem d_5006_18 {σ : Nat → Nat} {n0 : Nat} {bf : ab_B} : decode (ab_code (zx σ n0 bf).1 5006) 18 = .ok (.goto 4, 3) := zd zm_5006 (by decide +kernel)
theorem d_5006_21 {σ : Nat → Nat} {n0 : Nat} {bf : ab_B} : decode (ab_code (zx σ n0 bf).1 5006) 21 = .ok (.iconst 0, 1) := zd zm_5006 (by decide +kernel)
theorem d_5006_22 {σ : Nat → Nat} {n0 : Nat} {bf : ab_B} : decode (ab_code (zx σ n0 bf).1 5006) 22 = .ok (.ireturn, 1) := zd zm_5006 (by decide +kernel)
def w_X6_byteAt (X : zs_X) (d : Nat) (p0 : Nat) (p1 : Int32) (S : zs_T) (Q : zs_Q) : Prop :=
  (zs_K S p0 = some (.inl 5) ∧ (((zs_I S 5001 p0) ≤ p1 → (Q (.returned (some (.int (0 : Int32)))) S)) ∧ (¬ ((zs_I S 5001 p0) ≤ p1) → (∃ b3, (zs_R S 5000 p0) = some b3 ∧ zs_A S b3 1 p1 ∧ Q (.returned (some (.int ((zs_i S b3 p1.toNatClampNeg) &&& (255 : Int32))))) S))))
theorem u_X6_byteAt {σ : Nat → Nat} {n0 : Nat} {bf : ab_B} {d : Nat} {p0 : Nat} {p1 : Int32} {S : zs_T} {Q : zs_Q} (hB : zt_B bf) (hd : 1 ≤ d) (h : w_X6_byteAt (zx σ n0 bf) (d - 1) p0 p1 S Q) : zs_C (zx σ n0 bf) d 5006 [.ref p0, .int p1] S Q := by
  have hL : lv_args 0 [.ref p0, .int p1] = [(0, .ref p0), (1, .int p1)] := rfl
  refine zs_C.of1 (hB.2 5006 (by decide) (by decide)) hd (by rw [hL]; exact zs_sub_self _ (by exact ⟨rfl, rfl, trivial⟩)) ?_
  rw [hL]
  clear hL
  unfold w_X6_byteAt at h
  refine zu_iload_n d_5006_0 rfl ?_
  refine zu_aload_n d_5006_1 rfl (zs_ra _) ?_
  obtain ⟨k1, h⟩ := h
  refine zg_5_29 rfl d_5006_2 k1 ?_
  refine zu_cmpge (t := 21) d_5006_5 rfl (fun c2 => ?_) (fun c2 => ?_)
  · have h := h.1 c2
    refine zu_iconst d_5006_21 zi_0 ?_
    exact zu_iret d_5006_22 zr_5006 rfl h
  · have h := h.2 c2
    refine zu_aload_n d_5006_8 rfl (zs_ra _) ?_
    refine zg_5_26 rfl d_5006_9 k1 ?_
    refine zu_iload_n d_5006_12 rfl ?_
    obtain ⟨b3, e4, h⟩ := h
    refine zs_stk1 (zs_rfe e4) ?_
    obtain ⟨k5, h⟩ := h
    refine zu_bald (k := 1) d_5006_13 rfl (Or.inl rfl) k5 ?_
    refine zu_sipush d_5006_14 zh_255 ?_
    refine zu_stk d_5006_17 rfl rfl ?_
    refine zu_goto (t := 22) d_5006_18 rfl ?_
    exact zu_iret d_5006_22 zr_5006 rfl h
/-! SchemaPascal$Words.note(I)V -/
theorem zm_5007 {σ : Nat → Nat} {n0 : Nat} {bf : ab_B} : ab_code (zx σ n0 bf).1 5007 = prog_15_method_10_code := rfl
theorem zq_5007 {σ : Nat → Nat} {n0 : Nat} {bf : ab_B} : ab_maxL (zx σ n0 bf).1 5007 = 3 := rfl
theorem zr_5007 {σ : Nat → Nat} {n0 : Nat} {bf : ab_B} : ab_ret (zx σ n0 bf).1 5007 = (Option.none : Option Jvm.ClassFile.FieldType) := rfl
theorem d_5007_0 {σ : Nat → Nat} {n0 : Nat} {bf : ab_B} : decode (ab_code (zx σ n0 bf).1 5007) 0 = .ok (.aload_n 0, 1) := zd zm_5007 (by decide +kernel)
theorem d_5007_1 {σ : Nat → Nat} {n0 : Nat} {bf : ab_B} : decode (ab_code (zx σ n0 bf).1 5007) 1 = .ok (.getfield 33, 3) := zd zm_5007 (by decide +kernel)
theorem d_5007_4 {σ : Nat → Nat} {n0 : Nat} {bf : ab_B} : decode (ab_code (zx σ n0 bf).1 5007) 4 = .ok (.iconst 1, 1) := zd zm_5007 (by decide +kernel)
theorem d_5007_5 {σ : Nat → Nat} {n0 : Nat} {bf : ab_B} : decode (ab_code (zx σ n0 bf).1 5007) 5 = .ok (.isub, 1) := zd zm_5007 (by decide +kernel)
theorem d_5007_6 {σ : Nat → Nat} {n0 : Nat} {bf : ab_B} : decode (ab_code (zx σ n0 bf).1 5007) 6 = .ok (.istore_n 2, 1) := zd zm_5007 (by decide +kernel)
theorem d_5007_7 {σ : Nat → Nat} {n0 : Nat} {bf : ab_B} : decode (ab_code (zx σ n0 bf).1 5007) 7 = .ok (.aload_n 0, 1) := zd zm_5007 (by decide +kernel)
theorem d_5007_8 {σ : Nat → Nat} {n0 : Nat} {bf : ab_B} : decode (ab_code (zx σ n0 bf).1 5007) 8 = .ok (.iload_n 1, 1) := zd zm_5007 (by decide +kernel)
theorem d_5007_9 {σ : Nat → Nat} {n0 : Nat} {bf : ab_B} : decode (ab_code (zx σ n0 bf).1 5007) 9 = .ok (.putfield 33, 3) := zd zm_5007 (by decide +kernel)
theorem d_5007_12 {σ : Nat → Nat} {n0 : Nat} {bf : ab_B} : decode (ab_code (zx σ n0 bf).1 5007) 12 = .ok (.aload_n 0, 1) := zd zm_5007 (by decide +kernel)
theorem d_5007_13 {σ : Nat → Nat} {n0 : Nat} {bf : ab_B} : decode (ab_code (zx σ n0 bf).1 5007) 13 = .ok (.getfield 33, 3) := zd zm_5007 (by decide +kernel)
theorem d_5007_16 {σ : Nat → Nat} {n0 : Nat} {bf : ab_B} : decode (ab_code (zx σ n0 bf).1 5007) 16 = .ok (.aload_n 0, 1) := zd zm_5007 (by decide +kernel)
theorem d_5007_17 {σ : Nat → Nat} {n0 : Nat} {bf : ab_B} : decode (ab_code (zx σ n0 bf).1 5007) 17 = .ok (.getfield 29, 3) := zd zm_5007 (by decide +kernel)
theorem d_5007_20 {σ : Nat → Nat} {n0 : Nat} {bf : ab_B} : decode (ab_code (zx σ n0 bf).1 5007) 20 = .ok (.if_icmp .ge 57, 3) := zd zm_5007 (by decide +kernel)
theorem d_5007_23 {σ : Nat → Nat} {n0 : Nat} {bf : ab_B} : decode (ab_code (zx σ n0 bf).1 5007) 23 = .ok (.aload_n 0, 1) := zd zm_5007 (by decide +kernel)
theorem d_5007_24 {σ : Nat → Nat} {n0 : Nat} {bf : ab_B} : decode (ab_code (zx σ n0 bf).1 5007) 24 = .ok (.aload_n 0, 1) := zd zm_5007 (by decide +kernel)
theorem d_5007_25 {σ : Nat → Nat} {n0 : Nat} {bf : ab_B} : decode (ab_code (zx σ n0 bf).1 5007) 25 = .ok (.getfield 33, 3) := zd zm_5007 (by decide +kernel)
theorem d_5007_28 {σ : Nat → Nat} {n0 : Nat} {bf : ab_B} : decode (ab_code (zx σ n0 bf).1 5007) 28 = .ok (.invokevirtual 71, 3) := zd zm_5007 (by decide +kernel)
theorem d_5007_31 {σ : Nat → Nat} {n0 : Nat} {bf : ab_B} : decode (ab_code (zx σ n0 bf).1 5007) 31 = .ok (.bipush 125, 2) := zd zm_5007 (by decide +kernel)
theorem d_5007_33 {σ : Nat → Nat} {n0 : Nat} {bf : ab_B} : decode (ab_code (zx σ n0 bf).1 5007) 33 = .ok (.if_icmp .eq 44, 3) := zd zm_5007 (by decide +kernel)
theorem d_5007_36 {σ : Nat → Nat} {n0 : Nat} {bf : ab_B} : decode (ab_code (zx σ n0 bf).1 5007) 36 = .ok (.aload_n 0, 1) := zd zm_5007 (by decide +kernel)
theorem d_5007_37 {σ : Nat → Nat} {n0 : Nat} {bf : ab_B} : decode (ab_code (zx σ n0 bf).1 5007) 37 = .ok (.aload_n 0, 1) := zd zm_5007 (by decide +kernel)
theorem d_5007_38 {σ : Nat → Nat} {n0 : Nat} {bf : ab_B} : decode (ab_code (zx σ n0 bf).1 5007) 38 = .ok (.getfield 33, 3) := zd zm_5007 (by decide +kernel)
theorem d_5007_41 {σ : Nat → Nat} {n0 : Nat} {bf : ab_B} : decode (ab_code (zx σ n0 bf).1 5007) 41 = .ok (.invokevirtual 71, 3) := zd zm_5007 (by decide +kernel)
theorem d_5007_44 {σ : Nat → Nat} {n0 : Nat} {bf : ab_B} : decode (ab_code (zx σ n0 bf).1 5007) 44 = .ok (.bipush 42, 2) := zd zm_5007 (by decide +kernel)
theorem d_5007_46 {σ : Nat → Nat} {n0 : Nat} {bf : ab_B} : decode (ab_code (zx σ n0 bf).1 5007) 46 = .ok (.if_icmp .ne 18, 3) := zd zm_5007 (by decide +kernel)
theorem d_5007_49 {σ : Nat → Nat} {n0 : Nat} {bf : ab_B} : decode (ab_code (zx σ n0 bf).1 5007) 49 = .ok (.aload_n 0, 1) := zd zm_5007 (by decide +kernel)
theorem d_5007_50 {σ : Nat → Nat} {n0 : Nat} {bf : ab_B} : decode (ab_code (zx σ n0 bf).1 5007) 50 = .ok (.aload_n 0, 1) := zd zm_5007 (by decide +kernel)
theorem d_5007_51 {σ : Nat → Nat} {n0 : Nat} {bf : ab_B} : decode (ab_code (zx σ n0 bf).1 5007) 51 = .ok (.getfield 33, 3) := zd zm_5007 (by decide +kernel)
theorem d_5007_54 {σ : Nat → Nat} {n0 : Nat} {bf : ab_B} : decode (ab_code (zx σ n0 bf).1 5007) 54 = .ok (.iconst 1, 1) := zd zm_5007 (by decide +kernel)
theorem d_5007_55 {σ : Nat → Nat} {n0 : Nat} {bf : ab_B} : decode (ab_code (zx σ n0 bf).1 5007) 55 = .ok (.iadd, 1) := zd zm_5007 (by decide +kernel)
theorem d_5007_56 {σ : Nat → Nat} {n0 : Nat} {bf : ab_B} : decode (ab_code (zx σ n0 bf).1 5007) 56 = .ok (.invokevirtual 71, 3) := zd zm_5007 (by decide +kernel)
theorem d_5007_59 {σ : Nat → Nat} {n0 : Nat} {bf : ab_B} : decode (ab_code (zx σ n0 bf).1 5007) 59 = .ok (.bipush 41, 2) := zd zm_5007 (by decide +kernel)
theorem d_5007_61 {σ : Nat → Nat} {n0 : Nat} {bf : ab_B} : decode (ab_code (zx σ n0 bf).1 5007) 61 = .ok (.if_icmp .eq 16, 3) := zd zm_5007 (by decide +kernel)
theorem d_5007_64 {σ : Nat → Nat} {n0 : Nat} {bf : ab_B} : decode (ab_code (zx σ n0 bf).1 5007) 64 = .ok (.aload_n 0, 1) := zd zm_5007 (by decide +kernel)
theorem d_5007_65 {σ : Nat → Nat} {n0 : Nat} {bf : ab_B} : decode (ab_code (zx σ n0 bf).1 5007) 65 = .ok (.dup, 1) := zd zm_5007 (by decide +kernel)
theorem d_5007_66 {σ : Nat → Nat} {n0 : Nat} {bf : ab_B} : decode (ab_code (zx σ n0 bf).1 5007) 66 = .ok (.getfield 33, 3) := zd zm_5007 (by decide +kernel)
theorem d_5007_69 {σ : Nat → Nat} {n0 : Nat} {bf : ab_B} : decode (ab_code (zx σ n0 bf).1 5007) 69 = .ok (.iconst 1, 1) := zd zm_5007 (by decide +kernel)
theorem d_5007_70 {σ : Nat → Nat} {n0 : Nat} {bf : ab_B} : decode (ab_code (zx σ n0 bf).1 5007) 70 = .ok (.iadd, 1) := zd zm_5007 (by decide +kernel)
theorem d_5007_71 {σ : Nat → Nat} {n0 : Nat} {bf : ab_B} : decode (ab_code (zx σ n0 bf).1 5007) 71 = .ok (.putfield 33, 3) := zd zm_5007 (by decide +kernel)
theorem d_5007_74 {σ : Nat → Nat} {n0 : Nat} {bf : ab_B} : decode (ab_code (zx σ n0 bf).1 5007) 74 = .ok (.goto (-62), 3) := zd zm_5007 (by decide +kernel)
theorem d_5007_77 {σ : Nat → Nat} {n0 : Nat} {bf : ab_B} : decode (ab_code (zx σ n0 bf).1 5007) 77 = .ok (.aload_n 0, 1) := zd zm_5007 (by decide +kernel)
theorem d_5007_78 {σ : Nat → Nat} {n0 : Nat} {bf : ab_B} : decode (ab_code (zx σ n0 bf).1 5007) 78 = .ok (.getfield 33, 3) := zd zm_5007 (by decide +kernel)
theorem d_5007_81 {σ : Nat → Nat} {n0 : Nat} {bf : ab_B} : decode (ab_code (zx σ n0 bf).1 5007) 81 = .ok (.aload_n 0, 1) := zd zm_5007 (by decide +kernel)
theorem d_5007_82 {σ : Nat → Nat} {n0 : Nat} {bf : ab_B} : decode (ab_code (zx σ n0 bf).1 5007) 82 = .ok (.getfield 29, 3) := zd zm_5007 (by decide +kernel)
theorem d_5007_85 {σ : Nat → Nat} {n0 : Nat} {bf : ab_B} : decode (ab_code (zx σ n0 bf).1 5007) 85 = .ok (.if_icmp .lt 13, 3) := zd zm_5007 (by decide +kernel)
theorem d_5007_88 {σ : Nat → Nat} {n0 : Nat} {bf : ab_B} : decode (ab_code (zx σ n0 bf).1 5007) 88 = .ok (.new 78, 3) := zd zm_5007 (by decide +kernel)
theorem d_5007_91 {σ : Nat → Nat} {n0 : Nat} {bf : ab_B} : decode (ab_code (zx σ n0 bf).1 5007) 91 = .ok (.dup, 1) := zd zm_5007 (by decide +kernel)
theorem d_5007_92 {σ : Nat → Nat} {n0 : Nat} {bf : ab_B} : decode (ab_code (zx σ n0 bf).1 5007) 92 = .ok (.iconst 1, 1) := zd zm_5007 (by decide +kernel)
theorem d_5007_93 {σ : Nat → Nat} {n0 : Nat} {bf : ab_B} : decode (ab_code (zx σ n0 bf).1 5007) 93 = .ok (.iload_n 2, 1) := zd zm_5007 (by decide +kernel)
theorem d_5007_94 {σ : Nat → Nat} {n0 : Nat} {bf : ab_B} : decode (ab_code (zx σ n0 bf).1 5007) 94 = .ok (.invokespecial 80, 3) := zd zm_5007 (by decide +kernel)
theorem d_5007_97 {σ : Nat → Nat} {n0 : Nat} {bf : ab_B} : decode (ab_code (zx σ n0 bf).1 5007) 97 = .ok (.athrow, 1) := zd zm_5007 (by decide +kernel)
theorem d_5007_98 {σ : Nat → Nat} {n0 : Nat} {bf : ab_B} : decode (ab_code (zx σ n0 bf).1 5007) 98 = .ok (.aload_n 0, 1) := zd zm_5007 (by decide +kernel)
theorem d_5007_99 {σ : Nat → Nat} {n0 : Nat} {bf : ab_B} : decode (ab_code (zx σ n0 bf).1 5007) 99 = .ok (.dup, 1) := zd zm_5007 (by decide +kernel)
theorem d_5007_100 {σ : Nat → Nat} {n0 : Nat} {bf : ab_B} : decode (ab_code (zx σ n0 bf).1 5007) 100 = .ok (.getfield 33, 3) := zd zm_5007 (by decide +kernel)
theorem d_5007_103 {σ : Nat → Nat} {n0 : Nat} {bf : ab_B} : decode (ab_code (zx σ n0 bf).1 5007) 103 = .ok (.aload_n 0, 1) := zd zm_5007 (by decide +kernel)
theorem d_5007_104 {σ : Nat → Nat} {n0 : Nat} {bf : ab_B} : decode (ab_code (zx σ n0 bf).1 5007) 104 = .ok (.aload_n 0, 1) := zd zm_5007 (by decide +kernel)
theorem d_5007_105 {σ : Nat → Nat} {n0 : Nat} {bf : ab_B} : decode (ab_code (zx σ n0 bf).1 5007) 105 = .ok (.getfield 33, 3) := zd zm_5007 (by decide +kernel)
theorem d_5007_108 {σ : Nat → Nat} {n0 : Nat} {bf : ab_B} : decode (ab_code (zx σ n0 bf).1 5007) 108 = .ok (.invokevirtual 71, 3) := zd zm_5007 (by decide +kernel)
theorem d_5007_111 {σ : Nat → Nat} {n0 : Nat} {bf : ab_B} : decode (ab_code (zx σ n0 bf).1 5007) 111 = .ok (.bipush 125, 2) := zd zm_5007 (by decide +kernel)
theorem d_5007_113 {σ : Nat → Nat} {n0 : Nat} {bf : ab_B} : decode (ab_code (zx σ n0 bf).1 5007) 113 = .ok (.if_icmp .ne 7, 3) := zd zm_5007 (by decide +kernel)
theorem d_5007_116 {σ : Nat → Nat} {n0 : Nat} {bf : ab_B} : decode (ab_code (zx σ n0 bf).1 5007) 116 = .ok (.iconst 1, 1) := zd zm_5007 (by decide +kernel)
theorem d_5007_117 {σ : Nat → Nat} {n0 : Nat} {bf : ab_B} : decode (ab_code (zx σ n0 bf).1 5007) 117 = .ok (.goto 4, 3) := zd zm_5007 (by decide +kernel)
theorem d_5007_120 {σ : Nat → Nat} {n0 : Nat} {bf : ab_B} : decode (ab_code (zx σ n0 bf).1 5007) 120 = .ok (.iconst 2, 1) := zd zm_5007 (by decide +kernel)
theorem d_5007_121 {σ : Nat → Nat} {n0 : Nat} {bf : ab_B} : decode (ab_code (zx σ n0 bf).1 5007) 121 = .ok (.iadd, 1) := zd zm_5007 (by decide +kernel)
theorem d_5007_122 {σ : Nat → Nat} {n0 : Nat} {bf : ab_B} : decode (ab_code (zx σ n0 bf).1 5007) 122 = .ok (.putfield 33, 3) := zd zm_5007 (by decide +kernel)
theorem d_5007_125 {σ : Nat → Nat} {n0 : Nat} {bf : ab_B} : decode (ab_code (zx σ n0 bf).1 5007) 125 = .ok (.return_, 1) := zd zm_5007 (by decide +kernel)
def w_X6_note_125 (X : zs_X) (d : Nat)  (S : zs_T) (Q : zs_Q) : Prop :=
  (Q (.returned none) S)
theorem u_X6_note_125 {σ : Nat → Nat} {n0 : Nat} {bf : ab_B} {d : Nat}  {S : zs_T} {Q : zs_Q} (hB : zt_B bf) (h : w_X6_note_125 (zx σ n0 bf) d  S Q) : zs_U (zx σ n0 bf) d 5007 125 [] [] S Q := by
  unfold w_X6_note_125 at h
  exact zu_vret d_5007_125 zr_5007 h
def w_X6_note_77 (X : zs_X) (d : Nat) (p0 : Nat) (p2 : Int32) (S : zs_T) (Q : zs_Q) : Prop :=
  (zs_K S p0 = some (.inl 5) ∧ (((zs_I S 5002 p0) < (zs_I S 5001 p0) → (zs_C X d 5006 [.ref p0, .int (zs_I S 5002 p0)] S (zs_kI (fun v4 S3 => (((¬ v4 = (125 : Int32) → (zs_K S3 p0 = some (.inl 5) ∧ ab_n0 X.1 ≤ p0 ∧ ∀ S8, S8 = zs_sI S3 5002 p0 ((zs_I S 5002 p0) + (2 : Int32)) → w_X6_note_125 X d  S8 Q)) ∧ (¬ (¬ v4 = (125 : Int32)) → (zs_K S3 p0 = some (.inl 5) ∧ ab_n0 X.1 ≤ p0 ∧ ∀ S13, S13 = zs_sI S3 5002 p0 ((zs_I S 5002 p0) + (1 : Int32)) → w_X6_note_125 X d  S13 Q))))) Q))) ∧ (¬ ((zs_I S 5002 p0) < (zs_I S 5001 p0)) → (∀ a16 S17, a16 = zs_N S → S17 = zs_nw S (.inl 9) 8 → zs_C X d 9000 [.ref a16, .int (1 : Int32), .int p2] S17 (zs_kV (fun S21 => (Q (.threw a16) S21)) Q)))))
theorem u_X6_note_77 {σ : Nat → Nat} {n0 : Nat} {bf : ab_B} {d : Nat} {p0 : Nat} {p2 : Int32} {S : zs_T} {Q : zs_Q} (hB : zt_B bf) (h : w_X6_note_77 (zx σ n0 bf) d p0 p2 S Q) : zs_U (zx σ n0 bf) d 5007 77 [(0, .ref p0), (2, .int p2)] [] S Q := by
  unfold w_X6_note_77 at h
  refine zu_aload_n d_5007_77 rfl (zs_ra _) ?_
  obtain ⟨k1, h⟩ := h
  refine zg_5_33 rfl d_5007_78 k1 ?_
  refine zu_aload_n d_5007_81 rfl (zs_ra _) ?_
  refine zg_5_29 rfl d_5007_82 k1 ?_
  refine zu_cmplt (t := 98) d_5007_85 rfl (fun c2 => ?_) (fun c2 => ?_)
  · have h := h.1 c2
    refine zu_aload_n d_5007_98 rfl (zs_ra _) ?_
    refine zu_dup d_5007_99 rfl ?_
    refine zg_5_33 rfl d_5007_100 k1 ?_
    refine zu_aload_n d_5007_103 rfl (zs_ra _) ?_
    refine zu_aload_n d_5007_104 rfl (zs_ra _) ?_
    refine zg_5_33 rfl d_5007_105 k1 ?_
    refine zc_5_71 (x0 := (zs_I S 5002 p0)) hB rfl k1 d_5007_108 (Nat.le_of_ble_eq_true rfl) h (fun v4 S3 h => ?_)
    refine zu_bipush d_5007_111 zj_125 ?_
    refine zu_cmpne (t := 120) d_5007_113 rfl (fun c5 => ?_) (fun c5 => ?_)
    · have h := h.1 c5
      refine zu_iconst d_5007_120 zi_2 ?_
      refine zu_stk d_5007_121 rfl rfl ?_
      obtain ⟨k6, h⟩ := h
      obtain ⟨k7, h⟩ := h
      refine zp_5_33 (v := ((zs_I S 5002 p0) + (2 : Int32))) rfl d_5007_122 k6 k7 ?_
      generalize e9 : zs_sI S3 5002 p0 ((zs_I S 5002 p0) + (2 : Int32)) = S8
      have h := h S8 e9.symm
      have K10 : ∀ b, zs_K S8 b = zs_K S3 b := zs_Kt e9 (zs_KsI _ _ _ _) (fun _ => rfl)
      exact (u_X6_note_125 hB h).weak trivial
    · have h := h.2 c5
      refine zu_iconst d_5007_116 zi_1 ?_
      refine zu_goto (t := 121) d_5007_117 rfl ?_
      refine zu_stk d_5007_121 rfl rfl ?_
      obtain ⟨k11, h⟩ := h
      obtain ⟨k12, h⟩ := h
      refine zp_5_33 (v := ((zs_I S 5002 p0) + (1 : Int32))) rfl d_5007_122 k11 k12 ?_
      generalize e14 : zs_sI S3 5002 p0 ((zs_I S 5002 p0) + (1 : Int32)) = S13
      have h := h S13 e14.symm
      have K15 : ∀ b, zs_K S13 b = zs_K S3 b := zs_Kt e14 (zs_KsI _ _ _ _) (fun _ => rfl)
      exact (u_X6_note_125 hB h).weak trivial
  · have h := h.2 c2
    refine zn_5_78 rfl d_5007_88 ?_
    generalize e19 : zs_nw S (.inl 9) 8 = S17
    generalize e18 : zs_N S = a16
    have h := h a16 S17 e18.symm e19.symm
    have k20 := zs_kn e18 e19
    refine zu_dup d_5007_91 rfl ?_
    refine zu_iconst d_5007_92 zi_1 ?_
    refine zu_iload_n d_5007_93 rfl ?_
    refine zc_5_80 (x0 := (1 : Int32)) (x1 := p2) hB rfl d_5007_94 (Nat.le_of_ble_eq_true rfl) h (fun S21 h => ?_)
    exact zu_throw d_5007_97 h
def w_X6_note_64 (X : zs_X) (d : Nat) (p0 : Nat) (p2 : Int32) (S : zs_T) (Q : zs_Q) : Prop :=
  (zs_K S p0 = some (.inl 5) ∧ ab_n0 X.1 ≤ p0 ∧ ∀ S3, S3 = zs_sI S 5002 p0 ((zs_I S 5002 p0) + (1 : Int32)) → zs_U X d 5007 12 [(0, .ref p0), (2, .int p2)] [] S3 Q)
theorem u_X6_note_64 {σ : Nat → Nat} {n0 : Nat} {bf : ab_B} {d : Nat} {p0 : Nat} {p2 : Int32} {S : zs_T} {Q : zs_Q} (hB : zt_B bf) (h : w_X6_note_64 (zx σ n0 bf) d p0 p2 S Q) : zs_U (zx σ n0 bf) d 5007 64 [(0, .ref p0), (2, .int p2)] [] S Q := by
  unfold w_X6_note_64 at h
  refine zu_aload_n d_5007_64 rfl (zs_ra _) ?_
  refine zu_dup d_5007_65 rfl ?_
  obtain ⟨k1, h⟩ := h
  refine zg_5_33 rfl d_5007_66 k1 ?_
  refine zu_iconst d_5007_69 zi_1 ?_
  refine zu_stk d_5007_70 rfl rfl ?_
  obtain ⟨k2, h⟩ := h
  refine zp_5_33 (v := ((zs_I S 5002 p0) + (1 : Int32))) rfl d_5007_71 k1 k2 ?_
  generalize e4 : zs_sI S 5002 p0 ((zs_I S 5002 p0) + (1 : Int32)) = S3
  have h := h S3 e4.symm
  have K5 : ∀ b, zs_K S3 b = zs_K S b := zs_Kt e4 (zs_KsI _ _ _ _) (fun _ => rfl)
  refine zu_goto (t := 12) d_5007_74 rfl ?_
  exact h.weak ⟨rfl, rfl, trivial⟩
def w_X6_note_49 (X : zs_X) (d : Nat) (p0 : Nat) (p2 : Int32) (S : zs_T) (Q : zs_Q) : Prop :=
  (zs_K S p0 = some (.inl 5) ∧ zs_C X d 5006 [.ref p0, .int ((zs_I S 5002 p0) + (1 : Int32))] S (zs_kI (fun v3 S2 => (((v3 = (41 : Int32) → w_X6_note_77 X d p0 p2 S2 Q) ∧ (¬ (v3 = (41 : Int32)) → w_X6_note_64 X d p0 p2 S2 Q)))) Q))
theorem u_X6_note_49 {σ : Nat → Nat} {n0 : Nat} {bf : ab_B} {d : Nat} {p0 : Nat} {p2 : Int32} {S : zs_T} {Q : zs_Q} (hB : zt_B bf) (h : w_X6_note_49 (zx σ n0 bf) d p0 p2 S Q) : zs_U (zx σ n0 bf) d 5007 49 [(0, .ref p0), (2, .int p2)] [] S Q := by
  unfold w_X6_note_49 at h
  refine zu_aload_n d_5007_49 rfl (zs_ra _) ?_
  refine zu_aload_n d_5007_50 rfl (zs_ra _) ?_
  obtain ⟨k1, h⟩ := h
  refine zg_5_33 rfl d_5007_51 k1 ?_
  refine zu_iconst d_5007_54 zi_1 ?_
  refine zu_stk d_5007_55 rfl rfl ?_
  refine zc_5_71 (x0 := ((zs_I S 5002 p0) + (1 : Int32))) hB rfl k1 d_5007_56 (Nat.le_of_ble_eq_true rfl) h (fun v3 S2 h => ?_)
  refine zu_bipush d_5007_59 zj_41 ?_
  refine zu_cmpeq (t := 77) d_5007_61 rfl (fun c4 => ?_) (fun c4 => ?_)
  · have h := h.1 c4
    exact (u_X6_note_77 hB h).weak ⟨rfl, rfl, trivial⟩
  · have h := h.2 c4
    exact (u_X6_note_64 hB h).weak ⟨rfl, rfl, trivial⟩
def w_X6_note_12 (X : zs_X) (d : Nat) (p0 : Nat) (p2 : Int32) (S : zs_T) (Q : zs_Q) : Prop :=
  (zs_K S p0 = some (.inl 5) ∧ (((zs_I S 5001 p0) ≤ (zs_I S 5002 p0) → w_X6_note_77 X d p0 p2 S Q) ∧ (¬ ((zs_I S 5001 p0) ≤ (zs_I S 5002 p0)) → (zs_C X d 5006 [.ref p0, .int (zs_I S 5002 p0)] S (zs_kI (fun v4 S3 => (((v4 = (125 : Int32) → w_X6_note_77 X d p0 p2 S3 Q) ∧ (¬ (v4 = (125 : Int32)) → (zs_K S3 p0 = some (.inl 5) ∧ zs_C X d 5006 [.ref p0, .int (zs_I S3 5002 p0)] S3 (zs_kI (fun v8 S7 => (((¬ v8 = (42 : Int32) → w_X6_note_64 X d p0 p2 S7 Q) ∧ (¬ (¬ v8 = (42 : Int32)) → w_X6_note_49 X d p0 p2 S7 Q)))) Q)))))) Q)))))
theorem u_X6_note_12 {σ : Nat → Nat} {n0 : Nat} {bf : ab_B} {d : Nat} {p0 : Nat} {p2 : Int32} {S : zs_T} {Q : zs_Q} (hB : zt_B bf) (h : w_X6_note_12 (zx σ n0 bf) d p0 p2 S Q) : zs_U (zx σ n0 bf) d 5007 12 [(0, .ref p0), (2, .int p2)] [] S Q := by
  unfold w_X6_note_12 at h
  refine zu_aload_n d_5007_12 rfl (zs_ra _) ?_
  obtain ⟨k1, h⟩ := h
  refine zg_5_33 rfl d_5007_13 k1 ?_
  refine zu_aload_n d_5007_16 rfl (zs_ra _) ?_
  refine zg_5_29 rfl d_5007_17 k1 ?_
  refine zu_cmpge (t := 77) d_5007_20 rfl (fun c2 => ?_) (fun c2 => ?_)
  · have h := h.1 c2
    exact (u_X6_note_77 hB h).weak ⟨rfl, rfl, trivial⟩
  · have h := h.2 c2
    refine zu_aload_n d_5007_23 rfl (zs_ra _) ?_
    refine zu_aload_n d_5007_24 rfl (zs_ra _) ?_
    refine zg_5_33 rfl d_5007_25 k1 ?_
    refine zc_5_71 (x0 := (zs_I S 5002 p0)) hB rfl k1 d_5007_28 (Nat.le_of_ble_eq_true rfl) h (fun v4 S3 h => ?_)
    refine zu_bipush d_5007_31 zj_125 ?_
    refine zu_cmpeq (t := 77) d_5007_33 rfl (fun c5 => ?_) (fun c5 => ?_)
    · have h := h.1 c5
      exact (u_X6_note_77 hB h).weak ⟨rfl, rfl, trivial⟩
    · have h := h.2 c5
      refine zu_aload_n d_5007_36 rfl (zs_ra _) ?_
      refine zu_aload_n d_5007_37 rfl (zs_ra _) ?_
      obtain ⟨k6, h⟩ := h
      refine zg_5_33 rfl d_5007_38 k6 ?_
      refine zc_5_71 (x0 := (zs_I S3 5002 p0)) hB rfl k6 d_5007_41 (Nat.le_of_ble_eq_true rfl) h (fun v8 S7 h => ?_)
      refine zu_bipush d_5007_44 zj_42 ?_
      refine zu_cmpne (t := 64) d_5007_46 rfl (fun c9 => ?_) (fun c9 => ?_)
      · have h := h.1 c9
        exact (u_X6_note_64 hB h).weak ⟨rfl, rfl, trivial⟩
      · have h := h.2 c9
        exact (u_X6_note_49 hB h).weak ⟨rfl, rfl, trivial⟩
def w_X6_note (X : zs_X) (d : Nat) (p0 : Nat) (p1 : Int32) (S : zs_T) (Q : zs_Q) : Prop :=
  (zs_K S p0 = some (.inl 5) ∧ ab_n0 X.1 ≤ p0 ∧ ∀ S3, S3 = zs_sI S 5002 p0 p1 → zs_U X d 5007 12 [(0, .ref p0), (2, .int ((zs_I S 5002 p0) - (1 : Int32)))] [] S3 Q)
theorem u_X6_note {σ : Nat → Nat} {n0 : Nat} {bf : ab_B} {d : Nat} {p0 : Nat} {p1 : Int32} {S : zs_T} {Q : zs_Q} (hB : zt_B bf) (hd : 1 ≤ d) (h : w_X6_note (zx σ n0 bf) (d - 1) p0 p1 S Q) : zs_C (zx σ n0 bf) d 5007 [.ref p0, .int p1] S Q := by
  have hL : lv_args 0 [.ref p0, .int p1] = [(0, .ref p0), (1, .int p1)] := rfl
  refine zs_C.of1 (hB.2 5007 (by decide) (by decide)) hd (by rw [hL]; exact zs_sub_self _ (by exact ⟨rfl, rfl, trivial⟩)) ?_
  rw [hL]
  clear hL
  unfold w_X6_note at h
  refine zu_aload_n d_5007_0 rfl (zs_ra _) ?_
  obtain ⟨k1, h⟩ := h
  refine zg_5_33 rfl d_5007_1 k1 ?_
  refine zu_iconst d_5007_4 zi_1 ?_
  refine zu_stk d_5007_5 rfl rfl ?_
  refine zu_istore_n d_5007_6 (zs_lt zq_5007 rfl) ?_
  refine zu_aload_n d_5007_7 rfl (zs_ra _) ?_
  refine zu_iload_n d_5007_8 rfl ?_
  obtain ⟨k2, h⟩ := h
  refine zp_5_33 (v := p1) rfl d_5007_9 k1 k2 ?_
  generalize e4 : zs_sI S 5002 p0 p1 = S3
  have h := h S3 e4.symm
  have K5 : ∀ b, zs_K S3 b = zs_K S b := zs_Kt e4 (zs_KsI _ _ _ _) (fun _ => rfl)
  exact h.weak ⟨rfl, rfl, trivial⟩
/-! SchemaPascal$Words.isLetter(I)Z -/
theorem zm_5008 {σ : Nat → Nat} {n0 : Nat} {bf : ab_B} : ab_code (zx σ n0 bf).1 5008 = prog_15_method_6_code := rfl
theorem zq_5008 {σ : Nat → Nat} {n0 : Nat} {bf : ab_B} : ab_maxL (zx σ n0 bf).1 5008 = 1 := rfl
theorem zr_5008 {σ : Nat → Nat} {n0 : Nat} {bf : ab_B} : ab_ret (zx σ n0 bf).1 5008 = (Option.some Jvm.ClassFile.FieldType.boolean) := rfl
theorem d_5008_0 {σ : Nat → Nat} {n0 : Nat} {bf : ab_B} : decode (ab_code (zx σ n0 bf).1 5008) 0 = .ok (.iload_n 0, 1) := zd zm_5008 (by decide +kernel)
theorem d_5008_1 {σ : Nat → Nat} {n0 : Nat} {bf : ab_B} : decode (ab_code (zx σ n0 bf).1 5008) 1 = .ok (.bipush 97, 2) := zd zm_5008 (by decide +kernel)
theorem d_5008_3 {σ : Nat → Nat} {n0 : Nat} {bf : ab_B} : decode (ab_code (zx σ n0 bf).1 5008) 3 = .ok (.if_icmp .lt 9, 3) := zd zm_5008 (by decide +kernel)
theorem d_5008_6 {σ : Nat → Nat} {n0 : Nat} {bf : ab_B} : decode (ab_code (zx σ n0 bf).1 5008) 6 = .ok (.iload_n 0, 1) := zd zm_5008 (by decide +kernel)
theorem d_5008_7 {σ : Nat → Nat} {n0 : Nat} {bf : ab_B} : decode (ab_code (zx σ n0 bf).1 5008) 7 = .ok (.bipush 122, 2) := zd zm_5008 (by decide +kernel)
theorem d_5008_9 {σ : Nat → Nat} {n0 : Nat} {bf : ab_B} : decode (ab_code (zx σ n0 bf).1 5008) 9 = .ok (.if_icmp .le 15, 3) := zd zm_5008 (by decide +kernel)
theorem d_5008_12 {σ : Nat → Nat} {n0 : Nat} {bf : ab_B} : decode (ab_code (zx σ n0 bf).1 5008) 12 = .ok (.iload_n 0, 1) := zd zm_5008 (by decide +kernel)
theorem d_5008_13 {σ : Nat → Nat} {n0 : Nat} {bf : ab_B} : decode (ab_code (zx σ n0 bf).1 5008) 13 = .ok (.bipush 65, 2) := zd zm_5008 (by decide +kernel)
theorem d_5008_15 {σ : Nat → Nat} {n0 : Nat} {bf : ab_B} : decode (ab_code (zx σ n0 bf).1 5008) 15 = .ok (.if_icmp .lt 13, 3) := zd zm_5008 (by decide +kernel)
theorem d_5008_18 {σ : Nat → Nat} {n0 : Nat} {bf : ab_B} : decode (ab_code (zx σ n0 bf).1 5008) 18 = .ok (.iload_n 0, 1) := zd zm_5008 (by decide +kernel)
theorem d_5008_19 {σ : Nat → Nat} {n0 : Nat} {bf : ab_B} : decode (ab_code (zx σ n0 bf).1 5008) 19 = .ok (.bipush 90, 2) := zd zm_5008 (by decide +kernel)
theorem d_5008_21 {σ : Nat → Nat} {n0 : Nat} {bf : ab_B} : decode (ab_code (zx σ n0 bf).1 5008) 21 = .ok (.if_icmp .gt 7, 3) := zd zm_5008 (by decide +kernel)
theorem d_5008_24 {σ : Nat → Nat} {n0 : Nat} {bf : ab_B} : decode (ab_code (zx σ n0 bf).1 5008) 24 = .ok (.iconst 1, 1) := zd zm_5008 (by decide +kernel)
theorem d_5008_25 {σ : Nat → Nat} {n0 : Nat} {bf : ab_B} : decode (ab_code (zx σ n0 bf).1 5008) 25 = .ok (.goto 4, 3) := zd zm_5008 (by decide +kernel)
theorem d_5008_28 {σ : Nat → Nat} {n0 : Nat} {bf : ab_B} : decode (ab_code (zx σ n0 bf).1 5008) 28 = .ok (.iconst 0, 1) := zd zm_5008 (by decide +kernel)
theorem d_5008_29 {σ : Nat → Nat} {n0 : Nat} {bf : ab_B} : decode (ab_code (zx σ n0 bf).1 5008) 29 = .ok (.ireturn, 1) := zd zm_5008 (by decide +kernel)
def w_X6_isLetter_12 (X : zs_X) (d : Nat) (p0 : Int32) (S : zs_T) (Q : zs_Q) : Prop :=
  (((p0 < (65 : Int32) → (Q (.returned (some (.int (0 : Int32)))) S)) ∧ (¬ (p0 < (65 : Int32)) → ((((90 : Int32) < p0 → (Q (.returned (some (.int (0 : Int32)))) S)) ∧ (¬ ((90 : Int32) < p0) → (Q (.returned (some (.int (1 : Int32)))) S)))))))
theorem u_X6_isLetter_12 {σ : Nat → Nat} {n0 : Nat} {bf : ab_B} {d : Nat} {p0 : Int32} {S : zs_T} {Q : zs_Q} (hB : zt_B bf) (h : w_X6_isLetter_12 (zx σ n0 bf) d p0 S Q) : zs_U (zx σ n0 bf) d 5008 12 [(0, .int p0)] [] S Q := by
  unfold w_X6_isLetter_12 at h
  refine zu_iload_n d_5008_12 rfl ?_
  refine zu_bipush d_5008_13 zj_65 ?_
  refine zu_cmplt (t := 28) d_5008_15 rfl (fun c1 => ?_) (fun c1 => ?_)
  · have h := h.1 c1
    refine zu_iconst d_5008_28 zi_0 ?_
    exact zu_iret d_5008_29 zr_5008 (zs_b_n (Or.inl rfl)) h
  · have h := h.2 c1
    refine zu_iload_n d_5008_18 rfl ?_
    refine zu_bipush d_5008_19 zj_90 ?_
    refine zu_cmpgt (t := 28) d_5008_21 rfl (fun c2 => ?_) (fun c2 => ?_)
    · have h := h.1 c2
      refine zu_iconst d_5008_28 zi_0 ?_
      exact zu_iret d_5008_29 zr_5008 (zs_b_n (Or.inl rfl)) h
    · have h := h.2 c2
      refine zu_iconst d_5008_24 zi_1 ?_
      refine zu_goto (t := 29) d_5008_25 rfl ?_
      exact zu_iret d_5008_29 zr_5008 (zs_b_n (Or.inr rfl)) h
def w_X6_isLetter (X : zs_X) (d : Nat) (p0 : Int32) (S : zs_T) (Q : zs_Q) : Prop :=
  (((p0 < (97 : Int32) → w_X6_isLetter_12 X d p0 S Q) ∧ (¬ (p0 < (97 : Int32)) → (((p0 ≤ (122 : Int32) → (Q (.returned (some (.int (1 : Int32)))) S)) ∧ (¬ (p0 ≤ (122 : Int32)) → w_X6_isLetter_12 X d p0 S Q))))))
theorem u_X6_isLetter {σ : Nat → Nat} {n0 : Nat} {bf : ab_B} {d : Nat} {p0 : Int32} {S : zs_T} {Q : zs_Q} (hB : zt_B bf) (hd : 1 ≤ d) (h : w_X6_isLetter (zx σ n0 bf) (d - 1) p0 S Q) : zs_C (zx σ n0 bf) d 5008 [.int p0] S Q := by
  have hL : lv_args 0 [.int p0] = [(0, .int p0)] := rfl
  refine zs_C.of1 (hB.2 5008 (by decide) (by decide)) hd (by rw [hL]; exact zs_sub_self _ (by exact ⟨rfl, trivial⟩)) ?_
  rw [hL]
  clear hL
  unfold w_X6_isLetter at h
  refine zu_iload_n d_5008_0 rfl ?_
  refine zu_bipush d_5008_1 zj_97 ?_
  refine zu_cmplt (t := 12) d_5008_3 rfl (fun c1 => ?_) (fun c1 => ?_)
  · have h := h.1 c1
    exact (u_X6_isLetter_12 hB h).weak ⟨rfl, trivial⟩
  · have h := h.2 c1
    refine zu_iload_n d_5008_6 rfl ?_
    refine zu_bipush d_5008_7 zj_122 ?_
    refine zu_cmple (t := 24) d_5008_9 rfl (fun c2 => ?_) (fun c2 => ?_)
    · have h := h.1 c2
      refine zu_iconst d_5008_24 zi_1 ?_
      refine zu_goto (t := 29) d_5008_25 rfl ?_
      exact zu_iret d_5008_29 zr_5008 (zs_b_n (Or.inr rfl)) h
    · have h := h.2 c2
      exact (u_X6_isLetter_12 hB h).weak ⟨rfl, trivial⟩
/-! SchemaPascal$Words.name()V -/
theorem zm_5009 {σ : Nat → Nat} {n0 : Nat} {bf : ab_B} : ab_code (zx σ n0 bf).1 5009 = prog_15_method_12_code := rfl
theorem zq_5009 {σ : Nat → Nat} {n0 : Nat} {bf : ab_B} : ab_maxL (zx σ n0 bf).1 5009 = 3 := rfl
theorem zr_5009 {σ : Nat → Nat} {n0 : Nat} {bf : ab_B} : ab_ret (zx σ n0 bf).1 5009 = (Option.none : Option Jvm.ClassFile.FieldType) := rfl
theorem d_5009_0 {σ : Nat → Nat} {n0 : Nat} {bf : ab_B} : decode (ab_code (zx σ n0 bf).1 5009) 0 = .ok (.iconst 0, 1) := zd zm_5009 (by decide +kernel)
theorem d_5009_1 {σ : Nat → Nat} {n0 : Nat} {bf : ab_B} : decode (ab_code (zx σ n0 bf).1 5009) 1 = .ok (.istore_n 1, 1) := zd zm_5009 (by decide +kernel)
theorem d_5009_2 {σ : Nat → Nat} {n0 : Nat} {bf : ab_B} : decode (ab_code (zx σ n0 bf).1 5009) 2 = .ok (.aload_n 0, 1) := zd zm_5009 (by decide +kernel)
theorem d_5009_3 {σ : Nat → Nat} {n0 : Nat} {bf : ab_B} : decode (ab_code (zx σ n0 bf).1 5009) 3 = .ok (.aload_n 0, 1) := zd zm_5009 (by decide +kernel)
theorem d_5009_4 {σ : Nat → Nat} {n0 : Nat} {bf : ab_B} : decode (ab_code (zx σ n0 bf).1 5009) 4 = .ok (.getfield 33, 3) := zd zm_5009 (by decide +kernel)
theorem d_5009_7 {σ : Nat → Nat} {n0 : Nat} {bf : ab_B} : decode (ab_code (zx σ n0 bf).1 5009) 7 = .ok (.invokevirtual 71, 3) := zd zm_5009 (by decide +kernel)
theorem d_5009_10 {σ : Nat → Nat} {n0 : Nat} {bf : ab_B} : decode (ab_code (zx σ n0 bf).1 5009) 10 = .ok (.invokestatic 68, 3) := zd zm_5009 (by decide +kernel)
theorem d_5009_13 {σ : Nat → Nat} {n0 : Nat} {bf : ab_B} : decode (ab_code (zx σ n0 bf).1 5009) 13 = .ok (.ifCond .ne 30, 3) := zd zm_5009 (by decide +kernel)
theorem d_5009_16 {σ : Nat → Nat} {n0 : Nat} {bf : ab_B} : decode (ab_code (zx σ n0 bf).1 5009) 16 = .ok (.aload_n 0, 1) := zd zm_5009 (by decide +kernel)
theorem d_5009_17 {σ : Nat → Nat} {n0 : Nat} {bf : ab_B} : decode (ab_code (zx σ n0 bf).1 5009) 17 = .ok (.aload_n 0, 1) := zd zm_5009 (by decide +kernel)
theorem d_5009_18 {σ : Nat → Nat} {n0 : Nat} {bf : ab_B} : decode (ab_code (zx σ n0 bf).1 5009) 18 = .ok (.getfield 33, 3) := zd zm_5009 (by decide +kernel)
theorem d_5009_21 {σ : Nat → Nat} {n0 : Nat} {bf : ab_B} : decode (ab_code (zx σ n0 bf).1 5009) 21 = .ok (.invokevirtual 71, 3) := zd zm_5009 (by decide +kernel)
theorem d_5009_24 {σ : Nat → Nat} {n0 : Nat} {bf : ab_B} : decode (ab_code (zx σ n0 bf).1 5009) 24 = .ok (.invokestatic 64, 3) := zd zm_5009 (by decide +kernel)
theorem d_5009_27 {σ : Nat → Nat} {n0 : Nat} {bf : ab_B} : decode (ab_code (zx σ n0 bf).1 5009) 27 = .ok (.ifCond .ne 16, 3) := zd zm_5009 (by decide +kernel)
theorem d_5009_30 {σ : Nat → Nat} {n0 : Nat} {bf : ab_B} : decode (ab_code (zx σ n0 bf).1 5009) 30 = .ok (.aload_n 0, 1) := zd zm_5009 (by decide +kernel)
theorem d_5009_31 {σ : Nat → Nat} {n0 : Nat} {bf : ab_B} : decode (ab_code (zx σ n0 bf).1 5009) 31 = .ok (.aload_n 0, 1) := zd zm_5009 (by decide +kernel)
theorem d_5009_32 {σ : Nat → Nat} {n0 : Nat} {bf : ab_B} : decode (ab_code (zx σ n0 bf).1 5009) 32 = .ok (.getfield 33, 3) := zd zm_5009 (by decide +kernel)
theorem d_5009_35 {σ : Nat → Nat} {n0 : Nat} {bf : ab_B} : decode (ab_code (zx σ n0 bf).1 5009) 35 = .ok (.invokevirtual 71, 3) := zd zm_5009 (by decide +kernel)
theorem d_5009_38 {σ : Nat → Nat} {n0 : Nat} {bf : ab_B} : decode (ab_code (zx σ n0 bf).1 5009) 38 = .ok (.bipush 95, 2) := zd zm_5009 (by decide +kernel)
theorem d_5009_40 {σ : Nat → Nat} {n0 : Nat} {bf : ab_B} : decode (ab_code (zx σ n0 bf).1 5009) 40 = .ok (.if_icmp .ne 63, 3) := zd zm_5009 (by decide +kernel)
theorem d_5009_43 {σ : Nat → Nat} {n0 : Nat} {bf : ab_B} : decode (ab_code (zx σ n0 bf).1 5009) 43 = .ok (.aload_n 0, 1) := zd zm_5009 (by decide +kernel)
theorem d_5009_44 {σ : Nat → Nat} {n0 : Nat} {bf : ab_B} : decode (ab_code (zx σ n0 bf).1 5009) 44 = .ok (.aload_n 0, 1) := zd zm_5009 (by decide +kernel)
theorem d_5009_45 {σ : Nat → Nat} {n0 : Nat} {bf : ab_B} : decode (ab_code (zx σ n0 bf).1 5009) 45 = .ok (.dup, 1) := zd zm_5009 (by decide +kernel)
theorem d_5009_46 {σ : Nat → Nat} {n0 : Nat} {bf : ab_B} : decode (ab_code (zx σ n0 bf).1 5009) 46 = .ok (.getfield 33, 3) := zd zm_5009 (by decide +kernel)
theorem d_5009_49 {σ : Nat → Nat} {n0 : Nat} {bf : ab_B} : decode (ab_code (zx σ n0 bf).1 5009) 49 = .ok (.dup_x1, 1) := zd zm_5009 (by decide +kernel)
theorem d_5009_50 {σ : Nat → Nat} {n0 : Nat} {bf : ab_B} : decode (ab_code (zx σ n0 bf).1 5009) 50 = .ok (.iconst 1, 1) := zd zm_5009 (by decide +kernel)
theorem d_5009_51 {σ : Nat → Nat} {n0 : Nat} {bf : ab_B} : decode (ab_code (zx σ n0 bf).1 5009) 51 = .ok (.iadd, 1) := zd zm_5009 (by decide +kernel)
theorem d_5009_52 {σ : Nat → Nat} {n0 : Nat} {bf : ab_B} : decode (ab_code (zx σ n0 bf).1 5009) 52 = .ok (.putfield 33, 3) := zd zm_5009 (by decide +kernel)
theorem d_5009_55 {σ : Nat → Nat} {n0 : Nat} {bf : ab_B} : decode (ab_code (zx σ n0 bf).1 5009) 55 = .ok (.invokevirtual 71, 3) := zd zm_5009 (by decide +kernel)
theorem d_5009_58 {σ : Nat → Nat} {n0 : Nat} {bf : ab_B} : decode (ab_code (zx σ n0 bf).1 5009) 58 = .ok (.istore_n 2, 1) := zd zm_5009 (by decide +kernel)
theorem d_5009_59 {σ : Nat → Nat} {n0 : Nat} {bf : ab_B} : decode (ab_code (zx σ n0 bf).1 5009) 59 = .ok (.iload_n 1, 1) := zd zm_5009 (by decide +kernel)
theorem d_5009_60 {σ : Nat → Nat} {n0 : Nat} {bf : ab_B} : decode (ab_code (zx σ n0 bf).1 5009) 60 = .ok (.bipush 20, 2) := zd zm_5009 (by decide +kernel)
theorem d_5009_62 {σ : Nat → Nat} {n0 : Nat} {bf : ab_B} : decode (ab_code (zx σ n0 bf).1 5009) 62 = .ok (.if_icmp .ge 35, 3) := zd zm_5009 (by decide +kernel)
theorem d_5009_65 {σ : Nat → Nat} {n0 : Nat} {bf : ab_B} : decode (ab_code (zx σ n0 bf).1 5009) 65 = .ok (.aload_n 0, 1) := zd zm_5009 (by decide +kernel)
theorem d_5009_66 {σ : Nat → Nat} {n0 : Nat} {bf : ab_B} : decode (ab_code (zx σ n0 bf).1 5009) 66 = .ok (.getfield 10, 3) := zd zm_5009 (by decide +kernel)
theorem d_5009_69 {σ : Nat → Nat} {n0 : Nat} {bf : ab_B} : decode (ab_code (zx σ n0 bf).1 5009) 69 = .ok (.aload_n 0, 1) := zd zm_5009 (by decide +kernel)
theorem d_5009_70 {σ : Nat → Nat} {n0 : Nat} {bf : ab_B} : decode (ab_code (zx σ n0 bf).1 5009) 70 = .ok (.getfield 16, 3) := zd zm_5009 (by decide +kernel)
theorem d_5009_73 {σ : Nat → Nat} {n0 : Nat} {bf : ab_B} : decode (ab_code (zx σ n0 bf).1 5009) 73 = .ok (.aload_n 0, 1) := zd zm_5009 (by decide +kernel)
theorem d_5009_74 {σ : Nat → Nat} {n0 : Nat} {bf : ab_B} : decode (ab_code (zx σ n0 bf).1 5009) 74 = .ok (.getfield 36, 3) := zd zm_5009 (by decide +kernel)
theorem d_5009_77 {σ : Nat → Nat} {n0 : Nat} {bf : ab_B} : decode (ab_code (zx σ n0 bf).1 5009) 77 = .ok (.iaload, 1) := zd zm_5009 (by decide +kernel)
theorem d_5009_78 {σ : Nat → Nat} {n0 : Nat} {bf : ab_B} : decode (ab_code (zx σ n0 bf).1 5009) 78 = .ok (.iload_n 1, 1) := zd zm_5009 (by decide +kernel)
theorem d_5009_79 {σ : Nat → Nat} {n0 : Nat} {bf : ab_B} : decode (ab_code (zx σ n0 bf).1 5009) 79 = .ok (.iadd, 1) := zd zm_5009 (by decide +kernel)
theorem d_5009_80 {σ : Nat → Nat} {n0 : Nat} {bf : ab_B} : decode (ab_code (zx σ n0 bf).1 5009) 80 = .ok (.iload_n 2, 1) := zd zm_5009 (by decide +kernel)
theorem d_5009_81 {σ : Nat → Nat} {n0 : Nat} {bf : ab_B} : decode (ab_code (zx σ n0 bf).1 5009) 81 = .ok (.invokestatic 68, 3) := zd zm_5009 (by decide +kernel)
theorem d_5009_84 {σ : Nat → Nat} {n0 : Nat} {bf : ab_B} : decode (ab_code (zx σ n0 bf).1 5009) 84 = .ok (.ifCond .eq 10, 3) := zd zm_5009 (by decide +kernel)
theorem d_5009_87 {σ : Nat → Nat} {n0 : Nat} {bf : ab_B} : decode (ab_code (zx σ n0 bf).1 5009) 87 = .ok (.iload_n 2, 1) := zd zm_5009 (by decide +kernel)
theorem d_5009_88 {σ : Nat → Nat} {n0 : Nat} {bf : ab_B} : decode (ab_code (zx σ n0 bf).1 5009) 88 = .ok (.bipush 32, 2) := zd zm_5009 (by decide +kernel)
theorem d_5009_90 {σ : Nat → Nat} {n0 : Nat} {bf : ab_B} : decode (ab_code (zx σ n0 bf).1 5009) 90 = .ok (.ior, 1) := zd zm_5009 (by decide +kernel)
theorem d_5009_91 {σ : Nat → Nat} {n0 : Nat} {bf : ab_B} : decode (ab_code (zx σ n0 bf).1 5009) 91 = .ok (.goto 4, 3) := zd zm_5009 (by decide +kernel)
theorem d_5009_94 {σ : Nat → Nat} {n0 : Nat} {bf : ab_B} : decode (ab_code (zx σ n0 bf).1 5009) 94 = .ok (.iload_n 2, 1) := zd zm_5009 (by decide +kernel)
theorem d_5009_95 {σ : Nat → Nat} {n0 : Nat} {bf : ab_B} : decode (ab_code (zx σ n0 bf).1 5009) 95 = .ok (.i2b, 1) := zd zm_5009 (by decide +kernel)
theorem d_5009_96 {σ : Nat → Nat} {n0 : Nat} {bf : ab_B} : decode (ab_code (zx σ n0 bf).1 5009) 96 = .ok (.bastore, 1) := zd zm_5009 (by decide +kernel)
theorem d_5009_97 {σ : Nat → Nat} {n0 : Nat} {bf : ab_B} : decode (ab_code (zx σ n0 bf).1 5009) 97 = .ok (.iinc 1 1, 3) := zd zm_5009 (by decide +kernel)
theorem d_5009_100 {σ : Nat → Nat} {n0 : Nat} {bf : ab_B} : decode (ab_code (zx σ n0 bf).1 5009) 100 = .ok (.goto (-98), 3) := zd zm_5009 (by decide +kernel)
theorem d_5009_103 {σ : Nat → Nat} {n0 : Nat} {bf : ab_B} : decode (ab_code (zx σ n0 bf).1 5009) 103 = .ok (.iload_n 1, 1) := zd zm_5009 (by decide +kernel)
theorem d_5009_104 {σ : Nat → Nat} {n0 : Nat} {bf : ab_B} : decode (ab_code (zx σ n0 bf).1 5009) 104 = .ok (.bipush 20, 2) := zd zm_5009 (by decide +kernel)
theorem d_5009_106 {σ : Nat → Nat} {n0 : Nat} {bf : ab_B} : decode (ab_code (zx σ n0 bf).1 5009) 106 = .ok (.if_icmp .le 16, 3) := zd zm_5009 (by decide +kernel)
theorem d_5009_109 {σ : Nat → Nat} {n0 : Nat} {bf : ab_B} : decode (ab_code (zx σ n0 bf).1 5009) 109 = .ok (.new 78, 3) := zd zm_5009 (by decide +kernel)
theorem d_5009_112 {σ : Nat → Nat} {n0 : Nat} {bf : ab_B} : decode (ab_code (zx σ n0 bf).1 5009) 112 = .ok (.dup, 1) := zd zm_5009 (by decide +kernel)
theorem d_5009_113 {σ : Nat → Nat} {n0 : Nat} {bf : ab_B} : decode (ab_code (zx σ n0 bf).1 5009) 113 = .ok (.iconst 1, 1) := zd zm_5009 (by decide +kernel)
theorem d_5009_114 {σ : Nat → Nat} {n0 : Nat} {bf : ab_B} : decode (ab_code (zx σ n0 bf).1 5009) 114 = .ok (.aload_n 0, 1) := zd zm_5009 (by decide +kernel)
theorem d_5009_115 {σ : Nat → Nat} {n0 : Nat} {bf : ab_B} : decode (ab_code (zx σ n0 bf).1 5009) 115 = .ok (.getfield 86, 3) := zd zm_5009 (by decide +kernel)
theorem d_5009_118 {σ : Nat → Nat} {n0 : Nat} {bf : ab_B} : decode (ab_code (zx σ n0 bf).1 5009) 118 = .ok (.invokespecial 80, 3) := zd zm_5009 (by decide +kernel)
theorem d_5009_121 {σ : Nat → Nat} {n0 : Nat} {bf : ab_B} : decode (ab_code (zx σ n0 bf).1 5009) 121 = .ok (.athrow, 1) := zd zm_5009 (by decide +kernel)
theorem d_5009_122 {σ : Nat → Nat} {n0 : Nat} {bf : ab_B} : decode (ab_code (zx σ n0 bf).1 5009) 122 = .ok (.aload_n 0, 1) := zd zm_5009 (by decide +kernel)
theorem d_5009_123 {σ : Nat → Nat} {n0 : Nat} {bf : ab_B} : decode (ab_code (zx σ n0 bf).1 5009) 123 = .ok (.iconst 0, 1) := zd zm_5009 (by decide +kernel)
theorem d_5009_124 {σ : Nat → Nat} {n0 : Nat} {bf : ab_B} : decode (ab_code (zx σ n0 bf).1 5009) 124 = .ok (.putfield 89, 3) := zd zm_5009 (by decide +kernel)
theorem d_5009_127 {σ : Nat → Nat} {n0 : Nat} {bf : ab_B} : decode (ab_code (zx σ n0 bf).1 5009) 127 = .ok (.aload_n 0, 1) := zd zm_5009 (by decide +kernel)
theorem d_5009_128 {σ : Nat → Nat} {n0 : Nat} {bf : ab_B} : decode (ab_code (zx σ n0 bf).1 5009) 128 = .ok (.aload_n 0, 1) := zd zm_5009 (by decide +kernel)
theorem d_5009_129 {σ : Nat → Nat} {n0 : Nat} {bf : ab_B} : decode (ab_code (zx σ n0 bf).1 5009) 129 = .ok (.iload_n 1, 1) := zd zm_5009 (by decide +kernel)
theorem d_5009_130 {σ : Nat → Nat} {n0 : Nat} {bf : ab_B} : decode (ab_code (zx σ n0 bf).1 5009) 130 = .ok (.invokevirtual 60, 3) := zd zm_5009 (by decide +kernel)
theorem d_5009_133 {σ : Nat → Nat} {n0 : Nat} {bf : ab_B} : decode (ab_code (zx σ n0 bf).1 5009) 133 = .ok (.putfield 107, 3) := zd zm_5009 (by decide +kernel)
theorem d_5009_136 {σ : Nat → Nat} {n0 : Nat} {bf : ab_B} : decode (ab_code (zx σ n0 bf).1 5009) 136 = .ok (.return_, 1) := zd zm_5009 (by decide +kernel)
def w_X6_name_95 (X : zs_X) (d : Nat) (p0 : Nat) (p1 : Int32) (q0 : Option Nat) (q1 : Int32) (q2 : Int32) (S : zs_T) (Q : zs_Q) : Prop :=
  (∃ b1, q0 = some b1 ∧ zs_A S b1 1 q1 ∧ ab_n0 X.1 ≤ b1 ∧ ∀ S5, S5 = zs_si S b1 q1.toNatClampNeg (vp_nar .byte ((q2).toInt8.toInt32)) → zs_U X d 5009 2 [(0, .ref p0), (1, .int (p1 + (1 : Int32)))] [] S5 Q)
theorem u_X6_name_95 {σ : Nat → Nat} {n0 : Nat} {bf : ab_B} {d : Nat} {p0 : Nat} {p1 : Int32} {q0 : Option Nat} {q1 : Int32} {q2 : Int32} {S : zs_T} {Q : zs_Q} (hB : zt_B bf) (h : w_X6_name_95 (zx σ n0 bf) d p0 p1 q0 q1 q2 S Q) : zs_U (zx σ n0 bf) d 5009 95 [(0, .ref p0), (1, .int p1)] [.int q2, .int q1, va_rf q0] S Q := by
  unfold w_X6_name_95 at h
  refine zu_stk d_5009_95 rfl rfl ?_
  obtain ⟨b1, e2, h⟩ := h
  refine zs_stk2 (zs_rfe e2) ?_
  obtain ⟨k3, h⟩ := h
  obtain ⟨k4, h⟩ := h
  refine zu_bast_byte (k := 1) d_5009_96 rfl rfl k4 k3 ?_
  generalize e6 : zs_si S b1 q1.toNatClampNeg (vp_nar .byte ((q2).toInt8.toInt32)) = S5
  have h := h S5 e6.symm
  have K7 : ∀ b, zs_K S5 b = zs_K S b := zs_Kt e6 (zs_Ksi _ _ _ _) (fun _ => rfl)
  refine zu_iinc d_5009_97 rfl zi_1 (zs_lt zq_5009 rfl) ?_
  refine zu_goto (t := 2) d_5009_100 rfl ?_
  exact h.weak ⟨rfl, rfl, trivial⟩
def w_X6_name_43 (X : zs_X) (d : Nat) (p0 : Nat) (p1 : Int32) (S : zs_T) (Q : zs_Q) : Prop :=
  (zs_K S p0 = some (.inl 5) ∧ ab_n0 X.1 ≤ p0 ∧ ∀ S3, S3 = zs_sI S 5002 p0 ((zs_I S 5002 p0) + (1 : Int32)) → zs_C X d 5006 [.ref p0, .int (zs_I S 5002 p0)] S3 (zs_kI (fun v7 S6 => ((((20 : Int32) ≤ p1 → (zs_U X d 5009 2 [(0, .ref p0), (1, .int (p1 + (1 : Int32)))] [] S6 Q)) ∧ (¬ ((20 : Int32) ≤ p1) → (zs_K S6 p0 = some (.inl 5) ∧ ∃ b10, (zs_R S6 5009 p0) = some b10 ∧ zs_A S6 b10 0 (zs_I S6 5012 p0) ∧ zs_C X d 5008 [.int v7] S6 (zs_kI (fun v14 S13 => (((v14 = 0 → (w_X6_name_95 X d p0 p1 (zs_R S6 5008 p0) ((zs_i S6 b10 (zs_I S6 5012 p0).toNatClampNeg) + p1) v7 S13 Q)) ∧ (¬ (v14 = 0) → (w_X6_name_95 X d p0 p1 (zs_R S6 5008 p0) ((zs_i S6 b10 (zs_I S6 5012 p0).toNatClampNeg) + p1) (v7 ||| (32 : Int32)) S13 Q))))) Q)))))) Q))
theorem u_X6_name_43 {σ : Nat → Nat} {n0 : Nat} {bf : ab_B} {d : Nat} {p0 : Nat} {p1 : Int32} {S : zs_T} {Q : zs_Q} (hB : zt_B bf) (h : w_X6_name_43 (zx σ n0 bf) d p0 p1 S Q) : zs_U (zx σ n0 bf) d 5009 43 [(0, .ref p0), (1, .int p1)] [] S Q := by
  unfold w_X6_name_43 at h
  refine zu_aload_n d_5009_43 rfl (zs_ra _) ?_
  refine zu_aload_n d_5009_44 rfl (zs_ra _) ?_
  refine zu_dup d_5009_45 rfl ?_
  obtain ⟨k1, h⟩ := h
  refine zg_5_33 rfl d_5009_46 k1 ?_
  refine zu_dup_x1 d_5009_49 rfl rfl ?_
  refine zu_iconst d_5009_50 zi_1 ?_
  refine zu_stk d_5009_51 rfl rfl ?_
  obtain ⟨k2, h⟩ := h
  refine zp_5_33 (v := ((zs_I S 5002 p0) + (1 : Int32))) rfl d_5009_52 k1 k2 ?_
  generalize e4 : zs_sI S 5002 p0 ((zs_I S 5002 p0) + (1 : Int32)) = S3
  have h := h S3 e4.symm
  have K5 : ∀ b, zs_K S3 b = zs_K S b := zs_Kt e4 (zs_KsI _ _ _ _) (fun _ => rfl)
  refine zc_5_71 (x0 := (zs_I S 5002 p0)) hB rfl ((K5 _).trans k1) d_5009_55 (Nat.le_of_ble_eq_true rfl) h (fun v7 S6 h => ?_)
  refine zu_istore_n d_5009_58 (zs_lt zq_5009 rfl) ?_
  refine zu_iload_n d_5009_59 rfl ?_
  refine zu_bipush d_5009_60 zj_20 ?_
  refine zu_cmpge (t := 97) d_5009_62 rfl (fun c8 => ?_) (fun c8 => ?_)
  · have h := h.1 c8
    refine zu_iinc d_5009_97 rfl zi_1 (zs_lt zq_5009 rfl) ?_
    refine zu_goto (t := 2) d_5009_100 rfl ?_
    exact h.weak ⟨rfl, rfl, trivial⟩
  · have h := h.2 c8
    refine zu_aload_n d_5009_65 rfl (zs_ra _) ?_
    obtain ⟨k9, h⟩ := h
    refine zg_5_10 rfl d_5009_66 k9 ?_
    refine zu_aload_n d_5009_69 rfl (zs_ra _) ?_
    refine zg_5_16 rfl d_5009_70 k9 ?_
    refine zu_aload_n d_5009_73 rfl (zs_ra _) ?_
    refine zg_5_36 rfl d_5009_74 k9 ?_
    obtain ⟨b10, e11, h⟩ := h
    refine zs_stk1 (zs_rfe e11) ?_
    obtain ⟨k12, h⟩ := h
    refine zu_iald (k := 0) d_5009_77 rfl rfl k12 ?_
    refine zu_iload_n d_5009_78 rfl ?_
    refine zu_stk d_5009_79 rfl rfl ?_
    refine zu_iload_n d_5009_80 rfl ?_
    refine zc_5_68 (x0 := v7) hB rfl d_5009_81 (by simp only [List.map_cons, List.map_nil, List.sum_cons, List.sum_nil, zs_cat, zs_cI, zs_cJ, zs_cA]; exact Nat.le_of_ble_eq_true rfl) h (fun v14 S13 h => ?_)
    refine zu_ifeq (t := 94) d_5009_84 rfl (fun c15 => ?_) (fun c15 => ?_)
    · have h := h.1 c15
      refine zu_iload_n d_5009_94 rfl ?_
      exact (u_X6_name_95 hB h).weak ⟨rfl, rfl, trivial⟩
    · have h := h.2 c15
      refine zu_iload_n d_5009_87 rfl ?_
      refine zu_bipush d_5009_88 zj_32 ?_
      refine zu_stk d_5009_90 rfl rfl ?_
      refine zu_goto (t := 95) d_5009_91 rfl ?_
      exact (u_X6_name_95 hB h).weak ⟨rfl, rfl, trivial⟩
def w_X6_name_103 (X : zs_X) (d : Nat) (p0 : Nat) (p1 : Int32) (S : zs_T) (Q : zs_Q) : Prop :=
  (((p1 ≤ (20 : Int32) → (zs_K S p0 = some (.inl 5) ∧ ab_n0 X.1 ≤ p0 ∧ ∀ S4, S4 = zs_sI S 5003 p0 (0 : Int32) → zs_C X d 5003 [.ref p0, .int p1] S4 (zs_kI (fun v8 S7 => (zs_K S7 p0 = some (.inl 5) ∧ ∀ S10, S10 = zs_sI S7 5004 p0 v8 → Q (.returned none) S10)) Q))) ∧ (¬ (p1 ≤ (20 : Int32)) → (∀ a13 S14, a13 = zs_N S → S14 = zs_nw S (.inl 9) 8 → zs_K S14 p0 = some (.inl 5) ∧ zs_C X d 9000 [.ref a13, .int (1 : Int32), .int (zs_I S14 5005 p0)] S14 (zs_kV (fun S19 => (Q (.threw a13) S19)) Q)))))
theorem u_X6_name_103 {σ : Nat → Nat} {n0 : Nat} {bf : ab_B} {d : Nat} {p0 : Nat} {p1 : Int32} {S : zs_T} {Q : zs_Q} (hB : zt_B bf) (h : w_X6_name_103 (zx σ n0 bf) d p0 p1 S Q) : zs_U (zx σ n0 bf) d 5009 103 [(0, .ref p0), (1, .int p1)] [] S Q := by
  unfold w_X6_name_103 at h
  refine zu_iload_n d_5009_103 rfl ?_
  refine zu_bipush d_5009_104 zj_20 ?_
  refine zu_cmple (t := 122) d_5009_106 rfl (fun c1 => ?_) (fun c1 => ?_)
  · have h := h.1 c1
    refine zu_aload_n d_5009_122 rfl (zs_ra _) ?_
    refine zu_iconst d_5009_123 zi_0 ?_
    obtain ⟨k2, h⟩ := h
    obtain ⟨k3, h⟩ := h
    refine zp_5_89 (v := (0 : Int32)) rfl d_5009_124 k2 k3 ?_
    generalize e5 : zs_sI S 5003 p0 (0 : Int32) = S4
    have h := h S4 e5.symm
    have K6 : ∀ b, zs_K S4 b = zs_K S b := zs_Kt e5 (zs_KsI _ _ _ _) (fun _ => rfl)
    refine zu_aload_n d_5009_127 rfl (zs_ra _) ?_
    refine zu_aload_n d_5009_128 rfl (zs_ra _) ?_
    refine zu_iload_n d_5009_129 rfl ?_
    refine zc_5_60 (x0 := p1) hB rfl ((K6 _).trans k2) d_5009_130 (Nat.le_of_ble_eq_true rfl) h (fun v8 S7 h => ?_)
    obtain ⟨k9, h⟩ := h
    refine zp_5_107 (v := v8) rfl d_5009_133 k9 k3 ?_
    generalize e11 : zs_sI S7 5004 p0 v8 = S10
    have h := h S10 e11.symm
    have K12 : ∀ b, zs_K S10 b = zs_K S7 b := zs_Kt e11 (zs_KsI _ _ _ _) (fun _ => rfl)
    exact zu_vret d_5009_136 zr_5009 h
  · have h := h.2 c1
    refine zn_5_78 rfl d_5009_109 ?_
    generalize e16 : zs_nw S (.inl 9) 8 = S14
    generalize e15 : zs_N S = a13
    have h := h a13 S14 e15.symm e16.symm
    have k17 := zs_kn e15 e16
    refine zu_dup d_5009_112 rfl ?_
    refine zu_iconst d_5009_113 zi_1 ?_
    refine zu_aload_n d_5009_114 rfl (zs_ra _) ?_
    obtain ⟨k18, h⟩ := h
    refine zg_5_86 rfl d_5009_115 k18 ?_
    refine zc_5_80 (x0 := (1 : Int32)) (x1 := (zs_I S14 5005 p0)) hB rfl d_5009_118 (Nat.le_of_ble_eq_true rfl) h (fun S19 h => ?_)
    exact zu_throw d_5009_121 h
def w_X6_name_2 (X : zs_X) (d : Nat) (p0 : Nat) (p1 : Int32) (S : zs_T) (Q : zs_Q) : Prop :=
  (zs_K S p0 = some (.inl 5) ∧ zs_C X d 5006 [.ref p0, .int (zs_I S 5002 p0)] S (zs_kI (fun v3 S2 => (zs_C X d 5008 [.int v3] S2 (zs_kI (fun v5 S4 => (((¬ v5 = 0 → w_X6_name_43 X d p0 p1 S4 Q) ∧ (¬ (¬ v5 = 0) → (zs_K S4 p0 = some (.inl 5) ∧ zs_C X d 5006 [.ref p0, .int (zs_I S4 5002 p0)] S4 (zs_kI (fun v9 S8 => (zs_C X d 5010 [.int v9] S8 (zs_kI (fun v11 S10 => (((¬ v11 = 0 → w_X6_name_43 X d p0 p1 S10 Q) ∧ (¬ (¬ v11 = 0) → (zs_K S10 p0 = some (.inl 5) ∧ zs_C X d 5006 [.ref p0, .int (zs_I S10 5002 p0)] S10 (zs_kI (fun v15 S14 => (((¬ v15 = (95 : Int32) → w_X6_name_103 X d p0 p1 S14 Q) ∧ (¬ (¬ v15 = (95 : Int32)) → w_X6_name_43 X d p0 p1 S14 Q)))) Q)))))) Q))) Q)))))) Q))) Q))
theorem u_X6_name_2 {σ : Nat → Nat} {n0 : Nat} {bf : ab_B} {d : Nat} {p0 : Nat} {p1 : Int32} {S : zs_T} {Q : zs_Q} (hB : zt_B bf) (h : w_X6_name_2 (zx σ n0 bf) d p0 p1 S Q) : zs_U (zx σ n0 bf) d 5009 2 [(0, .ref p0), (1, .int p1)] [] S Q := by
  unfold w_X6_name_2 at h
  refine zu_aload_n d_5009_2 rfl (zs_ra _) ?_
  refine zu_aload_n d_5009_3 rfl (zs_ra _) ?_
  obtain ⟨k1, h⟩ := h
  refine zg_5_33 rfl d_5009_4 k1 ?_
  refine zc_5_71 (x0 := (zs_I S 5002 p0)) hB rfl k1 d_5009_7 (Nat.le_of_ble_eq_true rfl) h (fun v3 S2 h => ?_)
  refine zc_5_68 (x0 := v3) hB rfl d_5009_10 (Nat.le_of_ble_eq_true rfl) h (fun v5 S4 h => ?_)
  refine zu_ifne (t := 43) d_5009_13 rfl (fun c6 => ?_) (fun c6 => ?_)
  · have h := h.1 c6
    exact (u_X6_name_43 hB h).weak ⟨rfl, rfl, trivial⟩
  · have h := h.2 c6
    refine zu_aload_n d_5009_16 rfl (zs_ra _) ?_
    refine zu_aload_n d_5009_17 rfl (zs_ra _) ?_
    obtain ⟨k7, h⟩ := h
    refine zg_5_33 rfl d_5009_18 k7 ?_
    refine zc_5_71 (x0 := (zs_I S4 5002 p0)) hB rfl k7 d_5009_21 (Nat.le_of_ble_eq_true rfl) h (fun v9 S8 h => ?_)
    refine zc_5_64 (x0 := v9) hB rfl d_5009_24 (Nat.le_of_ble_eq_true rfl) h (fun v11 S10 h => ?_)
    refine zu_ifne (t := 43) d_5009_27 rfl (fun c12 => ?_) (fun c12 => ?_)
    · have h := h.1 c12
      exact (u_X6_name_43 hB h).weak ⟨rfl, rfl, trivial⟩
    · have h := h.2 c12
      refine zu_aload_n d_5009_30 rfl (zs_ra _) ?_
      refine zu_aload_n d_5009_31 rfl (zs_ra _) ?_
      obtain ⟨k13, h⟩ := h
      refine zg_5_33 rfl d_5009_32 k13 ?_
      refine zc_5_71 (x0 := (zs_I S10 5002 p0)) hB rfl k13 d_5009_35 (Nat.le_of_ble_eq_true rfl) h (fun v15 S14 h => ?_)
      refine zu_bipush d_5009_38 zj_95 ?_
      refine zu_cmpne (t := 103) d_5009_40 rfl (fun c16 => ?_) (fun c16 => ?_)
      · have h := h.1 c16
        exact (u_X6_name_103 hB h).weak ⟨rfl, rfl, trivial⟩
      · have h := h.2 c16
        exact (u_X6_name_43 hB h).weak ⟨rfl, rfl, trivial⟩
def w_X6_name (X : zs_X) (d : Nat) (p0 : Nat) (S : zs_T) (Q : zs_Q) : Prop :=
  (zs_U X d 5009 2 [(0, .ref p0), (1, .int (0 : Int32))] [] S Q)
theorem u_X6_name {σ : Nat → Nat} {n0 : Nat} {bf : ab_B} {d : Nat} {p0 : Nat} {S : zs_T} {Q : zs_Q} (hB : zt_B bf) (hd : 1 ≤ d) (h : w_X6_name (zx σ n0 bf) (d - 1) p0 S Q) : zs_C (zx σ n0 bf) d 5009 [.ref p0] S Q := by
  have hL : lv_args 0 [.ref p0] = [(0, .ref p0)] := rfl
  refine zs_C.of1 (hB.2 5009 (by decide) (by decide)) hd (by rw [hL]; exact zs_sub_self _ (by exact ⟨rfl, trivial⟩)) ?_
  rw [hL]
  clear hL
  unfold w_X6_name at h
  refine zu_iconst d_5009_0 zi_0 ?_
  refine zu_istore_n d_5009_1 (zs_lt zq_5009 rfl) ?_
  exact h.weak ⟨rfl, rfl, trivial⟩
/-! SchemaPascal$Words.isDigit(I)Z -/
theorem zm_5010 {σ : Nat → Nat} {n0 : Nat} {bf : ab_B} : ab_code (zx σ n0 bf).1 5010 = prog_15_method_7_code := rfl
theorem zq_5010 {σ : Nat → Nat} {n0 : Nat} {bf : ab_B} : ab_maxL (zx σ n0 bf).1 5010 = 1 := rfl
theorem zr_5010 {σ : Nat → Nat} {n0 : Nat} {bf : ab_B} : ab_ret (zx σ n0 bf).1 5010 = (Option.some Jvm.ClassFile.FieldType.boolean) := rfl
theorem d_5010_0 {σ : Nat → Nat} {n0 : Nat} {bf : ab_B} : decode (ab_code (zx σ n0 bf).1 5010) 0 = .ok (.iload_n 0, 1) := zd zm_5010 (by decide +kernel)
theorem d_5010_1 {σ : Nat → Nat} {n0 : Nat} {bf : ab_B} : decode (ab_code (zx σ n0 bf).1 5010) 1 = .ok (.bipush 48, 2) := zd zm_5010 (by decide +kernel)
theorem d_5010_3 {σ : Nat → Nat} {n0 : Nat} {bf : ab_B} : decode (ab_code (zx σ n0 bf).1 5010) 3 = .ok (.if_icmp .lt 13, 3) := zd zm_5010 (by decide +kernel)
theorem d_5010_6 {σ : Nat → Nat} {n0 : Nat} {bf : ab_B} : decode (ab_code (zx σ n0 bf).1 5010) 6 = .ok (.iload_n 0, 1) := zd zm_5010 (by decide +kernel)
theorem d_5010_7 {σ : Nat → Nat} {n0 : Nat} {bf : ab_B} : decode (ab_code (zx σ n0 bf).1 5010) 7 = .ok (.bipush 57, 2) := zd zm_5010 (by decide +kernel)
theorem d_5010_9 {σ : Nat → Nat} {n0 : Nat} {bf : ab_B} : decode (ab_code (zx σ n0 bf).1 5010) 9 = .ok (.if_icmp .gt 7, 3) := zd zm_5010 (by decide +kernel)
theorem d_5010_12 {σ : Nat → Nat} {n0 : Nat} {bf : ab_B} : decode (ab_code (zx σ n0 bf).1 5010) 12 = .ok (.iconst 1, 1) := zd zm_5010 (by decide +kernel)
theorem d_5010_13 {σ : Nat → Nat} {n0 : Nat} {bf : ab_B} : decode (ab_code (zx σ n0 bf).1 5010) 13 = .ok (.goto 4, 3) := zd zm_5010 (by decide +kernel)
theorem d_5010_16 {σ : Nat → Nat} {n0 : Nat} {bf : ab_B} : decode (ab_code (zx σ n0 bf).1 5010) 16 = .ok (.iconst 0, 1) := zd zm_5010 (by decide +kernel)
theorem d_5010_17 {σ : Nat → Nat} {n0 : Nat} {bf : ab_B} : decode (ab_code (zx σ n0 bf).1 5010) 17 = .ok (.ireturn, 1) := zd zm_5010 (by decide +kernel)
def w_X6_isDigit (X : zs_X) (d : Nat) (p0 : Int32) (S : zs_T) (Q : zs_Q) : Prop :=
  (((p0 < (48 : Int32) → (Q (.returned (some (.int (0 : Int32)))) S)) ∧ (¬ (p0 < (48 : Int32)) → ((((57 : Int32) < p0 → (Q (.returned (some (.int (0 : Int32)))) S)) ∧ (¬ ((57 : Int32) < p0) → (Q (.returned (some (.int (1 : Int32)))) S)))))))
theorem u_X6_isDigit {σ : Nat → Nat} {n0 : Nat} {bf : ab_B} {d : Nat} {p0 : Int32} {S : zs_T} {Q : zs_Q} (hB : zt_B bf) (hd : 1 ≤ d) (h : w_X6_isDigit (zx σ n0 bf) (d - 1) p0 S Q) : zs_C (zx σ n0 bf) d 5010 [.int p0] S Q := by
  have hL : lv_args 0 [.int p0] = [(0, .int p0)] := rfl
  refine zs_C.of1 (hB.2 5010 (by decide) (by decide)) hd (by rw [hL]; exact zs_sub_self _ (by exact ⟨rfl, trivial⟩)) ?_
  rw [hL]
  clear hL
  unfold w_X6_isDigit at h
  refine zu_iload_n d_5010_0 rfl ?_
  refine zu_bipush d_5010_1 zj_48 ?_
  refine zu_cmplt (t := 16) d_5010_3 rfl (fun c1 => ?_) (fun c1 => ?_)
  · have h := h.1 c1
    refine zu_iconst d_5010_16 zi_0 ?_
    exact zu_iret d_5010_17 zr_5010 (zs_b_n (Or.inl rfl)) h
  · have h := h.2 c1
    refine zu_iload_n d_5010_6 rfl ?_
    refine zu_bipush d_5010_7 zj_57 ?_
    refine zu_cmpgt (t := 16) d_5010_9 rfl (fun c2 => ?_) (fun c2 => ?_)
    · have h := h.1 c2
      refine zu_iconst d_5010_16 zi_0 ?_
      exact zu_iret d_5010_17 zr_5010 (zs_b_n (Or.inl rfl)) h
    · have h := h.2 c2
      refine zu_iconst d_5010_12 zi_1 ?_
      refine zu_goto (t := 17) d_5010_13 rfl ?_
      exact zu_iret d_5010_17 zr_5010 (zs_b_n (Or.inr rfl)) h
/-! SchemaPascal$Words.number()V -/
theorem zm_5011 {σ : Nat → Nat} {n0 : Nat} {bf : ab_B} : ab_code (zx σ n0 bf).1 5011 = prog_15_method_13_code := rfl
theorem zq_5011 {σ : Nat → Nat} {n0 : Nat} {bf : ab_B} : ab_maxL (zx σ n0 bf).1 5011 = 5 := rfl
theorem zr_5011 {σ : Nat → Nat} {n0 : Nat} {bf : ab_B} : ab_ret (zx σ n0 bf).1 5011 = (Option.none : Option Jvm.ClassFile.FieldType) := rfl
theorem d_5011_0 {σ : Nat → Nat} {n0 : Nat} {bf : ab_B} : decode (ab_code (zx σ n0 bf).1 5011) 0 = .ok (.aload_n 0, 1) := zd zm_5011 (by decide +kernel)
theorem d_5011_1 {σ : Nat → Nat} {n0 : Nat} {bf : ab_B} : decode (ab_code (zx σ n0 bf).1 5011) 1 = .ok (.iconst 1, 1) := zd zm_5011 (by decide +kernel)
theorem d_5011_2 {σ : Nat → Nat} {n0 : Nat} {bf : ab_B} : decode (ab_code (zx σ n0 bf).1 5011) 2 = .ok (.putfield 89, 3) := zd zm_5011 (by decide +kernel)
theorem d_5011_5 {σ : Nat → Nat} {n0 : Nat} {bf : ab_B} : decode (ab_code (zx σ n0 bf).1 5011) 5 = .ok (.lconst 0, 1) := zd zm_5011 (by decide +kernel)
theorem d_5011_6 {σ : Nat → Nat} {n0 : Nat} {bf : ab_B} : decode (ab_code (zx σ n0 bf).1 5011) 6 = .ok (.lstore_n 1, 1) := zd zm_5011 (by decide +kernel)
theorem d_5011_7 {σ : Nat → Nat} {n0 : Nat} {bf : ab_B} : decode (ab_code (zx σ n0 bf).1 5011) 7 = .ok (.aload_n 0, 1) := zd zm_5011 (by decide +kernel)
theorem d_5011_8 {σ : Nat → Nat} {n0 : Nat} {bf : ab_B} : decode (ab_code (zx σ n0 bf).1 5011) 8 = .ok (.aload_n 0, 1) := zd zm_5011 (by decide +kernel)
theorem d_5011_9 {σ : Nat → Nat} {n0 : Nat} {bf : ab_B} : decode (ab_code (zx σ n0 bf).1 5011) 9 = .ok (.getfield 33, 3) := zd zm_5011 (by decide +kernel)
theorem d_5011_12 {σ : Nat → Nat} {n0 : Nat} {bf : ab_B} : decode (ab_code (zx σ n0 bf).1 5011) 12 = .ok (.invokevirtual 71, 3) := zd zm_5011 (by decide +kernel)
theorem d_5011_15 {σ : Nat → Nat} {n0 : Nat} {bf : ab_B} : decode (ab_code (zx σ n0 bf).1 5011) 15 = .ok (.invokestatic 64, 3) := zd zm_5011 (by decide +kernel)
theorem d_5011_18 {σ : Nat → Nat} {n0 : Nat} {bf : ab_B} : decode (ab_code (zx σ n0 bf).1 5011) 18 = .ok (.ifCond .eq 39, 3) := zd zm_5011 (by decide +kernel)
theorem d_5011_21 {σ : Nat → Nat} {n0 : Nat} {bf : ab_B} : decode (ab_code (zx σ n0 bf).1 5011) 21 = .ok (.ldc2_w 110, 3) := zd zm_5011 (by decide +kernel)
theorem d_5011_24 {σ : Nat → Nat} {n0 : Nat} {bf : ab_B} : decode (ab_code (zx σ n0 bf).1 5011) 24 = .ok (.lload_n 1, 1) := zd zm_5011 (by decide +kernel)
theorem d_5011_25 {σ : Nat → Nat} {n0 : Nat} {bf : ab_B} : decode (ab_code (zx σ n0 bf).1 5011) 25 = .ok (.lmul, 1) := zd zm_5011 (by decide +kernel)
theorem d_5011_26 {σ : Nat → Nat} {n0 : Nat} {bf : ab_B} : decode (ab_code (zx σ n0 bf).1 5011) 26 = .ok (.aload_n 0, 1) := zd zm_5011 (by decide +kernel)
theorem d_5011_27 {σ : Nat → Nat} {n0 : Nat} {bf : ab_B} : decode (ab_code (zx σ n0 bf).1 5011) 27 = .ok (.aload_n 0, 1) := zd zm_5011 (by decide +kernel)
theorem d_5011_28 {σ : Nat → Nat} {n0 : Nat} {bf : ab_B} : decode (ab_code (zx σ n0 bf).1 5011) 28 = .ok (.dup, 1) := zd zm_5011 (by decide +kernel)
theorem d_5011_29 {σ : Nat → Nat} {n0 : Nat} {bf : ab_B} : decode (ab_code (zx σ n0 bf).1 5011) 29 = .ok (.getfield 33, 3) := zd zm_5011 (by decide +kernel)
theorem d_5011_32 {σ : Nat → Nat} {n0 : Nat} {bf : ab_B} : decode (ab_code (zx σ n0 bf).1 5011) 32 = .ok (.dup_x1, 1) := zd zm_5011 (by decide +kernel)
theorem d_5011_33 {σ : Nat → Nat} {n0 : Nat} {bf : ab_B} : decode (ab_code (zx σ n0 bf).1 5011) 33 = .ok (.iconst 1, 1) := zd zm_5011 (by decide +kernel)
theorem d_5011_34 {σ : Nat → Nat} {n0 : Nat} {bf : ab_B} : decode (ab_code (zx σ n0 bf).1 5011) 34 = .ok (.iadd, 1) := zd zm_5011 (by decide +kernel)
theorem d_5011_35 {σ : Nat → Nat} {n0 : Nat} {bf : ab_B} : decode (ab_code (zx σ n0 bf).1 5011) 35 = .ok (.putfield 33, 3) := zd zm_5011 (by decide +kernel)
theorem d_5011_38 {σ : Nat → Nat} {n0 : Nat} {bf : ab_B} : decode (ab_code (zx σ n0 bf).1 5011) 38 = .ok (.invokevirtual 71, 3) := zd zm_5011 (by decide +kernel)
theorem d_5011_41 {σ : Nat → Nat} {n0 : Nat} {bf : ab_B} : decode (ab_code (zx σ n0 bf).1 5011) 41 = .ok (.i2l, 1) := zd zm_5011 (by decide +kernel)
theorem d_5011_42 {σ : Nat → Nat} {n0 : Nat} {bf : ab_B} : decode (ab_code (zx σ n0 bf).1 5011) 42 = .ok (.ladd, 1) := zd zm_5011 (by decide +kernel)
theorem d_5011_43 {σ : Nat → Nat} {n0 : Nat} {bf : ab_B} : decode (ab_code (zx σ n0 bf).1 5011) 43 = .ok (.ldc2_w 112, 3) := zd zm_5011 (by decide +kernel)
theorem d_5011_46 {σ : Nat → Nat} {n0 : Nat} {bf : ab_B} : decode (ab_code (zx σ n0 bf).1 5011) 46 = .ok (.lsub, 1) := zd zm_5011 (by decide +kernel)
theorem d_5011_47 {σ : Nat → Nat} {n0 : Nat} {bf : ab_B} : decode (ab_code (zx σ n0 bf).1 5011) 47 = .ok (.ldc2_w 114, 3) := zd zm_5011 (by decide +kernel)
theorem d_5011_50 {σ : Nat → Nat} {n0 : Nat} {bf : ab_B} : decode (ab_code (zx σ n0 bf).1 5011) 50 = .ok (.invokestatic 116, 3) := zd zm_5011 (by decide +kernel)
theorem d_5011_53 {σ : Nat → Nat} {n0 : Nat} {bf : ab_B} : decode (ab_code (zx σ n0 bf).1 5011) 53 = .ok (.lstore_n 1, 1) := zd zm_5011 (by decide +kernel)
theorem d_5011_54 {σ : Nat → Nat} {n0 : Nat} {bf : ab_B} : decode (ab_code (zx σ n0 bf).1 5011) 54 = .ok (.goto (-47), 3) := zd zm_5011 (by decide +kernel)
theorem d_5011_57 {σ : Nat → Nat} {n0 : Nat} {bf : ab_B} : decode (ab_code (zx σ n0 bf).1 5011) 57 = .ok (.aload_n 0, 1) := zd zm_5011 (by decide +kernel)
theorem d_5011_58 {σ : Nat → Nat} {n0 : Nat} {bf : ab_B} : decode (ab_code (zx σ n0 bf).1 5011) 58 = .ok (.aload_n 0, 1) := zd zm_5011 (by decide +kernel)
theorem d_5011_59 {σ : Nat → Nat} {n0 : Nat} {bf : ab_B} : decode (ab_code (zx σ n0 bf).1 5011) 59 = .ok (.getfield 33, 3) := zd zm_5011 (by decide +kernel)
theorem d_5011_62 {σ : Nat → Nat} {n0 : Nat} {bf : ab_B} : decode (ab_code (zx σ n0 bf).1 5011) 62 = .ok (.invokevirtual 71, 3) := zd zm_5011 (by decide +kernel)
theorem d_5011_65 {σ : Nat → Nat} {n0 : Nat} {bf : ab_B} : decode (ab_code (zx σ n0 bf).1 5011) 65 = .ok (.bipush 35, 2) := zd zm_5011 (by decide +kernel)
theorem d_5011_67 {σ : Nat → Nat} {n0 : Nat} {bf : ab_B} : decode (ab_code (zx σ n0 bf).1 5011) 67 = .ok (.if_icmp .ne 109, 3) := zd zm_5011 (by decide +kernel)
theorem d_5011_70 {σ : Nat → Nat} {n0 : Nat} {bf : ab_B} : decode (ab_code (zx σ n0 bf).1 5011) 70 = .ok (.lload_n 1, 1) := zd zm_5011 (by decide +kernel)
theorem d_5011_71 {σ : Nat → Nat} {n0 : Nat} {bf : ab_B} : decode (ab_code (zx σ n0 bf).1 5011) 71 = .ok (.ldc2_w 122, 3) := zd zm_5011 (by decide +kernel)
theorem d_5011_74 {σ : Nat → Nat} {n0 : Nat} {bf : ab_B} : decode (ab_code (zx σ n0 bf).1 5011) 74 = .ok (.invokestatic 116, 3) := zd zm_5011 (by decide +kernel)
theorem d_5011_77 {σ : Nat → Nat} {n0 : Nat} {bf : ab_B} : decode (ab_code (zx σ n0 bf).1 5011) 77 = .ok (.l2i, 1) := zd zm_5011 (by decide +kernel)
theorem d_5011_78 {σ : Nat → Nat} {n0 : Nat} {bf : ab_B} : decode (ab_code (zx σ n0 bf).1 5011) 78 = .ok (.istore_n 3, 1) := zd zm_5011 (by decide +kernel)
theorem d_5011_79 {σ : Nat → Nat} {n0 : Nat} {bf : ab_B} : decode (ab_code (zx σ n0 bf).1 5011) 79 = .ok (.aload_n 0, 1) := zd zm_5011 (by decide +kernel)
theorem d_5011_80 {σ : Nat → Nat} {n0 : Nat} {bf : ab_B} : decode (ab_code (zx σ n0 bf).1 5011) 80 = .ok (.dup, 1) := zd zm_5011 (by decide +kernel)
theorem d_5011_81 {σ : Nat → Nat} {n0 : Nat} {bf : ab_B} : decode (ab_code (zx σ n0 bf).1 5011) 81 = .ok (.getfield 33, 3) := zd zm_5011 (by decide +kernel)
theorem d_5011_84 {σ : Nat → Nat} {n0 : Nat} {bf : ab_B} : decode (ab_code (zx σ n0 bf).1 5011) 84 = .ok (.iconst 1, 1) := zd zm_5011 (by decide +kernel)
theorem d_5011_85 {σ : Nat → Nat} {n0 : Nat} {bf : ab_B} : decode (ab_code (zx σ n0 bf).1 5011) 85 = .ok (.iadd, 1) := zd zm_5011 (by decide +kernel)
theorem d_5011_86 {σ : Nat → Nat} {n0 : Nat} {bf : ab_B} : decode (ab_code (zx σ n0 bf).1 5011) 86 = .ok (.dup_x1, 1) := zd zm_5011 (by decide +kernel)
theorem d_5011_87 {σ : Nat → Nat} {n0 : Nat} {bf : ab_B} : decode (ab_code (zx σ n0 bf).1 5011) 87 = .ok (.putfield 33, 3) := zd zm_5011 (by decide +kernel)
theorem d_5011_90 {σ : Nat → Nat} {n0 : Nat} {bf : ab_B} : decode (ab_code (zx σ n0 bf).1 5011) 90 = .ok (.istore 4, 2) := zd zm_5011 (by decide +kernel)
theorem d_5011_92 {σ : Nat → Nat} {n0 : Nat} {bf : ab_B} : decode (ab_code (zx σ n0 bf).1 5011) 92 = .ok (.lconst 0, 1) := zd zm_5011 (by decide +kernel)
theorem d_5011_93 {σ : Nat → Nat} {n0 : Nat} {bf : ab_B} : decode (ab_code (zx σ n0 bf).1 5011) 93 = .ok (.lstore_n 1, 1) := zd zm_5011 (by decide +kernel)
theorem d_5011_94 {σ : Nat → Nat} {n0 : Nat} {bf : ab_B} : decode (ab_code (zx σ n0 bf).1 5011) 94 = .ok (.aload_n 0, 1) := zd zm_5011 (by decide +kernel)
theorem d_5011_95 {σ : Nat → Nat} {n0 : Nat} {bf : ab_B} : decode (ab_code (zx σ n0 bf).1 5011) 95 = .ok (.aload_n 0, 1) := zd zm_5011 (by decide +kernel)
theorem d_5011_96 {σ : Nat → Nat} {n0 : Nat} {bf : ab_B} : decode (ab_code (zx σ n0 bf).1 5011) 96 = .ok (.getfield 33, 3) := zd zm_5011 (by decide +kernel)
theorem d_5011_99 {σ : Nat → Nat} {n0 : Nat} {bf : ab_B} : decode (ab_code (zx σ n0 bf).1 5011) 99 = .ok (.invokevirtual 71, 3) := zd zm_5011 (by decide +kernel)
theorem d_5011_102 {σ : Nat → Nat} {n0 : Nat} {bf : ab_B} : decode (ab_code (zx σ n0 bf).1 5011) 102 = .ok (.invokestatic 124, 3) := zd zm_5011 (by decide +kernel)
theorem d_5011_105 {σ : Nat → Nat} {n0 : Nat} {bf : ab_B} : decode (ab_code (zx σ n0 bf).1 5011) 105 = .ok (.iload_n 3, 1) := zd zm_5011 (by decide +kernel)
theorem d_5011_106 {σ : Nat → Nat} {n0 : Nat} {bf : ab_B} : decode (ab_code (zx σ n0 bf).1 5011) 106 = .ok (.if_icmp .ge 37, 3) := zd zm_5011 (by decide +kernel)
theorem d_5011_109 {σ : Nat → Nat} {n0 : Nat} {bf : ab_B} : decode (ab_code (zx σ n0 bf).1 5011) 109 = .ok (.iload_n 3, 1) := zd zm_5011 (by decide +kernel)
theorem d_5011_110 {σ : Nat → Nat} {n0 : Nat} {bf : ab_B} : decode (ab_code (zx σ n0 bf).1 5011) 110 = .ok (.i2l, 1) := zd zm_5011 (by decide +kernel)
theorem d_5011_111 {σ : Nat → Nat} {n0 : Nat} {bf : ab_B} : decode (ab_code (zx σ n0 bf).1 5011) 111 = .ok (.lload_n 1, 1) := zd zm_5011 (by decide +kernel)
theorem d_5011_112 {σ : Nat → Nat} {n0 : Nat} {bf : ab_B} : decode (ab_code (zx σ n0 bf).1 5011) 112 = .ok (.lmul, 1) := zd zm_5011 (by decide +kernel)
theorem d_5011_113 {σ : Nat → Nat} {n0 : Nat} {bf : ab_B} : decode (ab_code (zx σ n0 bf).1 5011) 113 = .ok (.aload_n 0, 1) := zd zm_5011 (by decide +kernel)
theorem d_5011_114 {σ : Nat → Nat} {n0 : Nat} {bf : ab_B} : decode (ab_code (zx σ n0 bf).1 5011) 114 = .ok (.aload_n 0, 1) := zd zm_5011 (by decide +kernel)
theorem d_5011_115 {σ : Nat → Nat} {n0 : Nat} {bf : ab_B} : decode (ab_code (zx σ n0 bf).1 5011) 115 = .ok (.dup, 1) := zd zm_5011 (by decide +kernel)
theorem d_5011_116 {σ : Nat → Nat} {n0 : Nat} {bf : ab_B} : decode (ab_code (zx σ n0 bf).1 5011) 116 = .ok (.getfield 33, 3) := zd zm_5011 (by decide +kernel)
theorem d_5011_119 {σ : Nat → Nat} {n0 : Nat} {bf : ab_B} : decode (ab_code (zx σ n0 bf).1 5011) 119 = .ok (.dup_x1, 1) := zd zm_5011 (by decide +kernel)
theorem d_5011_120 {σ : Nat → Nat} {n0 : Nat} {bf : ab_B} : decode (ab_code (zx σ n0 bf).1 5011) 120 = .ok (.iconst 1, 1) := zd zm_5011 (by decide +kernel)
theorem d_5011_121 {σ : Nat → Nat} {n0 : Nat} {bf : ab_B} : decode (ab_code (zx σ n0 bf).1 5011) 121 = .ok (.iadd, 1) := zd zm_5011 (by decide +kernel)
theorem d_5011_122 {σ : Nat → Nat} {n0 : Nat} {bf : ab_B} : decode (ab_code (zx σ n0 bf).1 5011) 122 = .ok (.putfield 33, 3) := zd zm_5011 (by decide +kernel)
theorem d_5011_125 {σ : Nat → Nat} {n0 : Nat} {bf : ab_B} : decode (ab_code (zx σ n0 bf).1 5011) 125 = .ok (.invokevirtual 71, 3) := zd zm_5011 (by decide +kernel)
theorem d_5011_128 {σ : Nat → Nat} {n0 : Nat} {bf : ab_B} : decode (ab_code (zx σ n0 bf).1 5011) 128 = .ok (.invokestatic 124, 3) := zd zm_5011 (by decide +kernel)
theorem d_5011_131 {σ : Nat → Nat} {n0 : Nat} {bf : ab_B} : decode (ab_code (zx σ n0 bf).1 5011) 131 = .ok (.i2l, 1) := zd zm_5011 (by decide +kernel)
theorem d_5011_132 {σ : Nat → Nat} {n0 : Nat} {bf : ab_B} : decode (ab_code (zx σ n0 bf).1 5011) 132 = .ok (.ladd, 1) := zd zm_5011 (by decide +kernel)
theorem d_5011_133 {σ : Nat → Nat} {n0 : Nat} {bf : ab_B} : decode (ab_code (zx σ n0 bf).1 5011) 133 = .ok (.ldc2_w 114, 3) := zd zm_5011 (by decide +kernel)
theorem d_5011_136 {σ : Nat → Nat} {n0 : Nat} {bf : ab_B} : decode (ab_code (zx σ n0 bf).1 5011) 136 = .ok (.invokestatic 116, 3) := zd zm_5011 (by decide +kernel)
theorem d_5011_139 {σ : Nat → Nat} {n0 : Nat} {bf : ab_B} : decode (ab_code (zx σ n0 bf).1 5011) 139 = .ok (.lstore_n 1, 1) := zd zm_5011 (by decide +kernel)
theorem d_5011_140 {σ : Nat → Nat} {n0 : Nat} {bf : ab_B} : decode (ab_code (zx σ n0 bf).1 5011) 140 = .ok (.goto (-46), 3) := zd zm_5011 (by decide +kernel)
theorem d_5011_143 {σ : Nat → Nat} {n0 : Nat} {bf : ab_B} : decode (ab_code (zx σ n0 bf).1 5011) 143 = .ok (.iload_n 3, 1) := zd zm_5011 (by decide +kernel)
theorem d_5011_144 {σ : Nat → Nat} {n0 : Nat} {bf : ab_B} : decode (ab_code (zx σ n0 bf).1 5011) 144 = .ok (.iconst 2, 1) := zd zm_5011 (by decide +kernel)
theorem d_5011_145 {σ : Nat → Nat} {n0 : Nat} {bf : ab_B} : decode (ab_code (zx σ n0 bf).1 5011) 145 = .ok (.if_icmp .lt 18, 3) := zd zm_5011 (by decide +kernel)
theorem d_5011_148 {σ : Nat → Nat} {n0 : Nat} {bf : ab_B} : decode (ab_code (zx σ n0 bf).1 5011) 148 = .ok (.iload_n 3, 1) := zd zm_5011 (by decide +kernel)
theorem d_5011_149 {σ : Nat → Nat} {n0 : Nat} {bf : ab_B} : decode (ab_code (zx σ n0 bf).1 5011) 149 = .ok (.bipush 36, 2) := zd zm_5011 (by decide +kernel)
theorem d_5011_151 {σ : Nat → Nat} {n0 : Nat} {bf : ab_B} : decode (ab_code (zx σ n0 bf).1 5011) 151 = .ok (.if_icmp .gt 12, 3) := zd zm_5011 (by decide +kernel)
theorem d_5011_154 {σ : Nat → Nat} {n0 : Nat} {bf : ab_B} : decode (ab_code (zx σ n0 bf).1 5011) 154 = .ok (.aload_n 0, 1) := zd zm_5011 (by decide +kernel)
theorem d_5011_155 {σ : Nat → Nat} {n0 : Nat} {bf : ab_B} : decode (ab_code (zx σ n0 bf).1 5011) 155 = .ok (.getfield 33, 3) := zd zm_5011 (by decide +kernel)
theorem d_5011_158 {σ : Nat → Nat} {n0 : Nat} {bf : ab_B} : decode (ab_code (zx σ n0 bf).1 5011) 158 = .ok (.iload 4, 2) := zd zm_5011 (by decide +kernel)
theorem d_5011_160 {σ : Nat → Nat} {n0 : Nat} {bf : ab_B} : decode (ab_code (zx σ n0 bf).1 5011) 160 = .ok (.if_icmp .ne 16, 3) := zd zm_5011 (by decide +kernel)
theorem d_5011_163 {σ : Nat → Nat} {n0 : Nat} {bf : ab_B} : decode (ab_code (zx σ n0 bf).1 5011) 163 = .ok (.new 78, 3) := zd zm_5011 (by decide +kernel)
theorem d_5011_166 {σ : Nat → Nat} {n0 : Nat} {bf : ab_B} : decode (ab_code (zx σ n0 bf).1 5011) 166 = .ok (.dup, 1) := zd zm_5011 (by decide +kernel)
theorem d_5011_167 {σ : Nat → Nat} {n0 : Nat} {bf : ab_B} : decode (ab_code (zx σ n0 bf).1 5011) 167 = .ok (.iconst 1, 1) := zd zm_5011 (by decide +kernel)
theorem d_5011_168 {σ : Nat → Nat} {n0 : Nat} {bf : ab_B} : decode (ab_code (zx σ n0 bf).1 5011) 168 = .ok (.aload_n 0, 1) := zd zm_5011 (by decide +kernel)
theorem d_5011_169 {σ : Nat → Nat} {n0 : Nat} {bf : ab_B} : decode (ab_code (zx σ n0 bf).1 5011) 169 = .ok (.getfield 86, 3) := zd zm_5011 (by decide +kernel)
theorem d_5011_172 {σ : Nat → Nat} {n0 : Nat} {bf : ab_B} : decode (ab_code (zx σ n0 bf).1 5011) 172 = .ok (.invokespecial 80, 3) := zd zm_5011 (by decide +kernel)
theorem d_5011_175 {σ : Nat → Nat} {n0 : Nat} {bf : ab_B} : decode (ab_code (zx σ n0 bf).1 5011) 175 = .ok (.athrow, 1) := zd zm_5011 (by decide +kernel)
theorem d_5011_176 {σ : Nat → Nat} {n0 : Nat} {bf : ab_B} : decode (ab_code (zx σ n0 bf).1 5011) 176 = .ok (.aload_n 0, 1) := zd zm_5011 (by decide +kernel)
theorem d_5011_177 {σ : Nat → Nat} {n0 : Nat} {bf : ab_B} : decode (ab_code (zx σ n0 bf).1 5011) 177 = .ok (.lload_n 1, 1) := zd zm_5011 (by decide +kernel)
theorem d_5011_178 {σ : Nat → Nat} {n0 : Nat} {bf : ab_B} : decode (ab_code (zx σ n0 bf).1 5011) 178 = .ok (.putfield 127, 3) := zd zm_5011 (by decide +kernel)
theorem d_5011_181 {σ : Nat → Nat} {n0 : Nat} {bf : ab_B} : decode (ab_code (zx σ n0 bf).1 5011) 181 = .ok (.lload_n 1, 1) := zd zm_5011 (by decide +kernel)
theorem d_5011_182 {σ : Nat → Nat} {n0 : Nat} {bf : ab_B} : decode (ab_code (zx σ n0 bf).1 5011) 182 = .ok (.ldc2_w 130, 3) := zd zm_5011 (by decide +kernel)
theorem d_5011_185 {σ : Nat → Nat} {n0 : Nat} {bf : ab_B} : decode (ab_code (zx σ n0 bf).1 5011) 185 = .ok (.lcmp, 1) := zd zm_5011 (by decide +kernel)
theorem d_5011_186 {σ : Nat → Nat} {n0 : Nat} {bf : ab_B} : decode (ab_code (zx σ n0 bf).1 5011) 186 = .ok (.ifCond .gt 31, 3) := zd zm_5011 (by decide +kernel)
theorem d_5011_189 {σ : Nat → Nat} {n0 : Nat} {bf : ab_B} : decode (ab_code (zx σ n0 bf).1 5011) 189 = .ok (.aload_n 0, 1) := zd zm_5011 (by decide +kernel)
theorem d_5011_190 {σ : Nat → Nat} {n0 : Nat} {bf : ab_B} : decode (ab_code (zx σ n0 bf).1 5011) 190 = .ok (.aload_n 0, 1) := zd zm_5011 (by decide +kernel)
theorem d_5011_191 {σ : Nat → Nat} {n0 : Nat} {bf : ab_B} : decode (ab_code (zx σ n0 bf).1 5011) 191 = .ok (.getfield 33, 3) := zd zm_5011 (by decide +kernel)
theorem d_5011_194 {σ : Nat → Nat} {n0 : Nat} {bf : ab_B} : decode (ab_code (zx σ n0 bf).1 5011) 194 = .ok (.invokevirtual 71, 3) := zd zm_5011 (by decide +kernel)
theorem d_5011_197 {σ : Nat → Nat} {n0 : Nat} {bf : ab_B} : decode (ab_code (zx σ n0 bf).1 5011) 197 = .ok (.invokestatic 68, 3) := zd zm_5011 (by decide +kernel)
theorem d_5011_200 {σ : Nat → Nat} {n0 : Nat} {bf : ab_B} : decode (ab_code (zx σ n0 bf).1 5011) 200 = .ok (.ifCond .ne 17, 3) := zd zm_5011 (by decide +kernel)
theorem d_5011_203 {σ : Nat → Nat} {n0 : Nat} {bf : ab_B} : decode (ab_code (zx σ n0 bf).1 5011) 203 = .ok (.aload_n 0, 1) := zd zm_5011 (by decide +kernel)
theorem d_5011_204 {σ : Nat → Nat} {n0 : Nat} {bf : ab_B} : decode (ab_code (zx σ n0 bf).1 5011) 204 = .ok (.aload_n 0, 1) := zd zm_5011 (by decide +kernel)
theorem d_5011_205 {σ : Nat → Nat} {n0 : Nat} {bf : ab_B} : decode (ab_code (zx σ n0 bf).1 5011) 205 = .ok (.getfield 33, 3) := zd zm_5011 (by decide +kernel)
theorem d_5011_208 {σ : Nat → Nat} {n0 : Nat} {bf : ab_B} : decode (ab_code (zx σ n0 bf).1 5011) 208 = .ok (.invokevirtual 71, 3) := zd zm_5011 (by decide +kernel)
theorem d_5011_211 {σ : Nat → Nat} {n0 : Nat} {bf : ab_B} : decode (ab_code (zx σ n0 bf).1 5011) 211 = .ok (.invokestatic 64, 3) := zd zm_5011 (by decide +kernel)
theorem d_5011_214 {σ : Nat → Nat} {n0 : Nat} {bf : ab_B} : decode (ab_code (zx σ n0 bf).1 5011) 214 = .ok (.ifCond .eq 16, 3) := zd zm_5011 (by decide +kernel)
theorem d_5011_217 {σ : Nat → Nat} {n0 : Nat} {bf : ab_B} : decode (ab_code (zx σ n0 bf).1 5011) 217 = .ok (.new 78, 3) := zd zm_5011 (by decide +kernel)
theorem d_5011_220 {σ : Nat → Nat} {n0 : Nat} {bf : ab_B} : decode (ab_code (zx σ n0 bf).1 5011) 220 = .ok (.dup, 1) := zd zm_5011 (by decide +kernel)
theorem d_5011_221 {σ : Nat → Nat} {n0 : Nat} {bf : ab_B} : decode (ab_code (zx σ n0 bf).1 5011) 221 = .ok (.iconst 1, 1) := zd zm_5011 (by decide +kernel)
theorem d_5011_222 {σ : Nat → Nat} {n0 : Nat} {bf : ab_B} : decode (ab_code (zx σ n0 bf).1 5011) 222 = .ok (.aload_n 0, 1) := zd zm_5011 (by decide +kernel)
theorem d_5011_223 {σ : Nat → Nat} {n0 : Nat} {bf : ab_B} : decode (ab_code (zx σ n0 bf).1 5011) 223 = .ok (.getfield 86, 3) := zd zm_5011 (by decide +kernel)
theorem d_5011_226 {σ : Nat → Nat} {n0 : Nat} {bf : ab_B} : decode (ab_code (zx σ n0 bf).1 5011) 226 = .ok (.invokespecial 80, 3) := zd zm_5011 (by decide +kernel)
theorem d_5011_229 {σ : Nat → Nat} {n0 : Nat} {bf : ab_B} : decode (ab_code (zx σ n0 bf).1 5011) 229 = .ok (.athrow, 1) := zd zm_5011 (by decide +kernel)
theorem d_5011_230 {σ : Nat → Nat} {n0 : Nat} {bf : ab_B} : decode (ab_code (zx σ n0 bf).1 5011) 230 = .ok (.return_, 1) := zd zm_5011 (by decide +kernel)
def w_X6_number_217 (X : zs_X) (d : Nat) (p0 : Nat) (S : zs_T) (Q : zs_Q) : Prop :=
  (∀ a1 S2, a1 = zs_N S → S2 = zs_nw S (.inl 9) 8 → zs_K S2 p0 = some (.inl 5) ∧ zs_C X d 9000 [.ref a1, .int (1 : Int32), .int (zs_I S2 5005 p0)] S2 (zs_kV (fun S7 => (Q (.threw a1) S7)) Q))
theorem u_X6_number_217 {σ : Nat → Nat} {n0 : Nat} {bf : ab_B} {d : Nat} {p0 : Nat} {S : zs_T} {Q : zs_Q} (hB : zt_B bf) (h : w_X6_number_217 (zx σ n0 bf) d p0 S Q) : zs_U (zx σ n0 bf) d 5011 217 [(0, .ref p0)] [] S Q := by
  unfold w_X6_number_217 at h
  refine zn_5_78 rfl d_5011_217 ?_
  generalize e4 : zs_nw S (.inl 9) 8 = S2
  generalize e3 : zs_N S = a1
  have h := h a1 S2 e3.symm e4.symm
  have k5 := zs_kn e3 e4
  refine zu_dup d_5011_220 rfl ?_
  refine zu_iconst d_5011_221 zi_1 ?_
  refine zu_aload_n d_5011_222 rfl (zs_ra _) ?_
  obtain ⟨k6, h⟩ := h
  refine zg_5_86 rfl d_5011_223 k6 ?_
  refine zc_5_80 (x0 := (1 : Int32)) (x1 := (zs_I S2 5005 p0)) hB rfl d_5011_226 (Nat.le_of_ble_eq_true rfl) h (fun S7 h => ?_)
  exact zu_throw d_5011_229 h
def w_X6_number_230 (X : zs_X) (d : Nat)  (S : zs_T) (Q : zs_Q) : Prop :=
  (Q (.returned none) S)
theorem u_X6_number_230 {σ : Nat → Nat} {n0 : Nat} {bf : ab_B} {d : Nat}  {S : zs_T} {Q : zs_Q} (hB : zt_B bf) (h : w_X6_number_230 (zx σ n0 bf) d  S Q) : zs_U (zx σ n0 bf) d 5011 230 [] [] S Q := by
  unfold w_X6_number_230 at h
  exact zu_vret d_5011_230 zr_5011 h
def w_X6_number_176 (X : zs_X) (d : Nat) (p0 : Nat) (p1 : Int64) (S : zs_T) (Q : zs_Q) : Prop :=
  (zs_K S p0 = some (.inl 5) ∧ ab_n0 X.1 ≤ p0 ∧ ∀ S3, S3 = zs_sJ S 5007 p0 p1 → (((2147483647 : Int64) < p1 → w_X6_number_217 X d p0 S3 Q) ∧ (¬ ((2147483647 : Int64) < p1) → (zs_C X d 5006 [.ref p0, .int (zs_I S3 5002 p0)] S3 (zs_kI (fun v8 S7 => (zs_C X d 5008 [.int v8] S7 (zs_kI (fun v10 S9 => (((¬ v10 = 0 → w_X6_number_217 X d p0 S9 Q) ∧ (¬ (¬ v10 = 0) → (zs_K S9 p0 = some (.inl 5) ∧ zs_C X d 5006 [.ref p0, .int (zs_I S9 5002 p0)] S9 (zs_kI (fun v14 S13 => (zs_C X d 5010 [.int v14] S13 (zs_kI (fun v16 S15 => (((v16 = 0 → w_X6_number_230 X d  S15 Q) ∧ (¬ (v16 = 0) → w_X6_number_217 X d p0 S15 Q)))) Q))) Q)))))) Q))) Q)))))
theorem u_X6_number_176 {σ : Nat → Nat} {n0 : Nat} {bf : ab_B} {d : Nat} {p0 : Nat} {p1 : Int64} {S : zs_T} {Q : zs_Q} (hB : zt_B bf) (h : w_X6_number_176 (zx σ n0 bf) d p0 p1 S Q) : zs_U (zx σ n0 bf) d 5011 176 [(0, .ref p0), (1, .long p1)] [] S Q := by
  unfold w_X6_number_176 at h
  refine zu_aload_n d_5011_176 rfl (zs_ra _) ?_
  refine zu_lload_n d_5011_177 rfl ?_
  obtain ⟨k1, h⟩ := h
  obtain ⟨k2, h⟩ := h
  refine zp_5_127 (v := p1) rfl d_5011_178 k1 k2 ?_
  generalize e4 : zs_sJ S 5007 p0 p1 = S3
  have h := h S3 e4.symm
  have K5 : ∀ b, zs_K S3 b = zs_K S b := zs_Kt e4 (zs_KsJ _ _ _ _) (fun _ => rfl)
  refine zu_lload_n d_5011_181 rfl ?_
  refine zl2_5_130 rfl d_5011_182 ?_
  refine zu_lgt (t := 217) d_5011_185 d_5011_186 rfl (fun c6 => ?_) (fun c6 => ?_)
  · have h := h.1 c6
    exact (u_X6_number_217 hB h).weak ⟨rfl, trivial⟩
  · have h := h.2 c6
    refine zu_aload_n d_5011_189 rfl (zs_ra _) ?_
    refine zu_aload_n d_5011_190 rfl (zs_ra _) ?_
    refine zg_5_33 rfl d_5011_191 ((K5 _).trans k1) ?_
    refine zc_5_71 (x0 := (zs_I S3 5002 p0)) hB rfl ((K5 _).trans k1) d_5011_194 (Nat.le_of_ble_eq_true rfl) h (fun v8 S7 h => ?_)
    refine zc_5_68 (x0 := v8) hB rfl d_5011_197 (Nat.le_of_ble_eq_true rfl) h (fun v10 S9 h => ?_)
    refine zu_ifne (t := 217) d_5011_200 rfl (fun c11 => ?_) (fun c11 => ?_)
    · have h := h.1 c11
      exact (u_X6_number_217 hB h).weak ⟨rfl, trivial⟩
    · have h := h.2 c11
      refine zu_aload_n d_5011_203 rfl (zs_ra _) ?_
      refine zu_aload_n d_5011_204 rfl (zs_ra _) ?_
      obtain ⟨k12, h⟩ := h
      refine zg_5_33 rfl d_5011_205 k12 ?_
      refine zc_5_71 (x0 := (zs_I S9 5002 p0)) hB rfl k12 d_5011_208 (Nat.le_of_ble_eq_true rfl) h (fun v14 S13 h => ?_)
      refine zc_5_64 (x0 := v14) hB rfl d_5011_211 (Nat.le_of_ble_eq_true rfl) h (fun v16 S15 h => ?_)
      refine zu_ifeq (t := 230) d_5011_214 rfl (fun c17 => ?_) (fun c17 => ?_)
      · have h := h.1 c17
        exact (u_X6_number_230 hB h).weak trivial
      · have h := h.2 c17
        exact (u_X6_number_217 hB h).weak ⟨rfl, trivial⟩
def w_X6_number_79 (X : zs_X) (d : Nat) (p0 : Nat) (p3 : Int32) (S : zs_T) (Q : zs_Q) : Prop :=
  (zs_K S p0 = some (.inl 5) ∧ ab_n0 X.1 ≤ p0 ∧ ∀ S3, S3 = zs_sI S 5002 p0 ((zs_I S 5002 p0) + (1 : Int32)) → zs_U X d 5011 94 [(0, .ref p0), (1, .long (0 : Int64)), (3, .int p3), (4, .int ((zs_I S 5002 p0) + (1 : Int32)))] [] S3 Q)
theorem u_X6_number_79 {σ : Nat → Nat} {n0 : Nat} {bf : ab_B} {d : Nat} {p0 : Nat} {p3 : Int32} {S : zs_T} {Q : zs_Q} (hB : zt_B bf) (h : w_X6_number_79 (zx σ n0 bf) d p0 p3 S Q) : zs_U (zx σ n0 bf) d 5011 79 [(0, .ref p0), (3, .int p3)] [] S Q := by
  unfold w_X6_number_79 at h
  refine zu_aload_n d_5011_79 rfl (zs_ra _) ?_
  refine zu_dup d_5011_80 rfl ?_
  obtain ⟨k1, h⟩ := h
  refine zg_5_33 rfl d_5011_81 k1 ?_
  refine zu_iconst d_5011_84 zi_1 ?_
  refine zu_stk d_5011_85 rfl rfl ?_
  refine zu_dup_x1 d_5011_86 rfl rfl ?_
  obtain ⟨k2, h⟩ := h
  refine zp_5_33 (v := ((zs_I S 5002 p0) + (1 : Int32))) rfl d_5011_87 k1 k2 ?_
  generalize e4 : zs_sI S 5002 p0 ((zs_I S 5002 p0) + (1 : Int32)) = S3
  have h := h S3 e4.symm
  have K5 : ∀ b, zs_K S3 b = zs_K S b := zs_Kt e4 (zs_KsI _ _ _ _) (fun _ => rfl)
  refine zu_istore d_5011_90 (zs_lt zq_5011 rfl) ?_
  refine zu_lconst (v := 0) d_5011_92 rfl ?_
  refine zu_lstore_n d_5011_93 (zs_lt zq_5011 rfl) ?_
  exact h.weak ⟨rfl, rfl, rfl, rfl, trivial⟩
def w_X6_number_54 (X : zs_X) (d : Nat) (p0 : Nat) (p1 : Int64) (S : zs_T) (Q : zs_Q) : Prop :=
  (zs_U X d 5011 7 [(0, .ref p0), (1, .long p1)] [] S Q)
theorem u_X6_number_54 {σ : Nat → Nat} {n0 : Nat} {bf : ab_B} {d : Nat} {p0 : Nat} {p1 : Int64} {S : zs_T} {Q : zs_Q} (hB : zt_B bf) (h : w_X6_number_54 (zx σ n0 bf) d p0 p1 S Q) : zs_U (zx σ n0 bf) d 5011 54 [(0, .ref p0), (1, .long p1)] [] S Q := by
  unfold w_X6_number_54 at h
  refine zu_goto (t := 7) d_5011_54 rfl ?_
  exact h.weak ⟨rfl, rfl, trivial⟩
def w_X6_number_7 (X : zs_X) (d : Nat) (p0 : Nat) (p1 : Int64) (S : zs_T) (Q : zs_Q) : Prop :=
  (zs_K S p0 = some (.inl 5) ∧ zs_C X d 5006 [.ref p0, .int (zs_I S 5002 p0)] S (zs_kI (fun v3 S2 => (zs_C X d 5010 [.int v3] S2 (zs_kI (fun v5 S4 => (((v5 = 0 → (zs_K S4 p0 = some (.inl 5) ∧ zs_C X d 5006 [.ref p0, .int (zs_I S4 5002 p0)] S4 (zs_kI (fun v9 S8 => (((¬ v9 = (35 : Int32) → w_X6_number_176 X d p0 p1 S8 Q) ∧ (¬ (¬ v9 = (35 : Int32)) → (zs_C X d 30002 [.long p1, .long (99 : Int64)] S8 (zs_kJ (fun v12 S11 => (w_X6_number_79 X d p0 ((v12).toInt32) S11 Q)) Q)))))) Q))) ∧ (¬ (v5 = 0) → (zs_K S4 p0 = some (.inl 5) ∧ ab_n0 X.1 ≤ p0 ∧ ∀ S15, S15 = zs_sI S4 5002 p0 ((zs_I S4 5002 p0) + (1 : Int32)) → zs_C X d 5006 [.ref p0, .int (zs_I S4 5002 p0)] S15 (zs_kI (fun v19 S18 => (zs_C X d 30002 [.long ((((10 : Int64) * p1) + ((v19).toInt64)) - (48 : Int64)), .long (1099511627776 : Int64)] S18 (zs_kJ (fun v21 S20 => (w_X6_number_54 X d p0 v21 S20 Q)) Q))) Q)))))) Q))) Q))
theorem u_X6_number_7 {σ : Nat → Nat} {n0 : Nat} {bf : ab_B} {d : Nat} {p0 : Nat} {p1 : Int64} {S : zs_T} {Q : zs_Q} (hB : zt_B bf) (h : w_X6_number_7 (zx σ n0 bf) d p0 p1 S Q) : zs_U (zx σ n0 bf) d 5011 7 [(0, .ref p0), (1, .long p1)] [] S Q := by
  unfold w_X6_number_7 at h
  refine zu_aload_n d_5011_7 rfl (zs_ra _) ?_
  refine zu_aload_n d_5011_8 rfl (zs_ra _) ?_
  obtain ⟨k1, h⟩ := h
  refine zg_5_33 rfl d_5011_9 k1 ?_
  refine zc_5_71 (x0 := (zs_I S 5002 p0)) hB rfl k1 d_5011_12 (Nat.le_of_ble_eq_true rfl) h (fun v3 S2 h => ?_)
  refine zc_5_64 (x0 := v3) hB rfl d_5011_15 (Nat.le_of_ble_eq_true rfl) h (fun v5 S4 h => ?_)
  refine zu_ifeq (t := 57) d_5011_18 rfl (fun c6 => ?_) (fun c6 => ?_)
  · have h := h.1 c6
    refine zu_aload_n d_5011_57 rfl (zs_ra _) ?_
    refine zu_aload_n d_5011_58 rfl (zs_ra _) ?_
    obtain ⟨k7, h⟩ := h
    refine zg_5_33 rfl d_5011_59 k7 ?_
    refine zc_5_71 (x0 := (zs_I S4 5002 p0)) hB rfl k7 d_5011_62 (Nat.le_of_ble_eq_true rfl) h (fun v9 S8 h => ?_)
    refine zu_bipush d_5011_65 zj_35 ?_
    refine zu_cmpne (t := 176) d_5011_67 rfl (fun c10 => ?_) (fun c10 => ?_)
    · have h := h.1 c10
      exact (u_X6_number_176 hB h).weak ⟨rfl, rfl, trivial⟩
    · have h := h.2 c10
      refine zu_lload_n d_5011_70 rfl ?_
      refine zl2_5_122 rfl d_5011_71 ?_
      refine zc_5_116 (x0 := p1) (x1 := (99 : Int64)) hB rfl d_5011_74 (Nat.le_of_ble_eq_true rfl) h (fun v12 S11 h => ?_)
      refine zu_stk d_5011_77 rfl rfl ?_
      refine zu_istore_n d_5011_78 (zs_lt zq_5011 rfl) ?_
      exact (u_X6_number_79 hB h).weak ⟨rfl, rfl, trivial⟩
  · have h := h.2 c6
    refine zl2_5_110 rfl d_5011_21 ?_
    refine zu_lload_n d_5011_24 rfl ?_
    refine zu_stk d_5011_25 rfl rfl ?_
    refine zu_aload_n d_5011_26 rfl (zs_ra _) ?_
    refine zu_aload_n d_5011_27 rfl (zs_ra _) ?_
    refine zu_dup d_5011_28 rfl ?_
    obtain ⟨k13, h⟩ := h
    refine zg_5_33 rfl d_5011_29 k13 ?_
    refine zu_dup_x1 d_5011_32 rfl rfl ?_
    refine zu_iconst d_5011_33 zi_1 ?_
    refine zu_stk d_5011_34 rfl rfl ?_
    obtain ⟨k14, h⟩ := h
    refine zp_5_33 (v := ((zs_I S4 5002 p0) + (1 : Int32))) rfl d_5011_35 k13 k14 ?_
    generalize e16 : zs_sI S4 5002 p0 ((zs_I S4 5002 p0) + (1 : Int32)) = S15
    have h := h S15 e16.symm
    have K17 : ∀ b, zs_K S15 b = zs_K S4 b := zs_Kt e16 (zs_KsI _ _ _ _) (fun _ => rfl)
    refine zc_5_71 (x0 := (zs_I S4 5002 p0)) hB rfl ((K17 _).trans k13) d_5011_38 (Nat.le_of_ble_eq_true rfl) h (fun v19 S18 h => ?_)
    refine zu_stk d_5011_41 rfl rfl ?_
    refine zu_stk d_5011_42 rfl rfl ?_
    refine zl2_5_112 rfl d_5011_43 ?_
    refine zu_stk d_5011_46 rfl rfl ?_
    refine zl2_5_114 rfl d_5011_47 ?_
    refine zc_5_116 (x0 := ((((10 : Int64) * p1) + ((v19).toInt64)) - (48 : Int64))) (x1 := (1099511627776 : Int64)) hB rfl d_5011_50 (Nat.le_of_ble_eq_true rfl) h (fun v21 S20 h => ?_)
    refine zu_lstore_n d_5011_53 (zs_lt zq_5011 rfl) ?_
    exact (u_X6_number_54 hB h).weak ⟨rfl, rfl, trivial⟩
def w_X6_number_163 (X : zs_X) (d : Nat) (p0 : Nat) (S : zs_T) (Q : zs_Q) : Prop :=
  (∀ a1 S2, a1 = zs_N S → S2 = zs_nw S (.inl 9) 8 → zs_K S2 p0 = some (.inl 5) ∧ zs_C X d 9000 [.ref a1, .int (1 : Int32), .int (zs_I S2 5005 p0)] S2 (zs_kV (fun S7 => (Q (.threw a1) S7)) Q))
theorem u_X6_number_163 {σ : Nat → Nat} {n0 : Nat} {bf : ab_B} {d : Nat} {p0 : Nat} {S : zs_T} {Q : zs_Q} (hB : zt_B bf) (h : w_X6_number_163 (zx σ n0 bf) d p0 S Q) : zs_U (zx σ n0 bf) d 5011 163 [(0, .ref p0)] [] S Q := by
  unfold w_X6_number_163 at h
  refine zn_5_78 rfl d_5011_163 ?_
  generalize e4 : zs_nw S (.inl 9) 8 = S2
  generalize e3 : zs_N S = a1
  have h := h a1 S2 e3.symm e4.symm
  have k5 := zs_kn e3 e4
  refine zu_dup d_5011_166 rfl ?_
  refine zu_iconst d_5011_167 zi_1 ?_
  refine zu_aload_n d_5011_168 rfl (zs_ra _) ?_
  obtain ⟨k6, h⟩ := h
  refine zg_5_86 rfl d_5011_169 k6 ?_
  refine zc_5_80 (x0 := (1 : Int32)) (x1 := (zs_I S2 5005 p0)) hB rfl d_5011_172 (Nat.le_of_ble_eq_true rfl) h (fun S7 h => ?_)
  exact zu_throw d_5011_175 h
def w_X6_number_140 (X : zs_X) (d : Nat) (p0 : Nat) (p1 : Int64) (p3 : Int32) (p4 : Int32) (S : zs_T) (Q : zs_Q) : Prop :=
  (zs_U X d 5011 94 [(0, .ref p0), (1, .long p1), (3, .int p3), (4, .int p4)] [] S Q)
theorem u_X6_number_140 {σ : Nat → Nat} {n0 : Nat} {bf : ab_B} {d : Nat} {p0 : Nat} {p1 : Int64} {p3 : Int32} {p4 : Int32} {S : zs_T} {Q : zs_Q} (hB : zt_B bf) (h : w_X6_number_140 (zx σ n0 bf) d p0 p1 p3 p4 S Q) : zs_U (zx σ n0 bf) d 5011 140 [(0, .ref p0), (1, .long p1), (3, .int p3), (4, .int p4)] [] S Q := by
  unfold w_X6_number_140 at h
  refine zu_goto (t := 94) d_5011_140 rfl ?_
  exact h.weak ⟨rfl, rfl, rfl, rfl, trivial⟩
def w_X6_number_94 (X : zs_X) (d : Nat) (p0 : Nat) (p1 : Int64) (p3 : Int32) (p4 : Int32) (S : zs_T) (Q : zs_Q) : Prop :=
  (zs_K S p0 = some (.inl 5) ∧ zs_C X d 5006 [.ref p0, .int (zs_I S 5002 p0)] S (zs_kI (fun v3 S2 => (zs_C X d 5012 [.int v3] S2 (zs_kI (fun v5 S4 => (((p3 ≤ v5 → (((p3 < (2 : Int32) → w_X6_number_163 X d p0 S4 Q) ∧ (¬ (p3 < (2 : Int32)) → ((((36 : Int32) < p3 → w_X6_number_163 X d p0 S4 Q) ∧ (¬ ((36 : Int32) < p3) → (zs_K S4 p0 = some (.inl 5) ∧ ((¬ (zs_I S4 5002 p0) = p4 → w_X6_number_176 X d p0 p1 S4 Q) ∧ (¬ (¬ (zs_I S4 5002 p0) = p4) → w_X6_number_163 X d p0 S4 Q)))))))))) ∧ (¬ (p3 ≤ v5) → (zs_K S4 p0 = some (.inl 5) ∧ ab_n0 X.1 ≤ p0 ∧ ∀ S13, S13 = zs_sI S4 5002 p0 ((zs_I S4 5002 p0) + (1 : Int32)) → zs_C X d 5006 [.ref p0, .int (zs_I S4 5002 p0)] S13 (zs_kI (fun v17 S16 => (zs_C X d 5012 [.int v17] S16 (zs_kI (fun v19 S18 => (zs_C X d 30002 [.long ((((p3).toInt64) * p1) + ((v19).toInt64)), .long (1099511627776 : Int64)] S18 (zs_kJ (fun v21 S20 => (w_X6_number_140 X d p0 v21 p3 p4 S20 Q)) Q))) Q))) Q)))))) Q))) Q))
theorem u_X6_number_94 {σ : Nat → Nat} {n0 : Nat} {bf : ab_B} {d : Nat} {p0 : Nat} {p1 : Int64} {p3 : Int32} {p4 : Int32} {S : zs_T} {Q : zs_Q} (hB : zt_B bf) (h : w_X6_number_94 (zx σ n0 bf) d p0 p1 p3 p4 S Q) : zs_U (zx σ n0 bf) d 5011 94 [(0, .ref p0), (1, .long p1), (3, .int p3), (4, .int p4)] [] S Q := by
  unfold w_X6_number_94 at h
  refine zu_aload_n d_5011_94 rfl (zs_ra _) ?_
  refine zu_aload_n d_5011_95 rfl (zs_ra _) ?_
  obtain ⟨k1, h⟩ := h
  refine zg_5_33 rfl d_5011_96 k1 ?_
  refine zc_5_71 (x0 := (zs_I S 5002 p0)) hB rfl k1 d_5011_99 (Nat.le_of_ble_eq_true rfl) h (fun v3 S2 h => ?_)
  refine zc_5_124 (x0 := v3) hB rfl d_5011_102 (Nat.le_of_ble_eq_true rfl) h (fun v5 S4 h => ?_)
  refine zu_iload_n d_5011_105 rfl ?_
  refine zu_cmpge (t := 143) d_5011_106 rfl (fun c6 => ?_) (fun c6 => ?_)
  · have h := h.1 c6
    refine zu_iload_n d_5011_143 rfl ?_
    refine zu_iconst d_5011_144 zi_2 ?_
    refine zu_cmplt (t := 163) d_5011_145 rfl (fun c7 => ?_) (fun c7 => ?_)
    · have h := h.1 c7
      exact (u_X6_number_163 hB h).weak ⟨rfl, trivial⟩
    · have h := h.2 c7
      refine zu_iload_n d_5011_148 rfl ?_
      refine zu_bipush d_5011_149 zj_36 ?_
      refine zu_cmpgt (t := 163) d_5011_151 rfl (fun c8 => ?_) (fun c8 => ?_)
      · have h := h.1 c8
        exact (u_X6_number_163 hB h).weak ⟨rfl, trivial⟩
      · have h := h.2 c8
        refine zu_aload_n d_5011_154 rfl (zs_ra _) ?_
        obtain ⟨k9, h⟩ := h
        refine zg_5_33 rfl d_5011_155 k9 ?_
        refine zu_iload d_5011_158 rfl ?_
        refine zu_cmpne (t := 176) d_5011_160 rfl (fun c10 => ?_) (fun c10 => ?_)
        · have h := h.1 c10
          exact (u_X6_number_176 hB h).weak ⟨rfl, rfl, trivial⟩
        · have h := h.2 c10
          exact (u_X6_number_163 hB h).weak ⟨rfl, trivial⟩
  · have h := h.2 c6
    refine zu_iload_n d_5011_109 rfl ?_
    refine zu_stk d_5011_110 rfl rfl ?_
    refine zu_lload_n d_5011_111 rfl ?_
    refine zu_stk d_5011_112 rfl rfl ?_
    refine zu_aload_n d_5011_113 rfl (zs_ra _) ?_
    refine zu_aload_n d_5011_114 rfl (zs_ra _) ?_
    refine zu_dup d_5011_115 rfl ?_
    obtain ⟨k11, h⟩ := h
    refine zg_5_33 rfl d_5011_116 k11 ?_
    refine zu_dup_x1 d_5011_119 rfl rfl ?_
    refine zu_iconst d_5011_120 zi_1 ?_
    refine zu_stk d_5011_121 rfl rfl ?_
    obtain ⟨k12, h⟩ := h
    refine zp_5_33 (v := ((zs_I S4 5002 p0) + (1 : Int32))) rfl d_5011_122 k11 k12 ?_
    generalize e14 : zs_sI S4 5002 p0 ((zs_I S4 5002 p0) + (1 : Int32)) = S13
    have h := h S13 e14.symm
    have K15 : ∀ b, zs_K S13 b = zs_K S4 b := zs_Kt e14 (zs_KsI _ _ _ _) (fun _ => rfl)
    refine zc_5_71 (x0 := (zs_I S4 5002 p0)) hB rfl ((K15 _).trans k11) d_5011_125 (Nat.le_of_ble_eq_true rfl) h (fun v17 S16 h => ?_)
    refine zc_5_124 (x0 := v17) hB rfl d_5011_128 (Nat.le_of_ble_eq_true rfl) h (fun v19 S18 h => ?_)
    refine zu_stk d_5011_131 rfl rfl ?_
    refine zu_stk d_5011_132 rfl rfl ?_
    refine zl2_5_114 rfl d_5011_133 ?_
    refine zc_5_116 (x0 := ((((p3).toInt64) * p1) + ((v19).toInt64))) (x1 := (1099511627776 : Int64)) hB rfl d_5011_136 (Nat.le_of_ble_eq_true rfl) h (fun v21 S20 h => ?_)
    refine zu_lstore_n d_5011_139 (zs_lt zq_5011 rfl) ?_
    exact (u_X6_number_140 hB h).weak ⟨rfl, rfl, rfl, rfl, trivial⟩
def w_X6_number (X : zs_X) (d : Nat) (p0 : Nat) (S : zs_T) (Q : zs_Q) : Prop :=
  (zs_K S p0 = some (.inl 5) ∧ ab_n0 X.1 ≤ p0 ∧ ∀ S3, S3 = zs_sI S 5003 p0 (1 : Int32) → zs_U X d 5011 7 [(0, .ref p0), (1, .long (0 : Int64))] [] S3 Q)
theorem u_X6_number {σ : Nat → Nat} {n0 : Nat} {bf : ab_B} {d : Nat} {p0 : Nat} {S : zs_T} {Q : zs_Q} (hB : zt_B bf) (hd : 1 ≤ d) (h : w_X6_number (zx σ n0 bf) (d - 1) p0 S Q) : zs_C (zx σ n0 bf) d 5011 [.ref p0] S Q := by
  have hL : lv_args 0 [.ref p0] = [(0, .ref p0)] := rfl
  refine zs_C.of1 (hB.2 5011 (by decide) (by decide)) hd (by rw [hL]; exact zs_sub_self _ (by exact ⟨rfl, trivial⟩)) ?_
  rw [hL]
  clear hL
  unfold w_X6_number at h
  refine zu_aload_n d_5011_0 rfl (zs_ra _) ?_
  refine zu_iconst d_5011_1 zi_1 ?_
  obtain ⟨k1, h⟩ := h
  obtain ⟨k2, h⟩ := h
  refine zp_5_89 (v := (1 : Int32)) rfl d_5011_2 k1 k2 ?_
  generalize e4 : zs_sI S 5003 p0 (1 : Int32) = S3
  have h := h S3 e4.symm
  have K5 : ∀ b, zs_K S3 b = zs_K S b := zs_Kt e4 (zs_KsI _ _ _ _) (fun _ => rfl)
  refine zu_lconst (v := 0) d_5011_5 rfl ?_
  refine zu_lstore_n d_5011_6 (zs_lt zq_5011 rfl) ?_
  exact h.weak ⟨rfl, rfl, trivial⟩
/-! SchemaPascal$Words.digit(I)I -/
theorem zm_5012 {σ : Nat → Nat} {n0 : Nat} {bf : ab_B} : ab_code (zx σ n0 bf).1 5012 = prog_15_method_8_code := rfl
theorem zq_5012 {σ : Nat → Nat} {n0 : Nat} {bf : ab_B} : ab_maxL (zx σ n0 bf).1 5012 = 1 := rfl
theorem zr_5012 {σ : Nat → Nat} {n0 : Nat} {bf : ab_B} : ab_ret (zx σ n0 bf).1 5012 = (Option.some Jvm.ClassFile.FieldType.int) := rfl
theorem d_5012_0 {σ : Nat → Nat} {n0 : Nat} {bf : ab_B} : decode (ab_code (zx σ n0 bf).1 5012) 0 = .ok (.iload_n 0, 1) := zd zm_5012 (by decide +kernel)
theorem d_5012_1 {σ : Nat → Nat} {n0 : Nat} {bf : ab_B} : decode (ab_code (zx σ n0 bf).1 5012) 1 = .ok (.invokestatic 64, 3) := zd zm_5012 (by decide +kernel)
theorem d_5012_4 {σ : Nat → Nat} {n0 : Nat} {bf : ab_B} : decode (ab_code (zx σ n0 bf).1 5012) 4 = .ok (.ifCond .eq 10, 3) := zd zm_5012 (by decide +kernel)
theorem d_5012_7 {σ : Nat → Nat} {n0 : Nat} {bf : ab_B} : decode (ab_code (zx σ n0 bf).1 5012) 7 = .ok (.iload_n 0, 1) := zd zm_5012 (by decide +kernel)
theorem d_5012_8 {σ : Nat → Nat} {n0 : Nat} {bf : ab_B} : decode (ab_code (zx σ n0 bf).1 5012) 8 = .ok (.bipush 48, 2) := zd zm_5012 (by decide +kernel)
theorem d_5012_10 {σ : Nat → Nat} {n0 : Nat} {bf : ab_B} : decode (ab_code (zx σ n0 bf).1 5012) 10 = .ok (.isub, 1) := zd zm_5012 (by decide +kernel)
theorem d_5012_11 {σ : Nat → Nat} {n0 : Nat} {bf : ab_B} : decode (ab_code (zx σ n0 bf).1 5012) 11 = .ok (.goto 25, 3) := zd zm_5012 (by decide +kernel)
theorem d_5012_14 {σ : Nat → Nat} {n0 : Nat} {bf : ab_B} : decode (ab_code (zx σ n0 bf).1 5012) 14 = .ok (.iload_n 0, 1) := zd zm_5012 (by decide +kernel)
theorem d_5012_15 {σ : Nat → Nat} {n0 : Nat} {bf : ab_B} : decode (ab_code (zx σ n0 bf).1 5012) 15 = .ok (.invokestatic 68, 3) := zd zm_5012 (by decide +kernel)
theorem d_5012_18 {σ : Nat → Nat} {n0 : Nat} {bf : ab_B} : decode (ab_code (zx σ n0 bf).1 5012) 18 = .ok (.ifCond .eq 16, 3) := zd zm_5012 (by decide +kernel)
theorem d_5012_21 {σ : Nat → Nat} {n0 : Nat} {bf : ab_B} : decode (ab_code (zx σ n0 bf).1 5012) 21 = .ok (.iload_n 0, 1) := zd zm_5012 (by decide +kernel)
theorem d_5012_22 {σ : Nat → Nat} {n0 : Nat} {bf : ab_B} : decode (ab_code (zx σ n0 bf).1 5012) 22 = .ok (.bipush 32, 2) := zd zm_5012 (by decide +kernel)
theorem d_5012_24 {σ : Nat → Nat} {n0 : Nat} {bf : ab_B} : decode (ab_code (zx σ n0 bf).1 5012) 24 = .ok (.ior, 1) := zd zm_5012 (by decide +kernel)
theorem d_5012_25 {σ : Nat → Nat} {n0 : Nat} {bf : ab_B} : decode (ab_code (zx σ n0 bf).1 5012) 25 = .ok (.bipush 97, 2) := zd zm_5012 (by decide +kernel)
theorem d_5012_27 {σ : Nat → Nat} {n0 : Nat} {bf : ab_B} : decode (ab_code (zx σ n0 bf).1 5012) 27 = .ok (.isub, 1) := zd zm_5012 (by decide +kernel)
theorem d_5012_28 {σ : Nat → Nat} {n0 : Nat} {bf : ab_B} : decode (ab_code (zx σ n0 bf).1 5012) 28 = .ok (.bipush 10, 2) := zd zm_5012 (by decide +kernel)
theorem d_5012_30 {σ : Nat → Nat} {n0 : Nat} {bf : ab_B} : decode (ab_code (zx σ n0 bf).1 5012) 30 = .ok (.iadd, 1) := zd zm_5012 (by decide +kernel)
theorem d_5012_31 {σ : Nat → Nat} {n0 : Nat} {bf : ab_B} : decode (ab_code (zx σ n0 bf).1 5012) 31 = .ok (.goto 5, 3) := zd zm_5012 (by decide +kernel)
theorem d_5012_34 {σ : Nat → Nat} {n0 : Nat} {bf : ab_B} : decode (ab_code (zx σ n0 bf).1 5012) 34 = .ok (.bipush 99, 2) := zd zm_5012 (by decide +kernel)
theorem d_5012_36 {σ : Nat → Nat} {n0 : Nat} {bf : ab_B} : decode (ab_code (zx σ n0 bf).1 5012) 36 = .ok (.ireturn, 1) := zd zm_5012 (by decide +kernel)
def w_X6_digit (X : zs_X) (d : Nat) (p0 : Int32) (S : zs_T) (Q : zs_Q) : Prop :=
  (zs_C X d 5010 [.int p0] S (zs_kI (fun v2 S1 => (((v2 = 0 → (zs_C X d 5008 [.int p0] S1 (zs_kI (fun v5 S4 => (((v5 = 0 → (Q (.returned (some (.int (99 : Int32)))) S4)) ∧ (¬ (v5 = 0) → (Q (.returned (some (.int (((p0 ||| (32 : Int32)) - (97 : Int32)) + (10 : Int32))))) S4))))) Q))) ∧ (¬ (v2 = 0) → (Q (.returned (some (.int (p0 - (48 : Int32))))) S1))))) Q))
theorem u_X6_digit {σ : Nat → Nat} {n0 : Nat} {bf : ab_B} {d : Nat} {p0 : Int32} {S : zs_T} {Q : zs_Q} (hB : zt_B bf) (hd : 1 ≤ d) (h : w_X6_digit (zx σ n0 bf) (d - 1) p0 S Q) : zs_C (zx σ n0 bf) d 5012 [.int p0] S Q := by
  have hL : lv_args 0 [.int p0] = [(0, .int p0)] := rfl
  refine zs_C.of1 (hB.2 5012 (by decide) (by decide)) hd (by rw [hL]; exact zs_sub_self _ (by exact ⟨rfl, trivial⟩)) ?_
  rw [hL]
  clear hL
  unfold w_X6_digit at h
  refine zu_iload_n d_5012_0 rfl ?_
  refine zc_5_64 (x0 := p0) hB rfl d_5012_1 (Nat.le_of_ble_eq_true rfl) h (fun v2 S1 h => ?_)
  refine zu_ifeq (t := 14) d_5012_4 rfl (fun c3 => ?_) (fun c3 => ?_)
  · have h := h.1 c3
    refine zu_iload_n d_5012_14 rfl ?_
    refine zc_5_68 (x0 := p0) hB rfl d_5012_15 (Nat.le_of_ble_eq_true rfl) h (fun v5 S4 h => ?_)
    refine zu_ifeq (t := 34) d_5012_18 rfl (fun c6 => ?_) (fun c6 => ?_)
    · have h := h.1 c6
      refine zu_bipush d_5012_34 zj_99 ?_
      exact zu_iret d_5012_36 zr_5012 rfl h
    · have h := h.2 c6
      refine zu_iload_n d_5012_21 rfl ?_
      refine zu_bipush d_5012_22 zj_32 ?_
      refine zu_stk d_5012_24 rfl rfl ?_
      refine zu_bipush d_5012_25 zj_97 ?_
      refine zu_stk d_5012_27 rfl rfl ?_
      refine zu_bipush d_5012_28 zj_10 ?_
      refine zu_stk d_5012_30 rfl rfl ?_
      refine zu_goto (t := 36) d_5012_31 rfl ?_
      exact zu_iret d_5012_36 zr_5012 rfl h
  · have h := h.2 c3
    refine zu_iload_n d_5012_7 rfl ?_
    refine zu_bipush d_5012_8 zj_48 ?_
    refine zu_stk d_5012_10 rfl rfl ?_
    refine zu_goto (t := 36) d_5012_11 rfl ?_
    exact zu_iret d_5012_36 zr_5012 rfl h
/-! SchemaPascal$Words.text()V -/
theorem zm_5013 {σ : Nat → Nat} {n0 : Nat} {bf : ab_B} : ab_code (zx σ n0 bf).1 5013 = prog_15_method_14_code := rfl
theorem zq_5013 {σ : Nat → Nat} {n0 : Nat} {bf : ab_B} : ab_maxL (zx σ n0 bf).1 5013 = 2 := rfl
theorem zr_5013 {σ : Nat → Nat} {n0 : Nat} {bf : ab_B} : ab_ret (zx σ n0 bf).1 5013 = (Option.none : Option Jvm.ClassFile.FieldType) := rfl
theorem d_5013_0 {σ : Nat → Nat} {n0 : Nat} {bf : ab_B} : decode (ab_code (zx σ n0 bf).1 5013) 0 = .ok (.aload_n 0, 1) := zd zm_5013 (by decide +kernel)
theorem d_5013_1 {σ : Nat → Nat} {n0 : Nat} {bf : ab_B} : decode (ab_code (zx σ n0 bf).1 5013) 1 = .ok (.iconst 2, 1) := zd zm_5013 (by decide +kernel)
theorem d_5013_2 {σ : Nat → Nat} {n0 : Nat} {bf : ab_B} : decode (ab_code (zx σ n0 bf).1 5013) 2 = .ok (.putfield 89, 3) := zd zm_5013 (by decide +kernel)
theorem d_5013_5 {σ : Nat → Nat} {n0 : Nat} {bf : ab_B} : decode (ab_code (zx σ n0 bf).1 5013) 5 = .ok (.iconst 0, 1) := zd zm_5013 (by decide +kernel)
theorem d_5013_6 {σ : Nat → Nat} {n0 : Nat} {bf : ab_B} : decode (ab_code (zx σ n0 bf).1 5013) 6 = .ok (.istore_n 1, 1) := zd zm_5013 (by decide +kernel)
theorem d_5013_7 {σ : Nat → Nat} {n0 : Nat} {bf : ab_B} : decode (ab_code (zx σ n0 bf).1 5013) 7 = .ok (.aload_n 0, 1) := zd zm_5013 (by decide +kernel)
theorem d_5013_8 {σ : Nat → Nat} {n0 : Nat} {bf : ab_B} : decode (ab_code (zx σ n0 bf).1 5013) 8 = .ok (.dup, 1) := zd zm_5013 (by decide +kernel)
theorem d_5013_9 {σ : Nat → Nat} {n0 : Nat} {bf : ab_B} : decode (ab_code (zx σ n0 bf).1 5013) 9 = .ok (.getfield 33, 3) := zd zm_5013 (by decide +kernel)
theorem d_5013_12 {σ : Nat → Nat} {n0 : Nat} {bf : ab_B} : decode (ab_code (zx σ n0 bf).1 5013) 12 = .ok (.iconst 1, 1) := zd zm_5013 (by decide +kernel)
theorem d_5013_13 {σ : Nat → Nat} {n0 : Nat} {bf : ab_B} : decode (ab_code (zx σ n0 bf).1 5013) 13 = .ok (.iadd, 1) := zd zm_5013 (by decide +kernel)
theorem d_5013_14 {σ : Nat → Nat} {n0 : Nat} {bf : ab_B} : decode (ab_code (zx σ n0 bf).1 5013) 14 = .ok (.putfield 33, 3) := zd zm_5013 (by decide +kernel)
theorem d_5013_17 {σ : Nat → Nat} {n0 : Nat} {bf : ab_B} : decode (ab_code (zx σ n0 bf).1 5013) 17 = .ok (.aload_n 0, 1) := zd zm_5013 (by decide +kernel)
theorem d_5013_18 {σ : Nat → Nat} {n0 : Nat} {bf : ab_B} : decode (ab_code (zx σ n0 bf).1 5013) 18 = .ok (.getfield 33, 3) := zd zm_5013 (by decide +kernel)
theorem d_5013_21 {σ : Nat → Nat} {n0 : Nat} {bf : ab_B} : decode (ab_code (zx σ n0 bf).1 5013) 21 = .ok (.aload_n 0, 1) := zd zm_5013 (by decide +kernel)
theorem d_5013_22 {σ : Nat → Nat} {n0 : Nat} {bf : ab_B} : decode (ab_code (zx σ n0 bf).1 5013) 22 = .ok (.getfield 29, 3) := zd zm_5013 (by decide +kernel)
theorem d_5013_25 {σ : Nat → Nat} {n0 : Nat} {bf : ab_B} : decode (ab_code (zx σ n0 bf).1 5013) 25 = .ok (.if_icmp .ge 90, 3) := zd zm_5013 (by decide +kernel)
theorem d_5013_28 {σ : Nat → Nat} {n0 : Nat} {bf : ab_B} : decode (ab_code (zx σ n0 bf).1 5013) 28 = .ok (.aload_n 0, 1) := zd zm_5013 (by decide +kernel)
theorem d_5013_29 {σ : Nat → Nat} {n0 : Nat} {bf : ab_B} : decode (ab_code (zx σ n0 bf).1 5013) 29 = .ok (.aload_n 0, 1) := zd zm_5013 (by decide +kernel)
theorem d_5013_30 {σ : Nat → Nat} {n0 : Nat} {bf : ab_B} : decode (ab_code (zx σ n0 bf).1 5013) 30 = .ok (.getfield 33, 3) := zd zm_5013 (by decide +kernel)
theorem d_5013_33 {σ : Nat → Nat} {n0 : Nat} {bf : ab_B} : decode (ab_code (zx σ n0 bf).1 5013) 33 = .ok (.invokevirtual 71, 3) := zd zm_5013 (by decide +kernel)
theorem d_5013_36 {σ : Nat → Nat} {n0 : Nat} {bf : ab_B} : decode (ab_code (zx σ n0 bf).1 5013) 36 = .ok (.bipush 39, 2) := zd zm_5013 (by decide +kernel)
theorem d_5013_38 {σ : Nat → Nat} {n0 : Nat} {bf : ab_B} : decode (ab_code (zx σ n0 bf).1 5013) 38 = .ok (.if_icmp .ne 18, 3) := zd zm_5013 (by decide +kernel)
theorem d_5013_41 {σ : Nat → Nat} {n0 : Nat} {bf : ab_B} : decode (ab_code (zx σ n0 bf).1 5013) 41 = .ok (.aload_n 0, 1) := zd zm_5013 (by decide +kernel)
theorem d_5013_42 {σ : Nat → Nat} {n0 : Nat} {bf : ab_B} : decode (ab_code (zx σ n0 bf).1 5013) 42 = .ok (.aload_n 0, 1) := zd zm_5013 (by decide +kernel)
theorem d_5013_43 {σ : Nat → Nat} {n0 : Nat} {bf : ab_B} : decode (ab_code (zx σ n0 bf).1 5013) 43 = .ok (.getfield 33, 3) := zd zm_5013 (by decide +kernel)
theorem d_5013_46 {σ : Nat → Nat} {n0 : Nat} {bf : ab_B} : decode (ab_code (zx σ n0 bf).1 5013) 46 = .ok (.iconst 1, 1) := zd zm_5013 (by decide +kernel)
theorem d_5013_47 {σ : Nat → Nat} {n0 : Nat} {bf : ab_B} : decode (ab_code (zx σ n0 bf).1 5013) 47 = .ok (.iadd, 1) := zd zm_5013 (by decide +kernel)
theorem d_5013_48 {σ : Nat → Nat} {n0 : Nat} {bf : ab_B} : decode (ab_code (zx σ n0 bf).1 5013) 48 = .ok (.invokevirtual 71, 3) := zd zm_5013 (by decide +kernel)
theorem d_5013_51 {σ : Nat → Nat} {n0 : Nat} {bf : ab_B} : decode (ab_code (zx σ n0 bf).1 5013) 51 = .ok (.bipush 39, 2) := zd zm_5013 (by decide +kernel)
theorem d_5013_53 {σ : Nat → Nat} {n0 : Nat} {bf : ab_B} : decode (ab_code (zx σ n0 bf).1 5013) 53 = .ok (.if_icmp .ne 62, 3) := zd zm_5013 (by decide +kernel)
theorem d_5013_56 {σ : Nat → Nat} {n0 : Nat} {bf : ab_B} : decode (ab_code (zx σ n0 bf).1 5013) 56 = .ok (.aload_n 0, 1) := zd zm_5013 (by decide +kernel)
theorem d_5013_57 {σ : Nat → Nat} {n0 : Nat} {bf : ab_B} : decode (ab_code (zx σ n0 bf).1 5013) 57 = .ok (.aload_n 0, 1) := zd zm_5013 (by decide +kernel)
theorem d_5013_58 {σ : Nat → Nat} {n0 : Nat} {bf : ab_B} : decode (ab_code (zx σ n0 bf).1 5013) 58 = .ok (.getfield 33, 3) := zd zm_5013 (by decide +kernel)
theorem d_5013_61 {σ : Nat → Nat} {n0 : Nat} {bf : ab_B} : decode (ab_code (zx σ n0 bf).1 5013) 61 = .ok (.invokevirtual 71, 3) := zd zm_5013 (by decide +kernel)
theorem d_5013_64 {σ : Nat → Nat} {n0 : Nat} {bf : ab_B} : decode (ab_code (zx σ n0 bf).1 5013) 64 = .ok (.bipush 32, 2) := zd zm_5013 (by decide +kernel)
theorem d_5013_66 {σ : Nat → Nat} {n0 : Nat} {bf : ab_B} : decode (ab_code (zx σ n0 bf).1 5013) 66 = .ok (.if_icmp .ge 16, 3) := zd zm_5013 (by decide +kernel)
theorem d_5013_69 {σ : Nat → Nat} {n0 : Nat} {bf : ab_B} : decode (ab_code (zx σ n0 bf).1 5013) 69 = .ok (.new 78, 3) := zd zm_5013 (by decide +kernel)
theorem d_5013_72 {σ : Nat → Nat} {n0 : Nat} {bf : ab_B} : decode (ab_code (zx σ n0 bf).1 5013) 72 = .ok (.dup, 1) := zd zm_5013 (by decide +kernel)
theorem d_5013_73 {σ : Nat → Nat} {n0 : Nat} {bf : ab_B} : decode (ab_code (zx σ n0 bf).1 5013) 73 = .ok (.iconst 1, 1) := zd zm_5013 (by decide +kernel)
theorem d_5013_74 {σ : Nat → Nat} {n0 : Nat} {bf : ab_B} : decode (ab_code (zx σ n0 bf).1 5013) 74 = .ok (.aload_n 0, 1) := zd zm_5013 (by decide +kernel)
theorem d_5013_75 {σ : Nat → Nat} {n0 : Nat} {bf : ab_B} : decode (ab_code (zx σ n0 bf).1 5013) 75 = .ok (.getfield 86, 3) := zd zm_5013 (by decide +kernel)
theorem d_5013_78 {σ : Nat → Nat} {n0 : Nat} {bf : ab_B} : decode (ab_code (zx σ n0 bf).1 5013) 78 = .ok (.invokespecial 80, 3) := zd zm_5013 (by decide +kernel)
theorem d_5013_81 {σ : Nat → Nat} {n0 : Nat} {bf : ab_B} : decode (ab_code (zx σ n0 bf).1 5013) 81 = .ok (.athrow, 1) := zd zm_5013 (by decide +kernel)
theorem d_5013_82 {σ : Nat → Nat} {n0 : Nat} {bf : ab_B} : decode (ab_code (zx σ n0 bf).1 5013) 82 = .ok (.aload_n 0, 1) := zd zm_5013 (by decide +kernel)
theorem d_5013_83 {σ : Nat → Nat} {n0 : Nat} {bf : ab_B} : decode (ab_code (zx σ n0 bf).1 5013) 83 = .ok (.dup, 1) := zd zm_5013 (by decide +kernel)
theorem d_5013_84 {σ : Nat → Nat} {n0 : Nat} {bf : ab_B} : decode (ab_code (zx σ n0 bf).1 5013) 84 = .ok (.getfield 33, 3) := zd zm_5013 (by decide +kernel)
theorem d_5013_87 {σ : Nat → Nat} {n0 : Nat} {bf : ab_B} : decode (ab_code (zx σ n0 bf).1 5013) 87 = .ok (.aload_n 0, 1) := zd zm_5013 (by decide +kernel)
theorem d_5013_88 {σ : Nat → Nat} {n0 : Nat} {bf : ab_B} : decode (ab_code (zx σ n0 bf).1 5013) 88 = .ok (.aload_n 0, 1) := zd zm_5013 (by decide +kernel)
theorem d_5013_89 {σ : Nat → Nat} {n0 : Nat} {bf : ab_B} : decode (ab_code (zx σ n0 bf).1 5013) 89 = .ok (.getfield 33, 3) := zd zm_5013 (by decide +kernel)
theorem d_5013_92 {σ : Nat → Nat} {n0 : Nat} {bf : ab_B} : decode (ab_code (zx σ n0 bf).1 5013) 92 = .ok (.invokevirtual 71, 3) := zd zm_5013 (by decide +kernel)
theorem d_5013_95 {σ : Nat → Nat} {n0 : Nat} {bf : ab_B} : decode (ab_code (zx σ n0 bf).1 5013) 95 = .ok (.bipush 39, 2) := zd zm_5013 (by decide +kernel)
theorem d_5013_97 {σ : Nat → Nat} {n0 : Nat} {bf : ab_B} : decode (ab_code (zx σ n0 bf).1 5013) 97 = .ok (.if_icmp .ne 7, 3) := zd zm_5013 (by decide +kernel)
theorem d_5013_100 {σ : Nat → Nat} {n0 : Nat} {bf : ab_B} : decode (ab_code (zx σ n0 bf).1 5013) 100 = .ok (.iconst 2, 1) := zd zm_5013 (by decide +kernel)
theorem d_5013_101 {σ : Nat → Nat} {n0 : Nat} {bf : ab_B} : decode (ab_code (zx σ n0 bf).1 5013) 101 = .ok (.goto 4, 3) := zd zm_5013 (by decide +kernel)
theorem d_5013_104 {σ : Nat → Nat} {n0 : Nat} {bf : ab_B} : decode (ab_code (zx σ n0 bf).1 5013) 104 = .ok (.iconst 1, 1) := zd zm_5013 (by decide +kernel)
theorem d_5013_105 {σ : Nat → Nat} {n0 : Nat} {bf : ab_B} : decode (ab_code (zx σ n0 bf).1 5013) 105 = .ok (.iadd, 1) := zd zm_5013 (by decide +kernel)
theorem d_5013_106 {σ : Nat → Nat} {n0 : Nat} {bf : ab_B} : decode (ab_code (zx σ n0 bf).1 5013) 106 = .ok (.putfield 33, 3) := zd zm_5013 (by decide +kernel)
theorem d_5013_109 {σ : Nat → Nat} {n0 : Nat} {bf : ab_B} : decode (ab_code (zx σ n0 bf).1 5013) 109 = .ok (.iinc 1 1, 3) := zd zm_5013 (by decide +kernel)
theorem d_5013_112 {σ : Nat → Nat} {n0 : Nat} {bf : ab_B} : decode (ab_code (zx σ n0 bf).1 5013) 112 = .ok (.goto (-95), 3) := zd zm_5013 (by decide +kernel)
theorem d_5013_115 {σ : Nat → Nat} {n0 : Nat} {bf : ab_B} : decode (ab_code (zx σ n0 bf).1 5013) 115 = .ok (.aload_n 0, 1) := zd zm_5013 (by decide +kernel)
theorem d_5013_116 {σ : Nat → Nat} {n0 : Nat} {bf : ab_B} : decode (ab_code (zx σ n0 bf).1 5013) 116 = .ok (.getfield 33, 3) := zd zm_5013 (by decide +kernel)
theorem d_5013_119 {σ : Nat → Nat} {n0 : Nat} {bf : ab_B} : decode (ab_code (zx σ n0 bf).1 5013) 119 = .ok (.aload_n 0, 1) := zd zm_5013 (by decide +kernel)
theorem d_5013_120 {σ : Nat → Nat} {n0 : Nat} {bf : ab_B} : decode (ab_code (zx σ n0 bf).1 5013) 120 = .ok (.getfield 29, 3) := zd zm_5013 (by decide +kernel)
theorem d_5013_123 {σ : Nat → Nat} {n0 : Nat} {bf : ab_B} : decode (ab_code (zx σ n0 bf).1 5013) 123 = .ok (.if_icmp .ge 14, 3) := zd zm_5013 (by decide +kernel)
theorem d_5013_126 {σ : Nat → Nat} {n0 : Nat} {bf : ab_B} : decode (ab_code (zx σ n0 bf).1 5013) 126 = .ok (.iload_n 1, 1) := zd zm_5013 (by decide +kernel)
theorem d_5013_127 {σ : Nat → Nat} {n0 : Nat} {bf : ab_B} : decode (ab_code (zx σ n0 bf).1 5013) 127 = .ok (.iconst 1, 1) := zd zm_5013 (by decide +kernel)
theorem d_5013_128 {σ : Nat → Nat} {n0 : Nat} {bf : ab_B} : decode (ab_code (zx σ n0 bf).1 5013) 128 = .ok (.if_icmp .lt 9, 3) := zd zm_5013 (by decide +kernel)
theorem d_5013_131 {σ : Nat → Nat} {n0 : Nat} {bf : ab_B} : decode (ab_code (zx σ n0 bf).1 5013) 131 = .ok (.iload_n 1, 1) := zd zm_5013 (by decide +kernel)
theorem d_5013_132 {σ : Nat → Nat} {n0 : Nat} {bf : ab_B} : decode (ab_code (zx σ n0 bf).1 5013) 132 = .ok (.bipush 80, 2) := zd zm_5013 (by decide +kernel)
theorem d_5013_134 {σ : Nat → Nat} {n0 : Nat} {bf : ab_B} : decode (ab_code (zx σ n0 bf).1 5013) 134 = .ok (.if_icmp .le 16, 3) := zd zm_5013 (by decide +kernel)
theorem d_5013_137 {σ : Nat → Nat} {n0 : Nat} {bf : ab_B} : decode (ab_code (zx σ n0 bf).1 5013) 137 = .ok (.new 78, 3) := zd zm_5013 (by decide +kernel)
theorem d_5013_140 {σ : Nat → Nat} {n0 : Nat} {bf : ab_B} : decode (ab_code (zx σ n0 bf).1 5013) 140 = .ok (.dup, 1) := zd zm_5013 (by decide +kernel)
theorem d_5013_141 {σ : Nat → Nat} {n0 : Nat} {bf : ab_B} : decode (ab_code (zx σ n0 bf).1 5013) 141 = .ok (.iconst 1, 1) := zd zm_5013 (by decide +kernel)
theorem d_5013_142 {σ : Nat → Nat} {n0 : Nat} {bf : ab_B} : decode (ab_code (zx σ n0 bf).1 5013) 142 = .ok (.aload_n 0, 1) := zd zm_5013 (by decide +kernel)
theorem d_5013_143 {σ : Nat → Nat} {n0 : Nat} {bf : ab_B} : decode (ab_code (zx σ n0 bf).1 5013) 143 = .ok (.getfield 86, 3) := zd zm_5013 (by decide +kernel)
theorem d_5013_146 {σ : Nat → Nat} {n0 : Nat} {bf : ab_B} : decode (ab_code (zx σ n0 bf).1 5013) 146 = .ok (.invokespecial 80, 3) := zd zm_5013 (by decide +kernel)
theorem d_5013_149 {σ : Nat → Nat} {n0 : Nat} {bf : ab_B} : decode (ab_code (zx σ n0 bf).1 5013) 149 = .ok (.athrow, 1) := zd zm_5013 (by decide +kernel)
theorem d_5013_150 {σ : Nat → Nat} {n0 : Nat} {bf : ab_B} : decode (ab_code (zx σ n0 bf).1 5013) 150 = .ok (.aload_n 0, 1) := zd zm_5013 (by decide +kernel)
theorem d_5013_151 {σ : Nat → Nat} {n0 : Nat} {bf : ab_B} : decode (ab_code (zx σ n0 bf).1 5013) 151 = .ok (.dup, 1) := zd zm_5013 (by decide +kernel)
theorem d_5013_152 {σ : Nat → Nat} {n0 : Nat} {bf : ab_B} : decode (ab_code (zx σ n0 bf).1 5013) 152 = .ok (.getfield 33, 3) := zd zm_5013 (by decide +kernel)
theorem d_5013_155 {σ : Nat → Nat} {n0 : Nat} {bf : ab_B} : decode (ab_code (zx σ n0 bf).1 5013) 155 = .ok (.iconst 1, 1) := zd zm_5013 (by decide +kernel)
theorem d_5013_156 {σ : Nat → Nat} {n0 : Nat} {bf : ab_B} : decode (ab_code (zx σ n0 bf).1 5013) 156 = .ok (.iadd, 1) := zd zm_5013 (by decide +kernel)
theorem d_5013_157 {σ : Nat → Nat} {n0 : Nat} {bf : ab_B} : decode (ab_code (zx σ n0 bf).1 5013) 157 = .ok (.putfield 33, 3) := zd zm_5013 (by decide +kernel)
theorem d_5013_160 {σ : Nat → Nat} {n0 : Nat} {bf : ab_B} : decode (ab_code (zx σ n0 bf).1 5013) 160 = .ok (.return_, 1) := zd zm_5013 (by decide +kernel)
def w_X6_text_137 (X : zs_X) (d : Nat) (p0 : Nat) (S : zs_T) (Q : zs_Q) : Prop :=
  (∀ a1 S2, a1 = zs_N S → S2 = zs_nw S (.inl 9) 8 → zs_K S2 p0 = some (.inl 5) ∧ zs_C X d 9000 [.ref a1, .int (1 : Int32), .int (zs_I S2 5005 p0)] S2 (zs_kV (fun S7 => (Q (.threw a1) S7)) Q))
theorem u_X6_text_137 {σ : Nat → Nat} {n0 : Nat} {bf : ab_B} {d : Nat} {p0 : Nat} {S : zs_T} {Q : zs_Q} (hB : zt_B bf) (h : w_X6_text_137 (zx σ n0 bf) d p0 S Q) : zs_U (zx σ n0 bf) d 5013 137 [(0, .ref p0)] [] S Q := by
  unfold w_X6_text_137 at h
  refine zn_5_78 rfl d_5013_137 ?_
  generalize e4 : zs_nw S (.inl 9) 8 = S2
  generalize e3 : zs_N S = a1
  have h := h a1 S2 e3.symm e4.symm
  have k5 := zs_kn e3 e4
  refine zu_dup d_5013_140 rfl ?_
  refine zu_iconst d_5013_141 zi_1 ?_
  refine zu_aload_n d_5013_142 rfl (zs_ra _) ?_
  obtain ⟨k6, h⟩ := h
  refine zg_5_86 rfl d_5013_143 k6 ?_
  refine zc_5_80 (x0 := (1 : Int32)) (x1 := (zs_I S2 5005 p0)) hB rfl d_5013_146 (Nat.le_of_ble_eq_true rfl) h (fun S7 h => ?_)
  exact zu_throw d_5013_149 h
def w_X6_text_160 (X : zs_X) (d : Nat)  (S : zs_T) (Q : zs_Q) : Prop :=
  (Q (.returned none) S)
theorem u_X6_text_160 {σ : Nat → Nat} {n0 : Nat} {bf : ab_B} {d : Nat}  {S : zs_T} {Q : zs_Q} (hB : zt_B bf) (h : w_X6_text_160 (zx σ n0 bf) d  S Q) : zs_U (zx σ n0 bf) d 5013 160 [] [] S Q := by
  unfold w_X6_text_160 at h
  exact zu_vret d_5013_160 zr_5013 h
def w_X6_text_115 (X : zs_X) (d : Nat) (p0 : Nat) (p1 : Int32) (S : zs_T) (Q : zs_Q) : Prop :=
  (zs_K S p0 = some (.inl 5) ∧ (((zs_I S 5001 p0) ≤ (zs_I S 5002 p0) → w_X6_text_137 X d p0 S Q) ∧ (¬ ((zs_I S 5001 p0) ≤ (zs_I S 5002 p0)) → (((p1 < (1 : Int32) → w_X6_text_137 X d p0 S Q) ∧ (¬ (p1 < (1 : Int32)) → (((p1 ≤ (80 : Int32) → (ab_n0 X.1 ≤ p0 ∧ ∀ S6, S6 = zs_sI S 5002 p0 ((zs_I S 5002 p0) + (1 : Int32)) → w_X6_text_160 X d  S6 Q)) ∧ (¬ (p1 ≤ (80 : Int32)) → w_X6_text_137 X d p0 S Q)))))))))
theorem u_X6_text_115 {σ : Nat → Nat} {n0 : Nat} {bf : ab_B} {d : Nat} {p0 : Nat} {p1 : Int32} {S : zs_T} {Q : zs_Q} (hB : zt_B bf) (h : w_X6_text_115 (zx σ n0 bf) d p0 p1 S Q) : zs_U (zx σ n0 bf) d 5013 115 [(0, .ref p0), (1, .int p1)] [] S Q := by
  unfold w_X6_text_115 at h
  refine zu_aload_n d_5013_115 rfl (zs_ra _) ?_
  obtain ⟨k1, h⟩ := h
  refine zg_5_33 rfl d_5013_116 k1 ?_
  refine zu_aload_n d_5013_119 rfl (zs_ra _) ?_
  refine zg_5_29 rfl d_5013_120 k1 ?_
  refine zu_cmpge (t := 137) d_5013_123 rfl (fun c2 => ?_) (fun c2 => ?_)
  · have h := h.1 c2
    exact (u_X6_text_137 hB h).weak ⟨rfl, trivial⟩
  · have h := h.2 c2
    refine zu_iload_n d_5013_126 rfl ?_
    refine zu_iconst d_5013_127 zi_1 ?_
    refine zu_cmplt (t := 137) d_5013_128 rfl (fun c3 => ?_) (fun c3 => ?_)
    · have h := h.1 c3
      exact (u_X6_text_137 hB h).weak ⟨rfl, trivial⟩
    · have h := h.2 c3
      refine zu_iload_n d_5013_131 rfl ?_
      refine zu_bipush d_5013_132 zj_80 ?_
      refine zu_cmple (t := 150) d_5013_134 rfl (fun c4 => ?_) (fun c4 => ?_)
      · have h := h.1 c4
        refine zu_aload_n d_5013_150 rfl (zs_ra _) ?_
        refine zu_dup d_5013_151 rfl ?_
        refine zg_5_33 rfl d_5013_152 k1 ?_
        refine zu_iconst d_5013_155 zi_1 ?_
        refine zu_stk d_5013_156 rfl rfl ?_
        obtain ⟨k5, h⟩ := h
        refine zp_5_33 (v := ((zs_I S 5002 p0) + (1 : Int32))) rfl d_5013_157 k1 k5 ?_
        generalize e7 : zs_sI S 5002 p0 ((zs_I S 5002 p0) + (1 : Int32)) = S6
        have h := h S6 e7.symm
        have K8 : ∀ b, zs_K S6 b = zs_K S b := zs_Kt e7 (zs_KsI _ _ _ _) (fun _ => rfl)
        exact (u_X6_text_160 hB h).weak trivial
      · have h := h.2 c4
        exact (u_X6_text_137 hB h).weak ⟨rfl, trivial⟩
def w_X6_text_105 (X : zs_X) (d : Nat) (p0 : Nat) (p1 : Int32) (q0 : Option Nat) (q1 : Int32) (q2 : Int32) (S : zs_T) (Q : zs_Q) : Prop :=
  (∃ b1, q0 = some b1 ∧ zs_K S b1 = some (.inl 5) ∧ ab_n0 X.1 ≤ b1 ∧ ∀ S5, S5 = zs_sI S 5002 b1 (q1 + q2) → zs_U X d 5013 17 [(0, .ref p0), (1, .int (p1 + (1 : Int32)))] [] S5 Q)
theorem u_X6_text_105 {σ : Nat → Nat} {n0 : Nat} {bf : ab_B} {d : Nat} {p0 : Nat} {p1 : Int32} {q0 : Option Nat} {q1 : Int32} {q2 : Int32} {S : zs_T} {Q : zs_Q} (hB : zt_B bf) (h : w_X6_text_105 (zx σ n0 bf) d p0 p1 q0 q1 q2 S Q) : zs_U (zx σ n0 bf) d 5013 105 [(0, .ref p0), (1, .int p1)] [.int q2, .int q1, va_rf q0] S Q := by
  unfold w_X6_text_105 at h
  refine zu_stk d_5013_105 rfl rfl ?_
  obtain ⟨b1, e2, h⟩ := h
  refine zs_stk1 (zs_rfe e2) ?_
  obtain ⟨k3, h⟩ := h
  obtain ⟨k4, h⟩ := h
  refine zp_5_33 (v := (q1 + q2)) rfl d_5013_106 k3 k4 ?_
  generalize e6 : zs_sI S 5002 b1 (q1 + q2) = S5
  have h := h S5 e6.symm
  have K7 : ∀ b, zs_K S5 b = zs_K S b := zs_Kt e6 (zs_KsI _ _ _ _) (fun _ => rfl)
  refine zu_iinc d_5013_109 rfl zi_1 (zs_lt zq_5013 rfl) ?_
  refine zu_goto (t := 17) d_5013_112 rfl ?_
  exact h.weak ⟨rfl, rfl, trivial⟩
def w_X6_text_56 (X : zs_X) (d : Nat) (p0 : Nat) (p1 : Int32) (S : zs_T) (Q : zs_Q) : Prop :=
  (zs_K S p0 = some (.inl 5) ∧ zs_C X d 5006 [.ref p0, .int (zs_I S 5002 p0)] S (zs_kI (fun v3 S2 => ((((32 : Int32) ≤ v3 → (zs_K S2 p0 = some (.inl 5) ∧ zs_C X d 5006 [.ref p0, .int (zs_I S2 5002 p0)] S2 (zs_kI (fun v7 S6 => (((¬ v7 = (39 : Int32) → (w_X6_text_105 X d p0 p1 (some p0) (zs_I S2 5002 p0) (1 : Int32) S6 Q)) ∧ (¬ (¬ v7 = (39 : Int32)) → (w_X6_text_105 X d p0 p1 (some p0) (zs_I S2 5002 p0) (2 : Int32) S6 Q))))) Q))) ∧ (¬ ((32 : Int32) ≤ v3) → (∀ a9 S10, a9 = zs_N S2 → S10 = zs_nw S2 (.inl 9) 8 → zs_K S10 p0 = some (.inl 5) ∧ zs_C X d 9000 [.ref a9, .int (1 : Int32), .int (zs_I S10 5005 p0)] S10 (zs_kV (fun S15 => (Q (.threw a9) S15)) Q)))))) Q))
theorem u_X6_text_56 {σ : Nat → Nat} {n0 : Nat} {bf : ab_B} {d : Nat} {p0 : Nat} {p1 : Int32} {S : zs_T} {Q : zs_Q} (hB : zt_B bf) (h : w_X6_text_56 (zx σ n0 bf) d p0 p1 S Q) : zs_U (zx σ n0 bf) d 5013 56 [(0, .ref p0), (1, .int p1)] [] S Q := by
  unfold w_X6_text_56 at h
  refine zu_aload_n d_5013_56 rfl (zs_ra _) ?_
  refine zu_aload_n d_5013_57 rfl (zs_ra _) ?_
  obtain ⟨k1, h⟩ := h
  refine zg_5_33 rfl d_5013_58 k1 ?_
  refine zc_5_71 (x0 := (zs_I S 5002 p0)) hB rfl k1 d_5013_61 (Nat.le_of_ble_eq_true rfl) h (fun v3 S2 h => ?_)
  refine zu_bipush d_5013_64 zj_32 ?_
  refine zu_cmpge (t := 82) d_5013_66 rfl (fun c4 => ?_) (fun c4 => ?_)
  · have h := h.1 c4
    refine zu_aload_n d_5013_82 rfl (zs_ra _) ?_
    refine zu_dup d_5013_83 rfl ?_
    obtain ⟨k5, h⟩ := h
    refine zg_5_33 rfl d_5013_84 k5 ?_
    refine zu_aload_n d_5013_87 rfl (zs_ra _) ?_
    refine zu_aload_n d_5013_88 rfl (zs_ra _) ?_
    refine zg_5_33 rfl d_5013_89 k5 ?_
    refine zc_5_71 (x0 := (zs_I S2 5002 p0)) hB rfl k5 d_5013_92 (Nat.le_of_ble_eq_true rfl) h (fun v7 S6 h => ?_)
    refine zu_bipush d_5013_95 zj_39 ?_
    refine zu_cmpne (t := 104) d_5013_97 rfl (fun c8 => ?_) (fun c8 => ?_)
    · have h := h.1 c8
      refine zu_iconst d_5013_104 zi_1 ?_
      exact (u_X6_text_105 hB h).weak ⟨rfl, rfl, trivial⟩
    · have h := h.2 c8
      refine zu_iconst d_5013_100 zi_2 ?_
      refine zu_goto (t := 105) d_5013_101 rfl ?_
      exact (u_X6_text_105 hB h).weak ⟨rfl, rfl, trivial⟩
  · have h := h.2 c4
    refine zn_5_78 rfl d_5013_69 ?_
    generalize e12 : zs_nw S2 (.inl 9) 8 = S10
    generalize e11 : zs_N S2 = a9
    have h := h a9 S10 e11.symm e12.symm
    have k13 := zs_kn e11 e12
    refine zu_dup d_5013_72 rfl ?_
    refine zu_iconst d_5013_73 zi_1 ?_
    refine zu_aload_n d_5013_74 rfl (zs_ra _) ?_
    obtain ⟨k14, h⟩ := h
    refine zg_5_86 rfl d_5013_75 k14 ?_
    refine zc_5_80 (x0 := (1 : Int32)) (x1 := (zs_I S10 5005 p0)) hB rfl d_5013_78 (Nat.le_of_ble_eq_true rfl) h (fun S15 h => ?_)
    exact zu_throw d_5013_81 h
def w_X6_text_17 (X : zs_X) (d : Nat) (p0 : Nat) (p1 : Int32) (S : zs_T) (Q : zs_Q) : Prop :=
  (zs_K S p0 = some (.inl 5) ∧ (((zs_I S 5001 p0) ≤ (zs_I S 5002 p0) → w_X6_text_115 X d p0 p1 S Q) ∧ (¬ ((zs_I S 5001 p0) ≤ (zs_I S 5002 p0)) → (zs_C X d 5006 [.ref p0, .int (zs_I S 5002 p0)] S (zs_kI (fun v4 S3 => (((¬ v4 = (39 : Int32) → w_X6_text_56 X d p0 p1 S3 Q) ∧ (¬ (¬ v4 = (39 : Int32)) → (zs_K S3 p0 = some (.inl 5) ∧ zs_C X d 5006 [.ref p0, .int ((zs_I S3 5002 p0) + (1 : Int32))] S3 (zs_kI (fun v8 S7 => (((¬ v8 = (39 : Int32) → w_X6_text_115 X d p0 p1 S7 Q) ∧ (¬ (¬ v8 = (39 : Int32)) → w_X6_text_56 X d p0 p1 S7 Q)))) Q)))))) Q)))))
theorem u_X6_text_17 {σ : Nat → Nat} {n0 : Nat} {bf : ab_B} {d : Nat} {p0 : Nat} {p1 : Int32} {S : zs_T} {Q : zs_Q} (hB : zt_B bf) (h : w_X6_text_17 (zx σ n0 bf) d p0 p1 S Q) : zs_U (zx σ n0 bf) d 5013 17 [(0, .ref p0), (1, .int p1)] [] S Q := by
  unfold w_X6_text_17 at h
  refine zu_aload_n d_5013_17 rfl (zs_ra _) ?_
  obtain ⟨k1, h⟩ := h
  refine zg_5_33 rfl d_5013_18 k1 ?_
  refine zu_aload_n d_5013_21 rfl (zs_ra _) ?_
  refine zg_5_29 rfl d_5013_22 k1 ?_
  refine zu_cmpge (t := 115) d_5013_25 rfl (fun c2 => ?_) (fun c2 => ?_)
  · have h := h.1 c2
    exact (u_X6_text_115 hB h).weak ⟨rfl, rfl, trivial⟩
  · have h := h.2 c2
    refine zu_aload_n d_5013_28 rfl (zs_ra _) ?_
    refine zu_aload_n d_5013_29 rfl (zs_ra _) ?_
    refine zg_5_33 rfl d_5013_30 k1 ?_
    refine zc_5_71 (x0 := (zs_I S 5002 p0)) hB rfl k1 d_5013_33 (Nat.le_of_ble_eq_true rfl) h (fun v4 S3 h => ?_)
    refine zu_bipush d_5013_36 zj_39 ?_
    refine zu_cmpne (t := 56) d_5013_38 rfl (fun c5 => ?_) (fun c5 => ?_)
    · have h := h.1 c5
      exact (u_X6_text_56 hB h).weak ⟨rfl, rfl, trivial⟩
    · have h := h.2 c5
      refine zu_aload_n d_5013_41 rfl (zs_ra _) ?_
      refine zu_aload_n d_5013_42 rfl (zs_ra _) ?_
      obtain ⟨k6, h⟩ := h
      refine zg_5_33 rfl d_5013_43 k6 ?_
      refine zu_iconst d_5013_46 zi_1 ?_
      refine zu_stk d_5013_47 rfl rfl ?_
      refine zc_5_71 (x0 := ((zs_I S3 5002 p0) + (1 : Int32))) hB rfl k6 d_5013_48 (Nat.le_of_ble_eq_true rfl) h (fun v8 S7 h => ?_)
      refine zu_bipush d_5013_51 zj_39 ?_
      refine zu_cmpne (t := 115) d_5013_53 rfl (fun c9 => ?_) (fun c9 => ?_)
      · have h := h.1 c9
        exact (u_X6_text_115 hB h).weak ⟨rfl, rfl, trivial⟩
      · have h := h.2 c9
        exact (u_X6_text_56 hB h).weak ⟨rfl, rfl, trivial⟩
def w_X6_text (X : zs_X) (d : Nat) (p0 : Nat) (S : zs_T) (Q : zs_Q) : Prop :=
  (zs_K S p0 = some (.inl 5) ∧ ab_n0 X.1 ≤ p0 ∧ ∀ S3, S3 = zs_sI S 5003 p0 (2 : Int32) → ∀ S6, S6 = zs_sI S3 5002 p0 ((zs_I S3 5002 p0) + (1 : Int32)) → zs_U X d 5013 17 [(0, .ref p0), (1, .int (0 : Int32))] [] S6 Q)
theorem u_X6_text {σ : Nat → Nat} {n0 : Nat} {bf : ab_B} {d : Nat} {p0 : Nat} {S : zs_T} {Q : zs_Q} (hB : zt_B bf) (hd : 1 ≤ d) (h : w_X6_text (zx σ n0 bf) (d - 1) p0 S Q) : zs_C (zx σ n0 bf) d 5013 [.ref p0] S Q := by
  have hL : lv_args 0 [.ref p0] = [(0, .ref p0)] := rfl
  refine zs_C.of1 (hB.2 5013 (by decide) (by decide)) hd (by rw [hL]; exact zs_sub_self _ (by exact ⟨rfl, trivial⟩)) ?_
  rw [hL]
  clear hL
  unfold w_X6_text at h
  refine zu_aload_n d_5013_0 rfl (zs_ra _) ?_
  refine zu_iconst d_5013_1 zi_2 ?_
  obtain ⟨k1, h⟩ := h
  obtain ⟨k2, h⟩ := h
  refine zp_5_89 (v := (2 : Int32)) rfl d_5013_2 k1 k2 ?_
  generalize e4 : zs_sI S 5003 p0 (2 : Int32) = S3
  have h := h S3 e4.symm
  have K5 : ∀ b, zs_K S3 b = zs_K S b := zs_Kt e4 (zs_KsI _ _ _ _) (fun _ => rfl)
  refine zu_iconst d_5013_5 zi_0 ?_
  refine zu_istore_n d_5013_6 (zs_lt zq_5013 rfl) ?_
  refine zu_aload_n d_5013_7 rfl (zs_ra _) ?_
  refine zu_dup d_5013_8 rfl ?_
  refine zg_5_33 rfl d_5013_9 ((K5 _).trans k1) ?_
  refine zu_iconst d_5013_12 zi_1 ?_
  refine zu_stk d_5013_13 rfl rfl ?_
  refine zp_5_33 (v := ((zs_I S3 5002 p0) + (1 : Int32))) rfl d_5013_14 ((K5 _).trans k1) k2 ?_
  generalize e7 : zs_sI S3 5002 p0 ((zs_I S3 5002 p0) + (1 : Int32)) = S6
  have h := h S6 e7.symm
  have K8 : ∀ b, zs_K S6 b = zs_K S b := zs_Kt e7 (zs_KsI _ _ _ _) K5
  exact h.weak ⟨rfl, rfl, trivial⟩
/-! SchemaPascal$Words.sign(I)V -/
theorem zm_5014 {σ : Nat → Nat} {n0 : Nat} {bf : ab_B} : ab_code (zx σ n0 bf).1 5014 = prog_15_method_15_code := rfl
theorem zq_5014 {σ : Nat → Nat} {n0 : Nat} {bf : ab_B} : ab_maxL (zx σ n0 bf).1 5014 = 4 := rfl
theorem zr_5014 {σ : Nat → Nat} {n0 : Nat} {bf : ab_B} : ab_ret (zx σ n0 bf).1 5014 = (Option.none : Option Jvm.ClassFile.FieldType) := rfl
theorem d_5014_0 {σ : Nat → Nat} {n0 : Nat} {bf : ab_B} : decode (ab_code (zx σ n0 bf).1 5014) 0 = .ok (.aload_n 0, 1) := zd zm_5014 (by decide +kernel)
theorem d_5014_1 {σ : Nat → Nat} {n0 : Nat} {bf : ab_B} : decode (ab_code (zx σ n0 bf).1 5014) 1 = .ok (.aload_n 0, 1) := zd zm_5014 (by decide +kernel)
theorem d_5014_2 {σ : Nat → Nat} {n0 : Nat} {bf : ab_B} : decode (ab_code (zx σ n0 bf).1 5014) 2 = .ok (.getfield 33, 3) := zd zm_5014 (by decide +kernel)
theorem d_5014_5 {σ : Nat → Nat} {n0 : Nat} {bf : ab_B} : decode (ab_code (zx σ n0 bf).1 5014) 5 = .ok (.iconst 1, 1) := zd zm_5014 (by decide +kernel)
theorem d_5014_6 {σ : Nat → Nat} {n0 : Nat} {bf : ab_B} : decode (ab_code (zx σ n0 bf).1 5014) 6 = .ok (.iadd, 1) := zd zm_5014 (by decide +kernel)
theorem d_5014_7 {σ : Nat → Nat} {n0 : Nat} {bf : ab_B} : decode (ab_code (zx σ n0 bf).1 5014) 7 = .ok (.invokevirtual 71, 3) := zd zm_5014 (by decide +kernel)
theorem d_5014_10 {σ : Nat → Nat} {n0 : Nat} {bf : ab_B} : decode (ab_code (zx σ n0 bf).1 5014) 10 = .ok (.istore_n 2, 1) := zd zm_5014 (by decide +kernel)
theorem d_5014_11 {σ : Nat → Nat} {n0 : Nat} {bf : ab_B} : decode (ab_code (zx σ n0 bf).1 5014) 11 = .ok (.aload_n 0, 1) := zd zm_5014 (by decide +kernel)
theorem d_5014_12 {σ : Nat → Nat} {n0 : Nat} {bf : ab_B} : decode (ab_code (zx σ n0 bf).1 5014) 12 = .ok (.iconst 3, 1) := zd zm_5014 (by decide +kernel)
theorem d_5014_13 {σ : Nat → Nat} {n0 : Nat} {bf : ab_B} : decode (ab_code (zx σ n0 bf).1 5014) 13 = .ok (.putfield 89, 3) := zd zm_5014 (by decide +kernel)
theorem d_5014_16 {σ : Nat → Nat} {n0 : Nat} {bf : ab_B} : decode (ab_code (zx σ n0 bf).1 5014) 16 = .ok (.aload_n 0, 1) := zd zm_5014 (by decide +kernel)
theorem d_5014_17 {σ : Nat → Nat} {n0 : Nat} {bf : ab_B} : decode (ab_code (zx σ n0 bf).1 5014) 17 = .ok (.iload_n 1, 1) := zd zm_5014 (by decide +kernel)
theorem d_5014_18 {σ : Nat → Nat} {n0 : Nat} {bf : ab_B} : decode (ab_code (zx σ n0 bf).1 5014) 18 = .ok (.bipush 60, 2) := zd zm_5014 (by decide +kernel)
theorem d_5014_20 {σ : Nat → Nat} {n0 : Nat} {bf : ab_B} : decode (ab_code (zx σ n0 bf).1 5014) 20 = .ok (.if_icmp .ne 15, 3) := zd zm_5014 (by decide +kernel)
theorem d_5014_23 {σ : Nat → Nat} {n0 : Nat} {bf : ab_B} : decode (ab_code (zx σ n0 bf).1 5014) 23 = .ok (.iload_n 2, 1) := zd zm_5014 (by decide +kernel)
theorem d_5014_24 {σ : Nat → Nat} {n0 : Nat} {bf : ab_B} : decode (ab_code (zx σ n0 bf).1 5014) 24 = .ok (.bipush 62, 2) := zd zm_5014 (by decide +kernel)
theorem d_5014_26 {σ : Nat → Nat} {n0 : Nat} {bf : ab_B} : decode (ab_code (zx σ n0 bf).1 5014) 26 = .ok (.if_icmp .ne 9, 3) := zd zm_5014 (by decide +kernel)
theorem d_5014_29 {σ : Nat → Nat} {n0 : Nat} {bf : ab_B} : decode (ab_code (zx σ n0 bf).1 5014) 29 = .ok (.sipush 256, 3) := zd zm_5014 (by decide +kernel)
theorem d_5014_32 {σ : Nat → Nat} {n0 : Nat} {bf : ab_B} : decode (ab_code (zx σ n0 bf).1 5014) 32 = .ok (.goto 76, 3) := zd zm_5014 (by decide +kernel)
theorem d_5014_35 {σ : Nat → Nat} {n0 : Nat} {bf : ab_B} : decode (ab_code (zx σ n0 bf).1 5014) 35 = .ok (.iload_n 1, 1) := zd zm_5014 (by decide +kernel)
theorem d_5014_36 {σ : Nat → Nat} {n0 : Nat} {bf : ab_B} : decode (ab_code (zx σ n0 bf).1 5014) 36 = .ok (.bipush 60, 2) := zd zm_5014 (by decide +kernel)
theorem d_5014_38 {σ : Nat → Nat} {n0 : Nat} {bf : ab_B} : decode (ab_code (zx σ n0 bf).1 5014) 38 = .ok (.if_icmp .ne 15, 3) := zd zm_5014 (by decide +kernel)
theorem d_5014_41 {σ : Nat → Nat} {n0 : Nat} {bf : ab_B} : decode (ab_code (zx σ n0 bf).1 5014) 41 = .ok (.iload_n 2, 1) := zd zm_5014 (by decide +kernel)
theorem d_5014_42 {σ : Nat → Nat} {n0 : Nat} {bf : ab_B} : decode (ab_code (zx σ n0 bf).1 5014) 42 = .ok (.bipush 61, 2) := zd zm_5014 (by decide +kernel)
theorem d_5014_44 {σ : Nat → Nat} {n0 : Nat} {bf : ab_B} : decode (ab_code (zx σ n0 bf).1 5014) 44 = .ok (.if_icmp .ne 9, 3) := zd zm_5014 (by decide +kernel)
theorem d_5014_47 {σ : Nat → Nat} {n0 : Nat} {bf : ab_B} : decode (ab_code (zx σ n0 bf).1 5014) 47 = .ok (.sipush 257, 3) := zd zm_5014 (by decide +kernel)
theorem d_5014_50 {σ : Nat → Nat} {n0 : Nat} {bf : ab_B} : decode (ab_code (zx σ n0 bf).1 5014) 50 = .ok (.goto 58, 3) := zd zm_5014 (by decide +kernel)
theorem d_5014_53 {σ : Nat → Nat} {n0 : Nat} {bf : ab_B} : decode (ab_code (zx σ n0 bf).1 5014) 53 = .ok (.iload_n 1, 1) := zd zm_5014 (by decide +kernel)
theorem d_5014_54 {σ : Nat → Nat} {n0 : Nat} {bf : ab_B} : decode (ab_code (zx σ n0 bf).1 5014) 54 = .ok (.bipush 62, 2) := zd zm_5014 (by decide +kernel)
theorem d_5014_56 {σ : Nat → Nat} {n0 : Nat} {bf : ab_B} : decode (ab_code (zx σ n0 bf).1 5014) 56 = .ok (.if_icmp .ne 15, 3) := zd zm_5014 (by decide +kernel)
theorem d_5014_59 {σ : Nat → Nat} {n0 : Nat} {bf : ab_B} : decode (ab_code (zx σ n0 bf).1 5014) 59 = .ok (.iload_n 2, 1) := zd zm_5014 (by decide +kernel)
theorem d_5014_60 {σ : Nat → Nat} {n0 : Nat} {bf : ab_B} : decode (ab_code (zx σ n0 bf).1 5014) 60 = .ok (.bipush 61, 2) := zd zm_5014 (by decide +kernel)
theorem d_5014_62 {σ : Nat → Nat} {n0 : Nat} {bf : ab_B} : decode (ab_code (zx σ n0 bf).1 5014) 62 = .ok (.if_icmp .ne 9, 3) := zd zm_5014 (by decide +kernel)
theorem d_5014_65 {σ : Nat → Nat} {n0 : Nat} {bf : ab_B} : decode (ab_code (zx σ n0 bf).1 5014) 65 = .ok (.sipush 258, 3) := zd zm_5014 (by decide +kernel)
theorem d_5014_68 {σ : Nat → Nat} {n0 : Nat} {bf : ab_B} : decode (ab_code (zx σ n0 bf).1 5014) 68 = .ok (.goto 40, 3) := zd zm_5014 (by decide +kernel)
theorem d_5014_71 {σ : Nat → Nat} {n0 : Nat} {bf : ab_B} : decode (ab_code (zx σ n0 bf).1 5014) 71 = .ok (.iload_n 1, 1) := zd zm_5014 (by decide +kernel)
theorem d_5014_72 {σ : Nat → Nat} {n0 : Nat} {bf : ab_B} : decode (ab_code (zx σ n0 bf).1 5014) 72 = .ok (.bipush 58, 2) := zd zm_5014 (by decide +kernel)
theorem d_5014_74 {σ : Nat → Nat} {n0 : Nat} {bf : ab_B} : decode (ab_code (zx σ n0 bf).1 5014) 74 = .ok (.if_icmp .ne 15, 3) := zd zm_5014 (by decide +kernel)
theorem d_5014_77 {σ : Nat → Nat} {n0 : Nat} {bf : ab_B} : decode (ab_code (zx σ n0 bf).1 5014) 77 = .ok (.iload_n 2, 1) := zd zm_5014 (by decide +kernel)
theorem d_5014_78 {σ : Nat → Nat} {n0 : Nat} {bf : ab_B} : decode (ab_code (zx σ n0 bf).1 5014) 78 = .ok (.bipush 61, 2) := zd zm_5014 (by decide +kernel)
theorem d_5014_80 {σ : Nat → Nat} {n0 : Nat} {bf : ab_B} : decode (ab_code (zx σ n0 bf).1 5014) 80 = .ok (.if_icmp .ne 9, 3) := zd zm_5014 (by decide +kernel)
theorem d_5014_83 {σ : Nat → Nat} {n0 : Nat} {bf : ab_B} : decode (ab_code (zx σ n0 bf).1 5014) 83 = .ok (.sipush 259, 3) := zd zm_5014 (by decide +kernel)
theorem d_5014_86 {σ : Nat → Nat} {n0 : Nat} {bf : ab_B} : decode (ab_code (zx σ n0 bf).1 5014) 86 = .ok (.goto 22, 3) := zd zm_5014 (by decide +kernel)
theorem d_5014_89 {σ : Nat → Nat} {n0 : Nat} {bf : ab_B} : decode (ab_code (zx σ n0 bf).1 5014) 89 = .ok (.iload_n 1, 1) := zd zm_5014 (by decide +kernel)
theorem d_5014_90 {σ : Nat → Nat} {n0 : Nat} {bf : ab_B} : decode (ab_code (zx σ n0 bf).1 5014) 90 = .ok (.bipush 46, 2) := zd zm_5014 (by decide +kernel)
theorem d_5014_92 {σ : Nat → Nat} {n0 : Nat} {bf : ab_B} : decode (ab_code (zx σ n0 bf).1 5014) 92 = .ok (.if_icmp .ne 15, 3) := zd zm_5014 (by decide +kernel)
theorem d_5014_95 {σ : Nat → Nat} {n0 : Nat} {bf : ab_B} : decode (ab_code (zx σ n0 bf).1 5014) 95 = .ok (.iload_n 2, 1) := zd zm_5014 (by decide +kernel)
theorem d_5014_96 {σ : Nat → Nat} {n0 : Nat} {bf : ab_B} : decode (ab_code (zx σ n0 bf).1 5014) 96 = .ok (.bipush 46, 2) := zd zm_5014 (by decide +kernel)
theorem d_5014_98 {σ : Nat → Nat} {n0 : Nat} {bf : ab_B} : decode (ab_code (zx σ n0 bf).1 5014) 98 = .ok (.if_icmp .ne 9, 3) := zd zm_5014 (by decide +kernel)
theorem d_5014_101 {σ : Nat → Nat} {n0 : Nat} {bf : ab_B} : decode (ab_code (zx σ n0 bf).1 5014) 101 = .ok (.sipush 260, 3) := zd zm_5014 (by decide +kernel)
theorem d_5014_104 {σ : Nat → Nat} {n0 : Nat} {bf : ab_B} : decode (ab_code (zx σ n0 bf).1 5014) 104 = .ok (.goto 4, 3) := zd zm_5014 (by decide +kernel)
theorem d_5014_107 {σ : Nat → Nat} {n0 : Nat} {bf : ab_B} : decode (ab_code (zx σ n0 bf).1 5014) 107 = .ok (.iload_n 1, 1) := zd zm_5014 (by decide +kernel)
theorem d_5014_108 {σ : Nat → Nat} {n0 : Nat} {bf : ab_B} : decode (ab_code (zx σ n0 bf).1 5014) 108 = .ok (.putfield 107, 3) := zd zm_5014 (by decide +kernel)
theorem d_5014_111 {σ : Nat → Nat} {n0 : Nat} {bf : ab_B} : decode (ab_code (zx σ n0 bf).1 5014) 111 = .ok (.aload_n 0, 1) := zd zm_5014 (by decide +kernel)
theorem d_5014_112 {σ : Nat → Nat} {n0 : Nat} {bf : ab_B} : decode (ab_code (zx σ n0 bf).1 5014) 112 = .ok (.getfield 107, 3) := zd zm_5014 (by decide +kernel)
theorem d_5014_115 {σ : Nat → Nat} {n0 : Nat} {bf : ab_B} : decode (ab_code (zx σ n0 bf).1 5014) 115 = .ok (.sipush 255, 3) := zd zm_5014 (by decide +kernel)
theorem d_5014_118 {σ : Nat → Nat} {n0 : Nat} {bf : ab_B} : decode (ab_code (zx σ n0 bf).1 5014) 118 = .ok (.if_icmp .gt 93, 3) := zd zm_5014 (by decide +kernel)
theorem d_5014_121 {σ : Nat → Nat} {n0 : Nat} {bf : ab_B} : decode (ab_code (zx σ n0 bf).1 5014) 121 = .ok (.iload_n 1, 1) := zd zm_5014 (by decide +kernel)
theorem d_5014_122 {σ : Nat → Nat} {n0 : Nat} {bf : ab_B} : decode (ab_code (zx σ n0 bf).1 5014) 122 = .ok (.bipush 43, 2) := zd zm_5014 (by decide +kernel)
theorem d_5014_124 {σ : Nat → Nat} {n0 : Nat} {bf : ab_B} : decode (ab_code (zx σ n0 bf).1 5014) 124 = .ok (.if_icmp .eq 87, 3) := zd zm_5014 (by decide +kernel)
theorem d_5014_127 {σ : Nat → Nat} {n0 : Nat} {bf : ab_B} : decode (ab_code (zx σ n0 bf).1 5014) 127 = .ok (.iload_n 1, 1) := zd zm_5014 (by decide +kernel)
theorem d_5014_128 {σ : Nat → Nat} {n0 : Nat} {bf : ab_B} : decode (ab_code (zx σ n0 bf).1 5014) 128 = .ok (.bipush 45, 2) := zd zm_5014 (by decide +kernel)
theorem d_5014_130 {σ : Nat → Nat} {n0 : Nat} {bf : ab_B} : decode (ab_code (zx σ n0 bf).1 5014) 130 = .ok (.if_icmp .eq 81, 3) := zd zm_5014 (by decide +kernel)
theorem d_5014_133 {σ : Nat → Nat} {n0 : Nat} {bf : ab_B} : decode (ab_code (zx σ n0 bf).1 5014) 133 = .ok (.iload_n 1, 1) := zd zm_5014 (by decide +kernel)
theorem d_5014_134 {σ : Nat → Nat} {n0 : Nat} {bf : ab_B} : decode (ab_code (zx σ n0 bf).1 5014) 134 = .ok (.bipush 42, 2) := zd zm_5014 (by decide +kernel)
theorem d_5014_136 {σ : Nat → Nat} {n0 : Nat} {bf : ab_B} : decode (ab_code (zx σ n0 bf).1 5014) 136 = .ok (.if_icmp .eq 75, 3) := zd zm_5014 (by decide +kernel)
theorem d_5014_139 {σ : Nat → Nat} {n0 : Nat} {bf : ab_B} : decode (ab_code (zx σ n0 bf).1 5014) 139 = .ok (.iload_n 1, 1) := zd zm_5014 (by decide +kernel)
theorem d_5014_140 {σ : Nat → Nat} {n0 : Nat} {bf : ab_B} : decode (ab_code (zx σ n0 bf).1 5014) 140 = .ok (.bipush 61, 2) := zd zm_5014 (by decide +kernel)
theorem d_5014_142 {σ : Nat → Nat} {n0 : Nat} {bf : ab_B} : decode (ab_code (zx σ n0 bf).1 5014) 142 = .ok (.if_icmp .eq 69, 3) := zd zm_5014 (by decide +kernel)
theorem d_5014_145 {σ : Nat → Nat} {n0 : Nat} {bf : ab_B} : decode (ab_code (zx σ n0 bf).1 5014) 145 = .ok (.iload_n 1, 1) := zd zm_5014 (by decide +kernel)
theorem d_5014_146 {σ : Nat → Nat} {n0 : Nat} {bf : ab_B} : decode (ab_code (zx σ n0 bf).1 5014) 146 = .ok (.bipush 60, 2) := zd zm_5014 (by decide +kernel)
theorem d_5014_148 {σ : Nat → Nat} {n0 : Nat} {bf : ab_B} : decode (ab_code (zx σ n0 bf).1 5014) 148 = .ok (.if_icmp .eq 63, 3) := zd zm_5014 (by decide +kernel)
theorem d_5014_151 {σ : Nat → Nat} {n0 : Nat} {bf : ab_B} : decode (ab_code (zx σ n0 bf).1 5014) 151 = .ok (.iload_n 1, 1) := zd zm_5014 (by decide +kernel)
theorem d_5014_152 {σ : Nat → Nat} {n0 : Nat} {bf : ab_B} : decode (ab_code (zx σ n0 bf).1 5014) 152 = .ok (.bipush 62, 2) := zd zm_5014 (by decide +kernel)
theorem d_5014_154 {σ : Nat → Nat} {n0 : Nat} {bf : ab_B} : decode (ab_code (zx σ n0 bf).1 5014) 154 = .ok (.if_icmp .eq 57, 3) := zd zm_5014 (by decide +kernel)
theorem d_5014_157 {σ : Nat → Nat} {n0 : Nat} {bf : ab_B} : decode (ab_code (zx σ n0 bf).1 5014) 157 = .ok (.iload_n 1, 1) := zd zm_5014 (by decide +kernel)
theorem d_5014_158 {σ : Nat → Nat} {n0 : Nat} {bf : ab_B} : decode (ab_code (zx σ n0 bf).1 5014) 158 = .ok (.bipush 40, 2) := zd zm_5014 (by decide +kernel)
theorem d_5014_160 {σ : Nat → Nat} {n0 : Nat} {bf : ab_B} : decode (ab_code (zx σ n0 bf).1 5014) 160 = .ok (.if_icmp .eq 51, 3) := zd zm_5014 (by decide +kernel)
theorem d_5014_163 {σ : Nat → Nat} {n0 : Nat} {bf : ab_B} : decode (ab_code (zx σ n0 bf).1 5014) 163 = .ok (.iload_n 1, 1) := zd zm_5014 (by decide +kernel)
theorem d_5014_164 {σ : Nat → Nat} {n0 : Nat} {bf : ab_B} : decode (ab_code (zx σ n0 bf).1 5014) 164 = .ok (.bipush 41, 2) := zd zm_5014 (by decide +kernel)
theorem d_5014_166 {σ : Nat → Nat} {n0 : Nat} {bf : ab_B} : decode (ab_code (zx σ n0 bf).1 5014) 166 = .ok (.if_icmp .eq 45, 3) := zd zm_5014 (by decide +kernel)
theorem d_5014_169 {σ : Nat → Nat} {n0 : Nat} {bf : ab_B} : decode (ab_code (zx σ n0 bf).1 5014) 169 = .ok (.iload_n 1, 1) := zd zm_5014 (by decide +kernel)
theorem d_5014_170 {σ : Nat → Nat} {n0 : Nat} {bf : ab_B} : decode (ab_code (zx σ n0 bf).1 5014) 170 = .ok (.bipush 91, 2) := zd zm_5014 (by decide +kernel)
theorem d_5014_172 {σ : Nat → Nat} {n0 : Nat} {bf : ab_B} : decode (ab_code (zx σ n0 bf).1 5014) 172 = .ok (.if_icmp .eq 39, 3) := zd zm_5014 (by decide +kernel)
theorem d_5014_175 {σ : Nat → Nat} {n0 : Nat} {bf : ab_B} : decode (ab_code (zx σ n0 bf).1 5014) 175 = .ok (.iload_n 1, 1) := zd zm_5014 (by decide +kernel)
theorem d_5014_176 {σ : Nat → Nat} {n0 : Nat} {bf : ab_B} : decode (ab_code (zx σ n0 bf).1 5014) 176 = .ok (.bipush 93, 2) := zd zm_5014 (by decide +kernel)
theorem d_5014_178 {σ : Nat → Nat} {n0 : Nat} {bf : ab_B} : decode (ab_code (zx σ n0 bf).1 5014) 178 = .ok (.if_icmp .eq 33, 3) := zd zm_5014 (by decide +kernel)
theorem d_5014_181 {σ : Nat → Nat} {n0 : Nat} {bf : ab_B} : decode (ab_code (zx σ n0 bf).1 5014) 181 = .ok (.iload_n 1, 1) := zd zm_5014 (by decide +kernel)
theorem d_5014_182 {σ : Nat → Nat} {n0 : Nat} {bf : ab_B} : decode (ab_code (zx σ n0 bf).1 5014) 182 = .ok (.bipush 44, 2) := zd zm_5014 (by decide +kernel)
theorem d_5014_184 {σ : Nat → Nat} {n0 : Nat} {bf : ab_B} : decode (ab_code (zx σ n0 bf).1 5014) 184 = .ok (.if_icmp .eq 27, 3) := zd zm_5014 (by decide +kernel)
theorem d_5014_187 {σ : Nat → Nat} {n0 : Nat} {bf : ab_B} : decode (ab_code (zx σ n0 bf).1 5014) 187 = .ok (.iload_n 1, 1) := zd zm_5014 (by decide +kernel)
theorem d_5014_188 {σ : Nat → Nat} {n0 : Nat} {bf : ab_B} : decode (ab_code (zx σ n0 bf).1 5014) 188 = .ok (.bipush 59, 2) := zd zm_5014 (by decide +kernel)
theorem d_5014_190 {σ : Nat → Nat} {n0 : Nat} {bf : ab_B} : decode (ab_code (zx σ n0 bf).1 5014) 190 = .ok (.if_icmp .eq 21, 3) := zd zm_5014 (by decide +kernel)
theorem d_5014_193 {σ : Nat → Nat} {n0 : Nat} {bf : ab_B} : decode (ab_code (zx σ n0 bf).1 5014) 193 = .ok (.iload_n 1, 1) := zd zm_5014 (by decide +kernel)
theorem d_5014_194 {σ : Nat → Nat} {n0 : Nat} {bf : ab_B} : decode (ab_code (zx σ n0 bf).1 5014) 194 = .ok (.bipush 58, 2) := zd zm_5014 (by decide +kernel)
theorem d_5014_196 {σ : Nat → Nat} {n0 : Nat} {bf : ab_B} : decode (ab_code (zx σ n0 bf).1 5014) 196 = .ok (.if_icmp .eq 15, 3) := zd zm_5014 (by decide +kernel)
theorem d_5014_199 {σ : Nat → Nat} {n0 : Nat} {bf : ab_B} : decode (ab_code (zx σ n0 bf).1 5014) 199 = .ok (.iload_n 1, 1) := zd zm_5014 (by decide +kernel)
theorem d_5014_200 {σ : Nat → Nat} {n0 : Nat} {bf : ab_B} : decode (ab_code (zx σ n0 bf).1 5014) 200 = .ok (.bipush 94, 2) := zd zm_5014 (by decide +kernel)
theorem d_5014_202 {σ : Nat → Nat} {n0 : Nat} {bf : ab_B} : decode (ab_code (zx σ n0 bf).1 5014) 202 = .ok (.if_icmp .eq 9, 3) := zd zm_5014 (by decide +kernel)
theorem d_5014_205 {σ : Nat → Nat} {n0 : Nat} {bf : ab_B} : decode (ab_code (zx σ n0 bf).1 5014) 205 = .ok (.iload_n 1, 1) := zd zm_5014 (by decide +kernel)
theorem d_5014_206 {σ : Nat → Nat} {n0 : Nat} {bf : ab_B} : decode (ab_code (zx σ n0 bf).1 5014) 206 = .ok (.bipush 46, 2) := zd zm_5014 (by decide +kernel)
theorem d_5014_208 {σ : Nat → Nat} {n0 : Nat} {bf : ab_B} : decode (ab_code (zx σ n0 bf).1 5014) 208 = .ok (.if_icmp .ne 7, 3) := zd zm_5014 (by decide +kernel)
theorem d_5014_211 {σ : Nat → Nat} {n0 : Nat} {bf : ab_B} : decode (ab_code (zx σ n0 bf).1 5014) 211 = .ok (.iconst 1, 1) := zd zm_5014 (by decide +kernel)
theorem d_5014_212 {σ : Nat → Nat} {n0 : Nat} {bf : ab_B} : decode (ab_code (zx σ n0 bf).1 5014) 212 = .ok (.goto 4, 3) := zd zm_5014 (by decide +kernel)
theorem d_5014_215 {σ : Nat → Nat} {n0 : Nat} {bf : ab_B} : decode (ab_code (zx σ n0 bf).1 5014) 215 = .ok (.iconst 0, 1) := zd zm_5014 (by decide +kernel)
theorem d_5014_216 {σ : Nat → Nat} {n0 : Nat} {bf : ab_B} : decode (ab_code (zx σ n0 bf).1 5014) 216 = .ok (.istore_n 3, 1) := zd zm_5014 (by decide +kernel)
theorem d_5014_217 {σ : Nat → Nat} {n0 : Nat} {bf : ab_B} : decode (ab_code (zx σ n0 bf).1 5014) 217 = .ok (.iload_n 3, 1) := zd zm_5014 (by decide +kernel)
theorem d_5014_218 {σ : Nat → Nat} {n0 : Nat} {bf : ab_B} : decode (ab_code (zx σ n0 bf).1 5014) 218 = .ok (.ifCond .ne 16, 3) := zd zm_5014 (by decide +kernel)
theorem d_5014_221 {σ : Nat → Nat} {n0 : Nat} {bf : ab_B} : decode (ab_code (zx σ n0 bf).1 5014) 221 = .ok (.new 78, 3) := zd zm_5014 (by decide +kernel)
theorem d_5014_224 {σ : Nat → Nat} {n0 : Nat} {bf : ab_B} : decode (ab_code (zx σ n0 bf).1 5014) 224 = .ok (.dup, 1) := zd zm_5014 (by decide +kernel)
theorem d_5014_225 {σ : Nat → Nat} {n0 : Nat} {bf : ab_B} : decode (ab_code (zx σ n0 bf).1 5014) 225 = .ok (.iconst 1, 1) := zd zm_5014 (by decide +kernel)
theorem d_5014_226 {σ : Nat → Nat} {n0 : Nat} {bf : ab_B} : decode (ab_code (zx σ n0 bf).1 5014) 226 = .ok (.aload_n 0, 1) := zd zm_5014 (by decide +kernel)
theorem d_5014_227 {σ : Nat → Nat} {n0 : Nat} {bf : ab_B} : decode (ab_code (zx σ n0 bf).1 5014) 227 = .ok (.getfield 86, 3) := zd zm_5014 (by decide +kernel)
theorem d_5014_230 {σ : Nat → Nat} {n0 : Nat} {bf : ab_B} : decode (ab_code (zx σ n0 bf).1 5014) 230 = .ok (.invokespecial 80, 3) := zd zm_5014 (by decide +kernel)
theorem d_5014_233 {σ : Nat → Nat} {n0 : Nat} {bf : ab_B} : decode (ab_code (zx σ n0 bf).1 5014) 233 = .ok (.athrow, 1) := zd zm_5014 (by decide +kernel)
theorem d_5014_234 {σ : Nat → Nat} {n0 : Nat} {bf : ab_B} : decode (ab_code (zx σ n0 bf).1 5014) 234 = .ok (.aload_n 0, 1) := zd zm_5014 (by decide +kernel)
theorem d_5014_235 {σ : Nat → Nat} {n0 : Nat} {bf : ab_B} : decode (ab_code (zx σ n0 bf).1 5014) 235 = .ok (.dup, 1) := zd zm_5014 (by decide +kernel)
theorem d_5014_236 {σ : Nat → Nat} {n0 : Nat} {bf : ab_B} : decode (ab_code (zx σ n0 bf).1 5014) 236 = .ok (.getfield 33, 3) := zd zm_5014 (by decide +kernel)
theorem d_5014_239 {σ : Nat → Nat} {n0 : Nat} {bf : ab_B} : decode (ab_code (zx σ n0 bf).1 5014) 239 = .ok (.aload_n 0, 1) := zd zm_5014 (by decide +kernel)
theorem d_5014_240 {σ : Nat → Nat} {n0 : Nat} {bf : ab_B} : decode (ab_code (zx σ n0 bf).1 5014) 240 = .ok (.getfield 107, 3) := zd zm_5014 (by decide +kernel)
theorem d_5014_243 {σ : Nat → Nat} {n0 : Nat} {bf : ab_B} : decode (ab_code (zx σ n0 bf).1 5014) 243 = .ok (.sipush 255, 3) := zd zm_5014 (by decide +kernel)
theorem d_5014_246 {σ : Nat → Nat} {n0 : Nat} {bf : ab_B} : decode (ab_code (zx σ n0 bf).1 5014) 246 = .ok (.if_icmp .le 7, 3) := zd zm_5014 (by decide +kernel)
theorem d_5014_249 {σ : Nat → Nat} {n0 : Nat} {bf : ab_B} : decode (ab_code (zx σ n0 bf).1 5014) 249 = .ok (.iconst 2, 1) := zd zm_5014 (by decide +kernel)
theorem d_5014_250 {σ : Nat → Nat} {n0 : Nat} {bf : ab_B} : decode (ab_code (zx σ n0 bf).1 5014) 250 = .ok (.goto 4, 3) := zd zm_5014 (by decide +kernel)
theorem d_5014_253 {σ : Nat → Nat} {n0 : Nat} {bf : ab_B} : decode (ab_code (zx σ n0 bf).1 5014) 253 = .ok (.iconst 1, 1) := zd zm_5014 (by decide +kernel)
theorem d_5014_254 {σ : Nat → Nat} {n0 : Nat} {bf : ab_B} : decode (ab_code (zx σ n0 bf).1 5014) 254 = .ok (.iadd, 1) := zd zm_5014 (by decide +kernel)
theorem d_5014_255 {σ : Nat → Nat} {n0 : Nat} {bf : ab_B} : decode (ab_code (zx σ n0 bf).1 5014) 255 = .ok (.putfield 33, 3) := zd zm_5014 (by decide +kernel)
theorem d_5014_258 {σ : Nat → Nat} {n0 : Nat} {bf : ab_B} : decode (ab_code (zx σ n0 bf).1 5014) 258 = .ok (.return_, 1) := zd zm_5014 (by decide +kernel)
def w_X6_sign_216 (X : zs_X) (d : Nat) (p0 : Nat) (q0 : Int32) (S : zs_T) (Q : zs_Q) : Prop :=
  (((¬ q0 = 0 → (zs_K S p0 = some (.inl 5) ∧ (((zs_I S 5004 p0) ≤ (255 : Int32) → (ab_n0 X.1 ≤ p0 ∧ ∀ S5, S5 = zs_sI S 5002 p0 ((zs_I S 5002 p0) + (1 : Int32)) → Q (.returned none) S5)) ∧ (¬ ((zs_I S 5004 p0) ≤ (255 : Int32)) → (ab_n0 X.1 ≤ p0 ∧ ∀ S9, S9 = zs_sI S 5002 p0 ((zs_I S 5002 p0) + (2 : Int32)) → Q (.returned none) S9))))) ∧ (¬ (¬ q0 = 0) → (∀ a12 S13, a12 = zs_N S → S13 = zs_nw S (.inl 9) 8 → zs_K S13 p0 = some (.inl 5) ∧ zs_C X d 9000 [.ref a12, .int (1 : Int32), .int (zs_I S13 5005 p0)] S13 (zs_kV (fun S18 => (Q (.threw a12) S18)) Q)))))
theorem u_X6_sign_216 {σ : Nat → Nat} {n0 : Nat} {bf : ab_B} {d : Nat} {p0 : Nat} {q0 : Int32} {S : zs_T} {Q : zs_Q} (hB : zt_B bf) (h : w_X6_sign_216 (zx σ n0 bf) d p0 q0 S Q) : zs_U (zx σ n0 bf) d 5014 216 [(0, .ref p0)] [.int q0] S Q := by
  unfold w_X6_sign_216 at h
  refine zu_istore_n d_5014_216 (zs_lt zq_5014 rfl) ?_
  refine zu_iload_n d_5014_217 rfl ?_
  refine zu_ifne (t := 234) d_5014_218 rfl (fun c1 => ?_) (fun c1 => ?_)
  · have h := h.1 c1
    refine zu_aload_n d_5014_234 rfl (zs_ra _) ?_
    refine zu_dup d_5014_235 rfl ?_
    obtain ⟨k2, h⟩ := h
    refine zg_5_33 rfl d_5014_236 k2 ?_
    refine zu_aload_n d_5014_239 rfl (zs_ra _) ?_
    refine zg_5_107 rfl d_5014_240 k2 ?_
    refine zu_sipush d_5014_243 zh_255 ?_
    refine zu_cmple (t := 253) d_5014_246 rfl (fun c3 => ?_) (fun c3 => ?_)
    · have h := h.1 c3
      refine zu_iconst d_5014_253 zi_1 ?_
      refine zu_stk d_5014_254 rfl rfl ?_
      obtain ⟨k4, h⟩ := h
      refine zp_5_33 (v := ((zs_I S 5002 p0) + (1 : Int32))) rfl d_5014_255 k2 k4 ?_
      generalize e6 : zs_sI S 5002 p0 ((zs_I S 5002 p0) + (1 : Int32)) = S5
      have h := h S5 e6.symm
      have K7 : ∀ b, zs_K S5 b = zs_K S b := zs_Kt e6 (zs_KsI _ _ _ _) (fun _ => rfl)
      exact zu_vret d_5014_258 zr_5014 h
    · have h := h.2 c3
      refine zu_iconst d_5014_249 zi_2 ?_
      refine zu_goto (t := 254) d_5014_250 rfl ?_
      refine zu_stk d_5014_254 rfl rfl ?_
      obtain ⟨k8, h⟩ := h
      refine zp_5_33 (v := ((zs_I S 5002 p0) + (2 : Int32))) rfl d_5014_255 k2 k8 ?_
      generalize e10 : zs_sI S 5002 p0 ((zs_I S 5002 p0) + (2 : Int32)) = S9
      have h := h S9 e10.symm
      have K11 : ∀ b, zs_K S9 b = zs_K S b := zs_Kt e10 (zs_KsI _ _ _ _) (fun _ => rfl)
      exact zu_vret d_5014_258 zr_5014 h
  · have h := h.2 c1
    refine zn_5_78 rfl d_5014_221 ?_
    generalize e15 : zs_nw S (.inl 9) 8 = S13
    generalize e14 : zs_N S = a12
    have h := h a12 S13 e14.symm e15.symm
    have k16 := zs_kn e14 e15
    refine zu_dup d_5014_224 rfl ?_
    refine zu_iconst d_5014_225 zi_1 ?_
    refine zu_aload_n d_5014_226 rfl (zs_ra _) ?_
    obtain ⟨k17, h⟩ := h
    refine zg_5_86 rfl d_5014_227 k17 ?_
    refine zc_5_80 (x0 := (1 : Int32)) (x1 := (zs_I S13 5005 p0)) hB rfl d_5014_230 (Nat.le_of_ble_eq_true rfl) h (fun S18 h => ?_)
    exact zu_throw d_5014_233 h
def w_X6_sign_211 (X : zs_X) (d : Nat) (p0 : Nat) (S : zs_T) (Q : zs_Q) : Prop :=
  (w_X6_sign_216 X d p0 (1 : Int32) S Q)
theorem u_X6_sign_211 {σ : Nat → Nat} {n0 : Nat} {bf : ab_B} {d : Nat} {p0 : Nat} {S : zs_T} {Q : zs_Q} (hB : zt_B bf) (h : w_X6_sign_211 (zx σ n0 bf) d p0 S Q) : zs_U (zx σ n0 bf) d 5014 211 [(0, .ref p0)] [] S Q := by
  unfold w_X6_sign_211 at h
  refine zu_iconst d_5014_211 zi_1 ?_
  refine zu_goto (t := 216) d_5014_212 rfl ?_
  exact (u_X6_sign_216 hB h).weak ⟨rfl, trivial⟩
def w_X6_sign_181 (X : zs_X) (d : Nat) (p0 : Nat) (p1 : Int32) (S : zs_T) (Q : zs_Q) : Prop :=
  (((p1 = (44 : Int32) → w_X6_sign_211 X d p0 S Q) ∧ (¬ (p1 = (44 : Int32)) → (((p1 = (59 : Int32) → w_X6_sign_211 X d p0 S Q) ∧ (¬ (p1 = (59 : Int32)) → (((p1 = (58 : Int32) → w_X6_sign_211 X d p0 S Q) ∧ (¬ (p1 = (58 : Int32)) → (((p1 = (94 : Int32) → w_X6_sign_211 X d p0 S Q) ∧ (¬ (p1 = (94 : Int32)) → (((¬ p1 = (46 : Int32) → (w_X6_sign_216 X d p0 (0 : Int32) S Q)) ∧ (¬ (¬ p1 = (46 : Int32)) → w_X6_sign_211 X d p0 S Q)))))))))))))))
theorem u_X6_sign_181 {σ : Nat → Nat} {n0 : Nat} {bf : ab_B} {d : Nat} {p0 : Nat} {p1 : Int32} {S : zs_T} {Q : zs_Q} (hB : zt_B bf) (h : w_X6_sign_181 (zx σ n0 bf) d p0 p1 S Q) : zs_U (zx σ n0 bf) d 5014 181 [(0, .ref p0), (1, .int p1)] [] S Q := by
  unfold w_X6_sign_181 at h
  refine zu_iload_n d_5014_181 rfl ?_
  refine zu_bipush d_5014_182 zj_44 ?_
  refine zu_cmpeq (t := 211) d_5014_184 rfl (fun c1 => ?_) (fun c1 => ?_)
  · have h := h.1 c1
    exact (u_X6_sign_211 hB h).weak ⟨rfl, trivial⟩
  · have h := h.2 c1
    refine zu_iload_n d_5014_187 rfl ?_
    refine zu_bipush d_5014_188 zj_59 ?_
    refine zu_cmpeq (t := 211) d_5014_190 rfl (fun c2 => ?_) (fun c2 => ?_)
    · have h := h.1 c2
      exact (u_X6_sign_211 hB h).weak ⟨rfl, trivial⟩
    · have h := h.2 c2
      refine zu_iload_n d_5014_193 rfl ?_
      refine zu_bipush d_5014_194 zj_58 ?_
      refine zu_cmpeq (t := 211) d_5014_196 rfl (fun c3 => ?_) (fun c3 => ?_)
      · have h := h.1 c3
        exact (u_X6_sign_211 hB h).weak ⟨rfl, trivial⟩
      · have h := h.2 c3
        refine zu_iload_n d_5014_199 rfl ?_
        refine zu_bipush d_5014_200 zj_94 ?_
        refine zu_cmpeq (t := 211) d_5014_202 rfl (fun c4 => ?_) (fun c4 => ?_)
        · have h := h.1 c4
          exact (u_X6_sign_211 hB h).weak ⟨rfl, trivial⟩
        · have h := h.2 c4
          refine zu_iload_n d_5014_205 rfl ?_
          refine zu_bipush d_5014_206 zj_46 ?_
          refine zu_cmpne (t := 215) d_5014_208 rfl (fun c5 => ?_) (fun c5 => ?_)
          · have h := h.1 c5
            refine zu_iconst d_5014_215 zi_0 ?_
            exact (u_X6_sign_216 hB h).weak ⟨rfl, trivial⟩
          · have h := h.2 c5
            exact (u_X6_sign_211 hB h).weak ⟨rfl, trivial⟩
def w_X6_sign_145 (X : zs_X) (d : Nat) (p0 : Nat) (p1 : Int32) (S : zs_T) (Q : zs_Q) : Prop :=
  (((p1 = (60 : Int32) → w_X6_sign_211 X d p0 S Q) ∧ (¬ (p1 = (60 : Int32)) → (((p1 = (62 : Int32) → w_X6_sign_211 X d p0 S Q) ∧ (¬ (p1 = (62 : Int32)) → (((p1 = (40 : Int32) → w_X6_sign_211 X d p0 S Q) ∧ (¬ (p1 = (40 : Int32)) → (((p1 = (41 : Int32) → w_X6_sign_211 X d p0 S Q) ∧ (¬ (p1 = (41 : Int32)) → (((p1 = (91 : Int32) → w_X6_sign_211 X d p0 S Q) ∧ (¬ (p1 = (91 : Int32)) → (((p1 = (93 : Int32) → w_X6_sign_211 X d p0 S Q) ∧ (¬ (p1 = (93 : Int32)) → w_X6_sign_181 X d p0 p1 S Q))))))))))))))))))
theorem u_X6_sign_145 {σ : Nat → Nat} {n0 : Nat} {bf : ab_B} {d : Nat} {p0 : Nat} {p1 : Int32} {S : zs_T} {Q : zs_Q} (hB : zt_B bf) (h : w_X6_sign_145 (zx σ n0 bf) d p0 p1 S Q) : zs_U (zx σ n0 bf) d 5014 145 [(0, .ref p0), (1, .int p1)] [] S Q := by
  unfold w_X6_sign_145 at h
  refine zu_iload_n d_5014_145 rfl ?_
  refine zu_bipush d_5014_146 zj_60 ?_
  refine zu_cmpeq (t := 211) d_5014_148 rfl (fun c1 => ?_) (fun c1 => ?_)
  · have h := h.1 c1
    exact (u_X6_sign_211 hB h).weak ⟨rfl, trivial⟩
  · have h := h.2 c1
    refine zu_iload_n d_5014_151 rfl ?_
    refine zu_bipush d_5014_152 zj_62 ?_
    refine zu_cmpeq (t := 211) d_5014_154 rfl (fun c2 => ?_) (fun c2 => ?_)
    · have h := h.1 c2
      exact (u_X6_sign_211 hB h).weak ⟨rfl, trivial⟩
    · have h := h.2 c2
      refine zu_iload_n d_5014_157 rfl ?_
      refine zu_bipush d_5014_158 zj_40 ?_
      refine zu_cmpeq (t := 211) d_5014_160 rfl (fun c3 => ?_) (fun c3 => ?_)
      · have h := h.1 c3
        exact (u_X6_sign_211 hB h).weak ⟨rfl, trivial⟩
      · have h := h.2 c3
        refine zu_iload_n d_5014_163 rfl ?_
        refine zu_bipush d_5014_164 zj_41 ?_
        refine zu_cmpeq (t := 211) d_5014_166 rfl (fun c4 => ?_) (fun c4 => ?_)
        · have h := h.1 c4
          exact (u_X6_sign_211 hB h).weak ⟨rfl, trivial⟩
        · have h := h.2 c4
          refine zu_iload_n d_5014_169 rfl ?_
          refine zu_bipush d_5014_170 zj_91 ?_
          refine zu_cmpeq (t := 211) d_5014_172 rfl (fun c5 => ?_) (fun c5 => ?_)
          · have h := h.1 c5
            exact (u_X6_sign_211 hB h).weak ⟨rfl, trivial⟩
          · have h := h.2 c5
            refine zu_iload_n d_5014_175 rfl ?_
            refine zu_bipush d_5014_176 zj_93 ?_
            refine zu_cmpeq (t := 211) d_5014_178 rfl (fun c6 => ?_) (fun c6 => ?_)
            · have h := h.1 c6
              exact (u_X6_sign_211 hB h).weak ⟨rfl, trivial⟩
            · have h := h.2 c6
              exact (u_X6_sign_181 hB h).weak ⟨rfl, rfl, trivial⟩
def w_X6_sign_108 (X : zs_X) (d : Nat) (p0 : Nat) (p1 : Int32) (q0 : Option Nat) (q1 : Int32) (S : zs_T) (Q : zs_Q) : Prop :=
  (∃ b1, q0 = some b1 ∧ zs_K S b1 = some (.inl 5) ∧ ab_n0 X.1 ≤ b1 ∧ ∀ S5, S5 = zs_sI S 5004 b1 q1 → zs_K S p0 = some (.inl 5) ∧ (((255 : Int32) < (zs_I S5 5004 p0) → w_X6_sign_211 X d p0 S5 Q) ∧ (¬ ((255 : Int32) < (zs_I S5 5004 p0)) → (((p1 = (43 : Int32) → w_X6_sign_211 X d p0 S5 Q) ∧ (¬ (p1 = (43 : Int32)) → (((p1 = (45 : Int32) → w_X6_sign_211 X d p0 S5 Q) ∧ (¬ (p1 = (45 : Int32)) → (((p1 = (42 : Int32) → w_X6_sign_211 X d p0 S5 Q) ∧ (¬ (p1 = (42 : Int32)) → (((p1 = (61 : Int32) → w_X6_sign_211 X d p0 S5 Q) ∧ (¬ (p1 = (61 : Int32)) → w_X6_sign_145 X d p0 p1 S5 Q)))))))))))))))
theorem u_X6_sign_108 {σ : Nat → Nat} {n0 : Nat} {bf : ab_B} {d : Nat} {p0 : Nat} {p1 : Int32} {q0 : Option Nat} {q1 : Int32} {S : zs_T} {Q : zs_Q} (hB : zt_B bf) (h : w_X6_sign_108 (zx σ n0 bf) d p0 p1 q0 q1 S Q) : zs_U (zx σ n0 bf) d 5014 108 [(0, .ref p0), (1, .int p1)] [.int q1, va_rf q0] S Q := by
  unfold w_X6_sign_108 at h
  obtain ⟨b1, e2, h⟩ := h
  refine zs_stk1 (zs_rfe e2) ?_
  obtain ⟨k3, h⟩ := h
  obtain ⟨k4, h⟩ := h
  refine zp_5_107 (v := q1) rfl d_5014_108 k3 k4 ?_
  generalize e6 : zs_sI S 5004 b1 q1 = S5
  have h := h S5 e6.symm
  have K7 : ∀ b, zs_K S5 b = zs_K S b := zs_Kt e6 (zs_KsI _ _ _ _) (fun _ => rfl)
  refine zu_aload_n d_5014_111 rfl (zs_ra _) ?_
  obtain ⟨k8, h⟩ := h
  refine zg_5_107 rfl d_5014_112 ((K7 _).trans k8) ?_
  refine zu_sipush d_5014_115 zh_255 ?_
  refine zu_cmpgt (t := 211) d_5014_118 rfl (fun c9 => ?_) (fun c9 => ?_)
  · have h := h.1 c9
    exact (u_X6_sign_211 hB h).weak ⟨rfl, trivial⟩
  · have h := h.2 c9
    refine zu_iload_n d_5014_121 rfl ?_
    refine zu_bipush d_5014_122 zj_43 ?_
    refine zu_cmpeq (t := 211) d_5014_124 rfl (fun c10 => ?_) (fun c10 => ?_)
    · have h := h.1 c10
      exact (u_X6_sign_211 hB h).weak ⟨rfl, trivial⟩
    · have h := h.2 c10
      refine zu_iload_n d_5014_127 rfl ?_
      refine zu_bipush d_5014_128 zj_45 ?_
      refine zu_cmpeq (t := 211) d_5014_130 rfl (fun c11 => ?_) (fun c11 => ?_)
      · have h := h.1 c11
        exact (u_X6_sign_211 hB h).weak ⟨rfl, trivial⟩
      · have h := h.2 c11
        refine zu_iload_n d_5014_133 rfl ?_
        refine zu_bipush d_5014_134 zj_42 ?_
        refine zu_cmpeq (t := 211) d_5014_136 rfl (fun c12 => ?_) (fun c12 => ?_)
        · have h := h.1 c12
          exact (u_X6_sign_211 hB h).weak ⟨rfl, trivial⟩
        · have h := h.2 c12
          refine zu_iload_n d_5014_139 rfl ?_
          refine zu_bipush d_5014_140 zj_61 ?_
          refine zu_cmpeq (t := 211) d_5014_142 rfl (fun c13 => ?_) (fun c13 => ?_)
          · have h := h.1 c13
            exact (u_X6_sign_211 hB h).weak ⟨rfl, trivial⟩
          · have h := h.2 c13
            exact (u_X6_sign_145 hB h).weak ⟨rfl, rfl, trivial⟩
def w_X6_sign_107 (X : zs_X) (d : Nat) (p0 : Nat) (p1 : Int32) (q0 : Option Nat) (S : zs_T) (Q : zs_Q) : Prop :=
  (w_X6_sign_108 X d p0 p1 q0 p1 S Q)
theorem u_X6_sign_107 {σ : Nat → Nat} {n0 : Nat} {bf : ab_B} {d : Nat} {p0 : Nat} {p1 : Int32} {q0 : Option Nat} {S : zs_T} {Q : zs_Q} (hB : zt_B bf) (h : w_X6_sign_107 (zx σ n0 bf) d p0 p1 q0 S Q) : zs_U (zx σ n0 bf) d 5014 107 [(0, .ref p0), (1, .int p1)] [va_rf q0] S Q := by
  unfold w_X6_sign_107 at h
  refine zu_iload_n d_5014_107 rfl ?_
  exact (u_X6_sign_108 hB h).weak ⟨rfl, rfl, trivial⟩
def w_X6_sign_89 (X : zs_X) (d : Nat) (p0 : Nat) (p1 : Int32) (p2 : Int32) (q0 : Option Nat) (S : zs_T) (Q : zs_Q) : Prop :=
  (((¬ p1 = (46 : Int32) → w_X6_sign_107 X d p0 p1 q0 S Q) ∧ (¬ (¬ p1 = (46 : Int32)) → (((¬ p2 = (46 : Int32) → w_X6_sign_107 X d p0 p1 q0 S Q) ∧ (¬ (¬ p2 = (46 : Int32)) → (w_X6_sign_108 X d p0 p1 q0 (260 : Int32) S Q)))))))
theorem u_X6_sign_89 {σ : Nat → Nat} {n0 : Nat} {bf : ab_B} {d : Nat} {p0 : Nat} {p1 : Int32} {p2 : Int32} {q0 : Option Nat} {S : zs_T} {Q : zs_Q} (hB : zt_B bf) (h : w_X6_sign_89 (zx σ n0 bf) d p0 p1 p2 q0 S Q) : zs_U (zx σ n0 bf) d 5014 89 [(0, .ref p0), (1, .int p1), (2, .int p2)] [va_rf q0] S Q := by
  unfold w_X6_sign_89 at h
  refine zu_iload_n d_5014_89 rfl ?_
  refine zu_bipush d_5014_90 zj_46 ?_
  refine zu_cmpne (t := 107) d_5014_92 rfl (fun c1 => ?_) (fun c1 => ?_)
  · have h := h.1 c1
    exact (u_X6_sign_107 hB h).weak ⟨rfl, rfl, trivial⟩
  · have h := h.2 c1
    refine zu_iload_n d_5014_95 rfl ?_
    refine zu_bipush d_5014_96 zj_46 ?_
    refine zu_cmpne (t := 107) d_5014_98 rfl (fun c2 => ?_) (fun c2 => ?_)
    · have h := h.1 c2
      exact (u_X6_sign_107 hB h).weak ⟨rfl, rfl, trivial⟩
    · have h := h.2 c2
      refine zu_sipush d_5014_101 zh_260 ?_
      refine zu_goto (t := 108) d_5014_104 rfl ?_
      exact (u_X6_sign_108 hB h).weak ⟨rfl, rfl, trivial⟩
def w_X6_sign_71 (X : zs_X) (d : Nat) (p0 : Nat) (p1 : Int32) (p2 : Int32) (q0 : Option Nat) (S : zs_T) (Q : zs_Q) : Prop :=
  (((¬ p1 = (58 : Int32) → w_X6_sign_89 X d p0 p1 p2 q0 S Q) ∧ (¬ (¬ p1 = (58 : Int32)) → (((¬ p2 = (61 : Int32) → w_X6_sign_89 X d p0 p1 p2 q0 S Q) ∧ (¬ (¬ p2 = (61 : Int32)) → (w_X6_sign_108 X d p0 p1 q0 (259 : Int32) S Q)))))))
theorem u_X6_sign_71 {σ : Nat → Nat} {n0 : Nat} {bf : ab_B} {d : Nat} {p0 : Nat} {p1 : Int32} {p2 : Int32} {q0 : Option Nat} {S : zs_T} {Q : zs_Q} (hB : zt_B bf) (h : w_X6_sign_71 (zx σ n0 bf) d p0 p1 p2 q0 S Q) : zs_U (zx σ n0 bf) d 5014 71 [(0, .ref p0), (1, .int p1), (2, .int p2)] [va_rf q0] S Q := by
  unfold w_X6_sign_71 at h
  refine zu_iload_n d_5014_71 rfl ?_
  refine zu_bipush d_5014_72 zj_58 ?_
  refine zu_cmpne (t := 89) d_5014_74 rfl (fun c1 => ?_) (fun c1 => ?_)
  · have h := h.1 c1
    exact (u_X6_sign_89 hB h).weak ⟨rfl, rfl, rfl, trivial⟩
  · have h := h.2 c1
    refine zu_iload_n d_5014_77 rfl ?_
    refine zu_bipush d_5014_78 zj_61 ?_
    refine zu_cmpne (t := 89) d_5014_80 rfl (fun c2 => ?_) (fun c2 => ?_)
    · have h := h.1 c2
      exact (u_X6_sign_89 hB h).weak ⟨rfl, rfl, rfl, trivial⟩
    · have h := h.2 c2
      refine zu_sipush d_5014_83 zh_259 ?_
      refine zu_goto (t := 108) d_5014_86 rfl ?_
      exact (u_X6_sign_108 hB h).weak ⟨rfl, rfl, trivial⟩
def w_X6_sign_53 (X : zs_X) (d : Nat) (p0 : Nat) (p1 : Int32) (p2 : Int32) (q0 : Option Nat) (S : zs_T) (Q : zs_Q) : Prop :=
  (((¬ p1 = (62 : Int32) → w_X6_sign_71 X d p0 p1 p2 q0 S Q) ∧ (¬ (¬ p1 = (62 : Int32)) → (((¬ p2 = (61 : Int32) → w_X6_sign_71 X d p0 p1 p2 q0 S Q) ∧ (¬ (¬ p2 = (61 : Int32)) → (w_X6_sign_108 X d p0 p1 q0 (258 : Int32) S Q)))))))
theorem u_X6_sign_53 {σ : Nat → Nat} {n0 : Nat} {bf : ab_B} {d : Nat} {p0 : Nat} {p1 : Int32} {p2 : Int32} {q0 : Option Nat} {S : zs_T} {Q : zs_Q} (hB : zt_B bf) (h : w_X6_sign_53 (zx σ n0 bf) d p0 p1 p2 q0 S Q) : zs_U (zx σ n0 bf) d 5014 53 [(0, .ref p0), (1, .int p1), (2, .int p2)] [va_rf q0] S Q := by
  unfold w_X6_sign_53 at h
  refine zu_iload_n d_5014_53 rfl ?_
  refine zu_bipush d_5014_54 zj_62 ?_
  refine zu_cmpne (t := 71) d_5014_56 rfl (fun c1 => ?_) (fun c1 => ?_)
  · have h := h.1 c1
    exact (u_X6_sign_71 hB h).weak ⟨rfl, rfl, rfl, trivial⟩
  · have h := h.2 c1
    refine zu_iload_n d_5014_59 rfl ?_
    refine zu_bipush d_5014_60 zj_61 ?_
    refine zu_cmpne (t := 71) d_5014_62 rfl (fun c2 => ?_) (fun c2 => ?_)
    · have h := h.1 c2
      exact (u_X6_sign_71 hB h).weak ⟨rfl, rfl, rfl, trivial⟩
    · have h := h.2 c2
      refine zu_sipush d_5014_65 zh_258 ?_
      refine zu_goto (t := 108) d_5014_68 rfl ?_
      exact (u_X6_sign_108 hB h).weak ⟨rfl, rfl, trivial⟩
def w_X6_sign_35 (X : zs_X) (d : Nat) (p0 : Nat) (p1 : Int32) (p2 : Int32) (q0 : Option Nat) (S : zs_T) (Q : zs_Q) : Prop :=
  (((¬ p1 = (60 : Int32) → w_X6_sign_53 X d p0 p1 p2 q0 S Q) ∧ (¬ (¬ p1 = (60 : Int32)) → (((¬ p2 = (61 : Int32) → w_X6_sign_53 X d p0 p1 p2 q0 S Q) ∧ (¬ (¬ p2 = (61 : Int32)) → (w_X6_sign_108 X d p0 p1 q0 (257 : Int32) S Q)))))))
theorem u_X6_sign_35 {σ : Nat → Nat} {n0 : Nat} {bf : ab_B} {d : Nat} {p0 : Nat} {p1 : Int32} {p2 : Int32} {q0 : Option Nat} {S : zs_T} {Q : zs_Q} (hB : zt_B bf) (h : w_X6_sign_35 (zx σ n0 bf) d p0 p1 p2 q0 S Q) : zs_U (zx σ n0 bf) d 5014 35 [(0, .ref p0), (1, .int p1), (2, .int p2)] [va_rf q0] S Q := by
  unfold w_X6_sign_35 at h
  refine zu_iload_n d_5014_35 rfl ?_
  refine zu_bipush d_5014_36 zj_60 ?_
  refine zu_cmpne (t := 53) d_5014_38 rfl (fun c1 => ?_) (fun c1 => ?_)
  · have h := h.1 c1
    exact (u_X6_sign_53 hB h).weak ⟨rfl, rfl, rfl, trivial⟩
  · have h := h.2 c1
    refine zu_iload_n d_5014_41 rfl ?_
    refine zu_bipush d_5014_42 zj_61 ?_
    refine zu_cmpne (t := 53) d_5014_44 rfl (fun c2 => ?_) (fun c2 => ?_)
    · have h := h.1 c2
      exact (u_X6_sign_53 hB h).weak ⟨rfl, rfl, rfl, trivial⟩
    · have h := h.2 c2
      refine zu_sipush d_5014_47 zh_257 ?_
      refine zu_goto (t := 108) d_5014_50 rfl ?_
      exact (u_X6_sign_108 hB h).weak ⟨rfl, rfl, trivial⟩
def w_X6_sign (X : zs_X) (d : Nat) (p0 : Nat) (p1 : Int32) (S : zs_T) (Q : zs_Q) : Prop :=
  (zs_K S p0 = some (.inl 5) ∧ zs_C X d 5006 [.ref p0, .int ((zs_I S 5002 p0) + (1 : Int32))] S (zs_kI (fun v3 S2 => (zs_K S2 p0 = some (.inl 5) ∧ ab_n0 X.1 ≤ p0 ∧ ∀ S6, S6 = zs_sI S2 5003 p0 (3 : Int32) → ((¬ p1 = (60 : Int32) → w_X6_sign_35 X d p0 p1 v3 (some p0) S6 Q) ∧ (¬ (¬ p1 = (60 : Int32)) → (((¬ v3 = (62 : Int32) → w_X6_sign_35 X d p0 p1 v3 (some p0) S6 Q) ∧ (¬ (¬ v3 = (62 : Int32)) → (w_X6_sign_108 X d p0 p1 (some p0) (256 : Int32) S6 Q)))))))) Q))
theorem u_X6_sign {σ : Nat → Nat} {n0 : Nat} {bf : ab_B} {d : Nat} {p0 : Nat} {p1 : Int32} {S : zs_T} {Q : zs_Q} (hB : zt_B bf) (hd : 1 ≤ d) (h : w_X6_sign (zx σ n0 bf) (d - 1) p0 p1 S Q) : zs_C (zx σ n0 bf) d 5014 [.ref p0, .int p1] S Q := by
  have hL : lv_args 0 [.ref p0, .int p1] = [(0, .ref p0), (1, .int p1)] := rfl
  refine zs_C.of1 (hB.2 5014 (by decide) (by decide)) hd (by rw [hL]; exact zs_sub_self _ (by exact ⟨rfl, rfl, trivial⟩)) ?_
  rw [hL]
  clear hL
  unfold w_X6_sign at h
  refine zu_aload_n d_5014_0 rfl (zs_ra _) ?_
  refine zu_aload_n d_5014_1 rfl (zs_ra _) ?_
  obtain ⟨k1, h⟩ := h
  refine zg_5_33 rfl d_5014_2 k1 ?_
  refine zu_iconst d_5014_5 zi_1 ?_
  refine zu_stk d_5014_6 rfl rfl ?_
  refine zc_5_71 (x0 := ((zs_I S 5002 p0) + (1 : Int32))) hB rfl k1 d_5014_7 (Nat.le_of_ble_eq_true rfl) h (fun v3 S2 h => ?_)
  refine zu_istore_n d_5014_10 (zs_lt zq_5014 rfl) ?_
  refine zu_aload_n d_5014_11 rfl (zs_ra _) ?_
  refine zu_iconst d_5014_12 zi_3 ?_
  obtain ⟨k4, h⟩ := h
  obtain ⟨k5, h⟩ := h
  refine zp_5_89 (v := (3 : Int32)) rfl d_5014_13 k4 k5 ?_
  generalize e7 : zs_sI S2 5003 p0 (3 : Int32) = S6
  have h := h S6 e7.symm
  have K8 : ∀ b, zs_K S6 b = zs_K S2 b := zs_Kt e7 (zs_KsI _ _ _ _) (fun _ => rfl)
  refine zu_aload_n d_5014_16 rfl (zs_ra _) ?_
  refine zu_iload_n d_5014_17 rfl ?_
  refine zu_bipush d_5014_18 zj_60 ?_
  refine zu_cmpne (t := 35) d_5014_20 rfl (fun c9 => ?_) (fun c9 => ?_)
  · have h := h.1 c9
    exact (u_X6_sign_35 hB h).weak ⟨rfl, rfl, rfl, trivial⟩
  · have h := h.2 c9
    refine zu_iload_n d_5014_23 rfl ?_
    refine zu_bipush d_5014_24 zj_62 ?_
    refine zu_cmpne (t := 35) d_5014_26 rfl (fun c10 => ?_) (fun c10 => ?_)
    · have h := h.1 c10
      exact (u_X6_sign_35 hB h).weak ⟨rfl, rfl, rfl, trivial⟩
    · have h := h.2 c10
      refine zu_sipush d_5014_29 zh_256 ?_
      refine zu_goto (t := 108) d_5014_32 rfl ?_
      exact (u_X6_sign_108 hB h).weak ⟨rfl, rfl, trivial⟩
/-! SchemaPascal$Words.isKept(I)Z -/
theorem zm_5015 {σ : Nat → Nat} {n0 : Nat} {bf : ab_B} : ab_code (zx σ n0 bf).1 5015 = prog_15_method_17_code := rfl
theorem zq_5015 {σ : Nat → Nat} {n0 : Nat} {bf : ab_B} : ab_maxL (zx σ n0 bf).1 5015 = 2 := rfl
theorem zr_5015 {σ : Nat → Nat} {n0 : Nat} {bf : ab_B} : ab_ret (zx σ n0 bf).1 5015 = (Option.some Jvm.ClassFile.FieldType.boolean) := rfl
theorem d_5015_0 {σ : Nat → Nat} {n0 : Nat} {bf : ab_B} : decode (ab_code (zx σ n0 bf).1 5015) 0 = .ok (.aload_n 0, 1) := zd zm_5015 (by decide +kernel)
theorem d_5015_1 {σ : Nat → Nat} {n0 : Nat} {bf : ab_B} : decode (ab_code (zx σ n0 bf).1 5015) 1 = .ok (.getfield 89, 3) := zd zm_5015 (by decide +kernel)
theorem d_5015_4 {σ : Nat → Nat} {n0 : Nat} {bf : ab_B} : decode (ab_code (zx σ n0 bf).1 5015) 4 = .ok (.ifCond .ne 15, 3) := zd zm_5015 (by decide +kernel)
theorem d_5015_7 {σ : Nat → Nat} {n0 : Nat} {bf : ab_B} : decode (ab_code (zx σ n0 bf).1 5015) 7 = .ok (.aload_n 0, 1) := zd zm_5015 (by decide +kernel)
theorem d_5015_8 {σ : Nat → Nat} {n0 : Nat} {bf : ab_B} : decode (ab_code (zx σ n0 bf).1 5015) 8 = .ok (.getfield 107, 3) := zd zm_5015 (by decide +kernel)
theorem d_5015_11 {σ : Nat → Nat} {n0 : Nat} {bf : ab_B} : decode (ab_code (zx σ n0 bf).1 5015) 11 = .ok (.iload_n 1, 1) := zd zm_5015 (by decide +kernel)
theorem d_5015_12 {σ : Nat → Nat} {n0 : Nat} {bf : ab_B} : decode (ab_code (zx σ n0 bf).1 5015) 12 = .ok (.if_icmp .ne 7, 3) := zd zm_5015 (by decide +kernel)
theorem d_5015_15 {σ : Nat → Nat} {n0 : Nat} {bf : ab_B} : decode (ab_code (zx σ n0 bf).1 5015) 15 = .ok (.iconst 1, 1) := zd zm_5015 (by decide +kernel)
theorem d_5015_16 {σ : Nat → Nat} {n0 : Nat} {bf : ab_B} : decode (ab_code (zx σ n0 bf).1 5015) 16 = .ok (.goto 4, 3) := zd zm_5015 (by decide +kernel)
theorem d_5015_19 {σ : Nat → Nat} {n0 : Nat} {bf : ab_B} : decode (ab_code (zx σ n0 bf).1 5015) 19 = .ok (.iconst 0, 1) := zd zm_5015 (by decide +kernel)
theorem d_5015_20 {σ : Nat → Nat} {n0 : Nat} {bf : ab_B} : decode (ab_code (zx σ n0 bf).1 5015) 20 = .ok (.ireturn, 1) := zd zm_5015 (by decide +kernel)
def w_X6_isKept (X : zs_X) (d : Nat) (p0 : Nat) (p1 : Int32) (S : zs_T) (Q : zs_Q) : Prop :=
  (zs_K S p0 = some (.inl 5) ∧ ((¬ (zs_I S 5003 p0) = 0 → (Q (.returned (some (.int (0 : Int32)))) S)) ∧ (¬ (¬ (zs_I S 5003 p0) = 0) → (((¬ (zs_I S 5004 p0) = p1 → (Q (.returned (some (.int (0 : Int32)))) S)) ∧ (¬ (¬ (zs_I S 5004 p0) = p1) → (Q (.returned (some (.int (1 : Int32)))) S)))))))
theorem u_X6_isKept {σ : Nat → Nat} {n0 : Nat} {bf : ab_B} {d : Nat} {p0 : Nat} {p1 : Int32} {S : zs_T} {Q : zs_Q} (hB : zt_B bf) (hd : 1 ≤ d) (h : w_X6_isKept (zx σ n0 bf) (d - 1) p0 p1 S Q) : zs_C (zx σ n0 bf) d 5015 [.ref p0, .int p1] S Q := by
  have hL : lv_args 0 [.ref p0, .int p1] = [(0, .ref p0), (1, .int p1)] := rfl
  refine zs_C.of1 (hB.2 5015 (by decide) (by decide)) hd (by rw [hL]; exact zs_sub_self _ (by exact ⟨rfl, rfl, trivial⟩)) ?_
  rw [hL]
  clear hL
  unfold w_X6_isKept at h
  refine zu_aload_n d_5015_0 rfl (zs_ra _) ?_
  obtain ⟨k1, h⟩ := h
  refine zg_5_89 rfl d_5015_1 k1 ?_
  refine zu_ifne (t := 19) d_5015_4 rfl (fun c2 => ?_) (fun c2 => ?_)
  · have h := h.1 c2
    refine zu_iconst d_5015_19 zi_0 ?_
    exact zu_iret d_5015_20 zr_5015 (zs_b_n (Or.inl rfl)) h
  · have h := h.2 c2
    refine zu_aload_n d_5015_7 rfl (zs_ra _) ?_
    refine zg_5_107 rfl d_5015_8 k1 ?_
    refine zu_iload_n d_5015_11 rfl ?_
    refine zu_cmpne (t := 19) d_5015_12 rfl (fun c3 => ?_) (fun c3 => ?_)
    · have h := h.1 c3
      refine zu_iconst d_5015_19 zi_0 ?_
      exact zu_iret d_5015_20 zr_5015 (zs_b_n (Or.inl rfl)) h
    · have h := h.2 c3
      refine zu_iconst d_5015_15 zi_1 ?_
      refine zu_goto (t := 20) d_5015_16 rfl ?_
      exact zu_iret d_5015_20 zr_5015 (zs_b_n (Or.inr rfl)) h
/-! SchemaPascal$Words.isName()Z -/
theorem zm_5016 {σ : Nat → Nat} {n0 : Nat} {bf : ab_B} : ab_code (zx σ n0 bf).1 5016 = prog_15_method_18_code := rfl
theorem zq_5016 {σ : Nat → Nat} {n0 : Nat} {bf : ab_B} : ab_maxL (zx σ n0 bf).1 5016 = 1 := rfl
theorem zr_5016 {σ : Nat → Nat} {n0 : Nat} {bf : ab_B} : ab_ret (zx σ n0 bf).1 5016 = (Option.some Jvm.ClassFile.FieldType.boolean) := rfl
theorem d_5016_0 {σ : Nat → Nat} {n0 : Nat} {bf : ab_B} : decode (ab_code (zx σ n0 bf).1 5016) 0 = .ok (.aload_n 0, 1) := zd zm_5016 (by decide +kernel)
theorem d_5016_1 {σ : Nat → Nat} {n0 : Nat} {bf : ab_B} : decode (ab_code (zx σ n0 bf).1 5016) 1 = .ok (.getfield 89, 3) := zd zm_5016 (by decide +kernel)
theorem d_5016_4 {σ : Nat → Nat} {n0 : Nat} {bf : ab_B} : decode (ab_code (zx σ n0 bf).1 5016) 4 = .ok (.ifCond .ne 16, 3) := zd zm_5016 (by decide +kernel)
theorem d_5016_7 {σ : Nat → Nat} {n0 : Nat} {bf : ab_B} : decode (ab_code (zx σ n0 bf).1 5016) 7 = .ok (.aload_n 0, 1) := zd zm_5016 (by decide +kernel)
theorem d_5016_8 {σ : Nat → Nat} {n0 : Nat} {bf : ab_B} : decode (ab_code (zx σ n0 bf).1 5016) 8 = .ok (.getfield 107, 3) := zd zm_5016 (by decide +kernel)
theorem d_5016_11 {σ : Nat → Nat} {n0 : Nat} {bf : ab_B} : decode (ab_code (zx σ n0 bf).1 5016) 11 = .ok (.bipush 36, 2) := zd zm_5016 (by decide +kernel)
theorem d_5016_13 {σ : Nat → Nat} {n0 : Nat} {bf : ab_B} : decode (ab_code (zx σ n0 bf).1 5016) 13 = .ok (.if_icmp .lt 7, 3) := zd zm_5016 (by decide +kernel)
theorem d_5016_16 {σ : Nat → Nat} {n0 : Nat} {bf : ab_B} : decode (ab_code (zx σ n0 bf).1 5016) 16 = .ok (.iconst 1, 1) := zd zm_5016 (by decide +kernel)
theorem d_5016_17 {σ : Nat → Nat} {n0 : Nat} {bf : ab_B} : decode (ab_code (zx σ n0 bf).1 5016) 17 = .ok (.goto 4, 3) := zd zm_5016 (by decide +kernel)
theorem d_5016_20 {σ : Nat → Nat} {n0 : Nat} {bf : ab_B} : decode (ab_code (zx σ n0 bf).1 5016) 20 = .ok (.iconst 0, 1) := zd zm_5016 (by decide +kernel)
theorem d_5016_21 {σ : Nat → Nat} {n0 : Nat} {bf : ab_B} : decode (ab_code (zx σ n0 bf).1 5016) 21 = .ok (.ireturn, 1) := zd zm_5016 (by decide +kernel)
def w_X6_isName (X : zs_X) (d : Nat) (p0 : Nat) (S : zs_T) (Q : zs_Q) : Prop :=
  (zs_K S p0 = some (.inl 5) ∧ ((¬ (zs_I S 5003 p0) = 0 → (Q (.returned (some (.int (0 : Int32)))) S)) ∧ (¬ (¬ (zs_I S 5003 p0) = 0) → ((((zs_I S 5004 p0) < (36 : Int32) → (Q (.returned (some (.int (0 : Int32)))) S)) ∧ (¬ ((zs_I S 5004 p0) < (36 : Int32)) → (Q (.returned (some (.int (1 : Int32)))) S)))))))
theorem u_X6_isName {σ : Nat → Nat} {n0 : Nat} {bf : ab_B} {d : Nat} {p0 : Nat} {S : zs_T} {Q : zs_Q} (hB : zt_B bf) (hd : 1 ≤ d) (h : w_X6_isName (zx σ n0 bf) (d - 1) p0 S Q) : zs_C (zx σ n0 bf) d 5016 [.ref p0] S Q := by
  have hL : lv_args 0 [.ref p0] = [(0, .ref p0)] := rfl
  refine zs_C.of1 (hB.2 5016 (by decide) (by decide)) hd (by rw [hL]; exact zs_sub_self _ (by exact ⟨rfl, trivial⟩)) ?_
  rw [hL]
  clear hL
  unfold w_X6_isName at h
  refine zu_aload_n d_5016_0 rfl (zs_ra _) ?_
  obtain ⟨k1, h⟩ := h
  refine zg_5_89 rfl d_5016_1 k1 ?_
  refine zu_ifne (t := 20) d_5016_4 rfl (fun c2 => ?_) (fun c2 => ?_)
  · have h := h.1 c2
    refine zu_iconst d_5016_20 zi_0 ?_
    exact zu_iret d_5016_21 zr_5016 (zs_b_n (Or.inl rfl)) h
  · have h := h.2 c2
    refine zu_aload_n d_5016_7 rfl (zs_ra _) ?_
    refine zg_5_107 rfl d_5016_8 k1 ?_
    refine zu_bipush d_5016_11 zj_36 ?_
    refine zu_cmplt (t := 20) d_5016_13 rfl (fun c3 => ?_) (fun c3 => ?_)
    · have h := h.1 c3
      refine zu_iconst d_5016_20 zi_0 ?_
      exact zu_iret d_5016_21 zr_5016 (zs_b_n (Or.inl rfl)) h
    · have h := h.2 c3
      refine zu_iconst d_5016_16 zi_1 ?_
      refine zu_goto (t := 21) d_5016_17 rfl ?_
      exact zu_iret d_5016_21 zr_5016 (zs_b_n (Or.inr rfl)) h
/-! SchemaPascal$Words.is(I)Z -/
theorem zm_5017 {σ : Nat → Nat} {n0 : Nat} {bf : ab_B} : ab_code (zx σ n0 bf).1 5017 = prog_15_method_16_code := rfl
theorem zq_5017 {σ : Nat → Nat} {n0 : Nat} {bf : ab_B} : ab_maxL (zx σ n0 bf).1 5017 = 2 := rfl
theorem zr_5017 {σ : Nat → Nat} {n0 : Nat} {bf : ab_B} : ab_ret (zx σ n0 bf).1 5017 = (Option.some Jvm.ClassFile.FieldType.boolean) := rfl
theorem d_5017_0 {σ : Nat → Nat} {n0 : Nat} {bf : ab_B} : decode (ab_code (zx σ n0 bf).1 5017) 0 = .ok (.aload_n 0, 1) := zd zm_5017 (by decide +kernel)
theorem d_5017_1 {σ : Nat → Nat} {n0 : Nat} {bf : ab_B} : decode (ab_code (zx σ n0 bf).1 5017) 1 = .ok (.getfield 89, 3) := zd zm_5017 (by decide +kernel)
theorem d_5017_4 {σ : Nat → Nat} {n0 : Nat} {bf : ab_B} : decode (ab_code (zx σ n0 bf).1 5017) 4 = .ok (.iconst 3, 1) := zd zm_5017 (by decide +kernel)
theorem d_5017_5 {σ : Nat → Nat} {n0 : Nat} {bf : ab_B} : decode (ab_code (zx σ n0 bf).1 5017) 5 = .ok (.if_icmp .ne 15, 3) := zd zm_5017 (by decide +kernel)
theorem d_5017_8 {σ : Nat → Nat} {n0 : Nat} {bf : ab_B} : decode (ab_code (zx σ n0 bf).1 5017) 8 = .ok (.aload_n 0, 1) := zd zm_5017 (by decide +kernel)
theorem d_5017_9 {σ : Nat → Nat} {n0 : Nat} {bf : ab_B} : decode (ab_code (zx σ n0 bf).1 5017) 9 = .ok (.getfield 107, 3) := zd zm_5017 (by decide +kernel)
theorem d_5017_12 {σ : Nat → Nat} {n0 : Nat} {bf : ab_B} : decode (ab_code (zx σ n0 bf).1 5017) 12 = .ok (.iload_n 1, 1) := zd zm_5017 (by decide +kernel)
theorem d_5017_13 {σ : Nat → Nat} {n0 : Nat} {bf : ab_B} : decode (ab_code (zx σ n0 bf).1 5017) 13 = .ok (.if_icmp .ne 7, 3) := zd zm_5017 (by decide +kernel)
theorem d_5017_16 {σ : Nat → Nat} {n0 : Nat} {bf : ab_B} : decode (ab_code (zx σ n0 bf).1 5017) 16 = .ok (.iconst 1, 1) := zd zm_5017 (by decide +kernel)
theorem d_5017_17 {σ : Nat → Nat} {n0 : Nat} {bf : ab_B} : decode (ab_code (zx σ n0 bf).1 5017) 17 = .ok (.goto 4, 3) := zd zm_5017 (by decide +kernel)
theorem d_5017_20 {σ : Nat → Nat} {n0 : Nat} {bf : ab_B} : decode (ab_code (zx σ n0 bf).1 5017) 20 = .ok (.iconst 0, 1) := zd zm_5017 (by decide +kernel)
theorem d_5017_21 {σ : Nat → Nat} {n0 : Nat} {bf : ab_B} : decode (ab_code (zx σ n0 bf).1 5017) 21 = .ok (.ireturn, 1) := zd zm_5017 (by decide +kernel)
def w_X6_is (X : zs_X) (d : Nat) (p0 : Nat) (p1 : Int32) (S : zs_T) (Q : zs_Q) : Prop :=
  (zs_K S p0 = some (.inl 5) ∧ ((¬ (zs_I S 5003 p0) = (3 : Int32) → (Q (.returned (some (.int (0 : Int32)))) S)) ∧ (¬ (¬ (zs_I S 5003 p0) = (3 : Int32)) → (((¬ (zs_I S 5004 p0) = p1 → (Q (.returned (some (.int (0 : Int32)))) S)) ∧ (¬ (¬ (zs_I S 5004 p0) = p1) → (Q (.returned (some (.int (1 : Int32)))) S)))))))
theorem u_X6_is {σ : Nat → Nat} {n0 : Nat} {bf : ab_B} {d : Nat} {p0 : Nat} {p1 : Int32} {S : zs_T} {Q : zs_Q} (hB : zt_B bf) (hd : 1 ≤ d) (h : w_X6_is (zx σ n0 bf) (d - 1) p0 p1 S Q) : zs_C (zx σ n0 bf) d 5017 [.ref p0, .int p1] S Q := by
  have hL : lv_args 0 [.ref p0, .int p1] = [(0, .ref p0), (1, .int p1)] := rfl
  refine zs_C.of1 (hB.2 5017 (by decide) (by decide)) hd (by rw [hL]; exact zs_sub_self _ (by exact ⟨rfl, rfl, trivial⟩)) ?_
  rw [hL]
  clear hL
  unfold w_X6_is at h
  refine zu_aload_n d_5017_0 rfl (zs_ra _) ?_
  obtain ⟨k1, h⟩ := h
  refine zg_5_89 rfl d_5017_1 k1 ?_
  refine zu_iconst d_5017_4 zi_3 ?_
  refine zu_cmpne (t := 20) d_5017_5 rfl (fun c2 => ?_) (fun c2 => ?_)
  · have h := h.1 c2
    refine zu_iconst d_5017_20 zi_0 ?_
    exact zu_iret d_5017_21 zr_5017 (zs_b_n (Or.inl rfl)) h
  · have h := h.2 c2
    refine zu_aload_n d_5017_8 rfl (zs_ra _) ?_
    refine zg_5_107 rfl d_5017_9 k1 ?_
    refine zu_iload_n d_5017_12 rfl ?_
    refine zu_cmpne (t := 20) d_5017_13 rfl (fun c3 => ?_) (fun c3 => ?_)
    · have h := h.1 c3
      refine zu_iconst d_5017_20 zi_0 ?_
      exact zu_iret d_5017_21 zr_5017 (zs_b_n (Or.inl rfl)) h
    · have h := h.2 c3
      refine zu_iconst d_5017_16 zi_1 ?_
      refine zu_goto (t := 21) d_5017_17 rfl ?_
      exact zu_iret d_5017_21 zr_5017 (zs_b_n (Or.inr rfl)) h
/-! SchemaPascal$Shapes.<init>([JI)V -/
theorem zm_2000 {σ : Nat → Nat} {n0 : Nat} {bf : ab_B} : ab_code (zx σ n0 bf).1 2000 = prog_11_method_1_code := rfl
theorem zq_2000 {σ : Nat → Nat} {n0 : Nat} {bf : ab_B} : ab_maxL (zx σ n0 bf).1 2000 = 3 := rfl
theorem zr_2000 {σ : Nat → Nat} {n0 : Nat} {bf : ab_B} : ab_ret (zx σ n0 bf).1 2000 = (Option.none : Option Jvm.ClassFile.FieldType) := rfl
theorem d_2000_0 {σ : Nat → Nat} {n0 : Nat} {bf : ab_B} : decode (ab_code (zx σ n0 bf).1 2000) 0 = .ok (.aload_n 0, 1) := zd zm_2000 (by decide +kernel)
theorem d_2000_1 {σ : Nat → Nat} {n0 : Nat} {bf : ab_B} : decode (ab_code (zx σ n0 bf).1 2000) 1 = .ok (.invokespecial 3, 3) := zd zm_2000 (by decide +kernel)
theorem d_2000_4 {σ : Nat → Nat} {n0 : Nat} {bf : ab_B} : decode (ab_code (zx σ n0 bf).1 2000) 4 = .ok (.aload_n 0, 1) := zd zm_2000 (by decide +kernel)
theorem d_2000_5 {σ : Nat → Nat} {n0 : Nat} {bf : ab_B} : decode (ab_code (zx σ n0 bf).1 2000) 5 = .ok (.aload_n 1, 1) := zd zm_2000 (by decide +kernel)
theorem d_2000_6 {σ : Nat → Nat} {n0 : Nat} {bf : ab_B} : decode (ab_code (zx σ n0 bf).1 2000) 6 = .ok (.putfield 9, 3) := zd zm_2000 (by decide +kernel)
theorem d_2000_9 {σ : Nat → Nat} {n0 : Nat} {bf : ab_B} : decode (ab_code (zx σ n0 bf).1 2000) 9 = .ok (.aload_n 0, 1) := zd zm_2000 (by decide +kernel)
theorem d_2000_10 {σ : Nat → Nat} {n0 : Nat} {bf : ab_B} : decode (ab_code (zx σ n0 bf).1 2000) 10 = .ok (.iload_n 2, 1) := zd zm_2000 (by decide +kernel)
theorem d_2000_11 {σ : Nat → Nat} {n0 : Nat} {bf : ab_B} : decode (ab_code (zx σ n0 bf).1 2000) 11 = .ok (.putfield 15, 3) := zd zm_2000 (by decide +kernel)
theorem d_2000_14 {σ : Nat → Nat} {n0 : Nat} {bf : ab_B} : decode (ab_code (zx σ n0 bf).1 2000) 14 = .ok (.return_, 1) := zd zm_2000 (by decide +kernel)
def w_X3_init (X : zs_X) (d : Nat) (p0 : Nat) (p1 : Option Nat) (p2 : Int32) (S : zs_T) (Q : zs_Q) : Prop :=
  (zs_C X d 39000 [.ref p0] S (zs_kV (fun S1 => (zs_K S1 p0 = some (.inl 2) ∧ ab_n0 X.1 ≤ p0 ∧ ∀ S5, S5 = zs_sR S1 2000 p0 p1 → ∀ S8, S8 = zs_sI S5 2001 p0 p2 → Q (.returned none) S8)) Q))
theorem u_X3_init {σ : Nat → Nat} {n0 : Nat} {bf : ab_B} {d : Nat} {p0 : Nat} {p1 : Option Nat} {p2 : Int32} {S : zs_T} {Q : zs_Q} (hB : zt_B bf) (hd : 1 ≤ d) (h : w_X3_init (zx σ n0 bf) (d - 1) p0 p1 p2 S Q) : zs_C (zx σ n0 bf) d 2000 [.ref p0, va_rf p1, .int p2] S Q := by
  have hL : lv_args 0 [.ref p0, va_rf p1, .int p2] = [(0, .ref p0), (1, va_rf p1), (2, .int p2)] := by simp [lv_args, zs_cat, zs_cI, zs_cJ, zs_cA]
  refine zs_C.of1 (hB.2 2000 (by decide) (by decide)) hd (by rw [hL]; exact zs_sub_self _ (by exact ⟨rfl, rfl, rfl, trivial⟩)) ?_
  rw [hL]
  clear hL
  unfold w_X3_init at h
  refine zu_aload_n d_2000_0 rfl (zs_ra _) ?_
  refine zc_2_3  hB rfl d_2000_1 (Nat.le_of_ble_eq_true rfl) h (fun S1 h => ?_)
  refine zu_aload_n d_2000_4 rfl (zs_ra _) ?_
  refine zu_aload_n d_2000_5 rfl (zs_rr _) ?_
  obtain ⟨k3, h⟩ := h
  obtain ⟨k4, h⟩ := h
  refine zp_2_9 (v := p1) rfl d_2000_6 k3 k4 ?_
  generalize e6 : zs_sR S1 2000 p0 p1 = S5
  have h := h S5 e6.symm
  have K7 : ∀ b, zs_K S5 b = zs_K S1 b := zs_Kt e6 (zs_KsR _ _ _ _) (fun _ => rfl)
  refine zu_aload_n d_2000_9 rfl (zs_ra _) ?_
  refine zu_iload_n d_2000_10 rfl ?_
  refine zp_2_15 (v := p2) rfl d_2000_11 ((K7 _).trans k3) k4 ?_
  generalize e9 : zs_sI S5 2001 p0 p2 = S8
  have h := h S8 e9.symm
  have K10 : ∀ b, zs_K S8 b = zs_K S1 b := zs_Kt e9 (zs_KsI _ _ _ _) K7
  exact zu_vret d_2000_14 zr_2000 h
/-! SchemaPascal$Shapes.value(LSchemaPascal$Node;I)J -/
theorem zm_2001 {σ : Nat → Nat} {n0 : Nat} {bf : ab_B} : ab_code (zx σ n0 bf).1 2001 = prog_11_method_2_code := rfl
theorem zq_2001 {σ : Nat → Nat} {n0 : Nat} {bf : ab_B} : ab_maxL (zx σ n0 bf).1 2001 = 8 := rfl
theorem zr_2001 {σ : Nat → Nat} {n0 : Nat} {bf : ab_B} : ab_ret (zx σ n0 bf).1 2001 = (Option.some Jvm.ClassFile.FieldType.long) := rfl
theorem d_2001_0 {σ : Nat → Nat} {n0 : Nat} {bf : ab_B} : decode (ab_code (zx σ n0 bf).1 2001) 0 = .ok (.aload_n 1, 1) := zd zm_2001 (by decide +kernel)
theorem d_2001_1 {σ : Nat → Nat} {n0 : Nat} {bf : ab_B} : decode (ab_code (zx σ n0 bf).1 2001) 1 = .ok (.astore_n 3, 1) := zd zm_2001 (by decide +kernel)
theorem d_2001_2 {σ : Nat → Nat} {n0 : Nat} {bf : ab_B} : decode (ab_code (zx σ n0 bf).1 2001) 2 = .ok (.aload_n 3, 1) := zd zm_2001 (by decide +kernel)
theorem d_2001_3 {σ : Nat → Nat} {n0 : Nat} {bf : ab_B} : decode (ab_code (zx σ n0 bf).1 2001) 3 = .ok (.getfield 19, 3) := zd zm_2001 (by decide +kernel)
theorem d_2001_6 {σ : Nat → Nat} {n0 : Nat} {bf : ab_B} : decode (ab_code (zx σ n0 bf).1 2001) 6 = .ok (.bipush 8, 2) := zd zm_2001 (by decide +kernel)
theorem d_2001_8 {σ : Nat → Nat} {n0 : Nat} {bf : ab_B} : decode (ab_code (zx σ n0 bf).1 2001) 8 = .ok (.if_icmp .ne 19, 3) := zd zm_2001 (by decide +kernel)
theorem d_2001_11 {σ : Nat → Nat} {n0 : Nat} {bf : ab_B} : decode (ab_code (zx σ n0 bf).1 2001) 11 = .ok (.aload_n 3, 1) := zd zm_2001 (by decide +kernel)
theorem d_2001_12 {σ : Nat → Nat} {n0 : Nat} {bf : ab_B} : decode (ab_code (zx σ n0 bf).1 2001) 12 = .ok (.getfield 24, 3) := zd zm_2001 (by decide +kernel)
theorem d_2001_15 {σ : Nat → Nat} {n0 : Nat} {bf : ab_B} : decode (ab_code (zx σ n0 bf).1 2001) 15 = .ok (.aload_n 3, 1) := zd zm_2001 (by decide +kernel)
theorem d_2001_16 {σ : Nat → Nat} {n0 : Nat} {bf : ab_B} : decode (ab_code (zx σ n0 bf).1 2001) 16 = .ok (.putfield 28, 3) := zd zm_2001 (by decide +kernel)
theorem d_2001_19 {σ : Nat → Nat} {n0 : Nat} {bf : ab_B} : decode (ab_code (zx σ n0 bf).1 2001) 19 = .ok (.aload_n 3, 1) := zd zm_2001 (by decide +kernel)
theorem d_2001_20 {σ : Nat → Nat} {n0 : Nat} {bf : ab_B} : decode (ab_code (zx σ n0 bf).1 2001) 20 = .ok (.getfield 24, 3) := zd zm_2001 (by decide +kernel)
theorem d_2001_23 {σ : Nat → Nat} {n0 : Nat} {bf : ab_B} : decode (ab_code (zx σ n0 bf).1 2001) 23 = .ok (.astore_n 3, 1) := zd zm_2001 (by decide +kernel)
theorem d_2001_24 {σ : Nat → Nat} {n0 : Nat} {bf : ab_B} : decode (ab_code (zx σ n0 bf).1 2001) 24 = .ok (.goto (-22), 3) := zd zm_2001 (by decide +kernel)
theorem d_2001_27 {σ : Nat → Nat} {n0 : Nat} {bf : ab_B} : decode (ab_code (zx σ n0 bf).1 2001) 27 = .ok (.aload_n 0, 1) := zd zm_2001 (by decide +kernel)
theorem d_2001_28 {σ : Nat → Nat} {n0 : Nat} {bf : ab_B} : decode (ab_code (zx σ n0 bf).1 2001) 28 = .ok (.aload_n 3, 1) := zd zm_2001 (by decide +kernel)
theorem d_2001_29 {σ : Nat → Nat} {n0 : Nat} {bf : ab_B} : decode (ab_code (zx σ n0 bf).1 2001) 29 = .ok (.iload_n 2, 1) := zd zm_2001 (by decide +kernel)
theorem d_2001_30 {σ : Nat → Nat} {n0 : Nat} {bf : ab_B} : decode (ab_code (zx σ n0 bf).1 2001) 30 = .ok (.invokevirtual 31, 3) := zd zm_2001 (by decide +kernel)
theorem d_2001_33 {σ : Nat → Nat} {n0 : Nat} {bf : ab_B} : decode (ab_code (zx σ n0 bf).1 2001) 33 = .ok (.lstore 4, 2) := zd zm_2001 (by decide +kernel)
theorem d_2001_35 {σ : Nat → Nat} {n0 : Nat} {bf : ab_B} : decode (ab_code (zx σ n0 bf).1 2001) 35 = .ok (.aload_n 3, 1) := zd zm_2001 (by decide +kernel)
theorem d_2001_36 {σ : Nat → Nat} {n0 : Nat} {bf : ab_B} : decode (ab_code (zx σ n0 bf).1 2001) 36 = .ok (.aload_n 1, 1) := zd zm_2001 (by decide +kernel)
theorem d_2001_37 {σ : Nat → Nat} {n0 : Nat} {bf : ab_B} : decode (ab_code (zx σ n0 bf).1 2001) 37 = .ok (.if_acmp .eq 59, 3) := zd zm_2001 (by decide +kernel)
theorem d_2001_40 {σ : Nat → Nat} {n0 : Nat} {bf : ab_B} : decode (ab_code (zx σ n0 bf).1 2001) 40 = .ok (.aload_n 3, 1) := zd zm_2001 (by decide +kernel)
theorem d_2001_41 {σ : Nat → Nat} {n0 : Nat} {bf : ab_B} : decode (ab_code (zx σ n0 bf).1 2001) 41 = .ok (.getfield 28, 3) := zd zm_2001 (by decide +kernel)
theorem d_2001_44 {σ : Nat → Nat} {n0 : Nat} {bf : ab_B} : decode (ab_code (zx σ n0 bf).1 2001) 44 = .ok (.astore_n 3, 1) := zd zm_2001 (by decide +kernel)
theorem d_2001_45 {σ : Nat → Nat} {n0 : Nat} {bf : ab_B} : decode (ab_code (zx σ n0 bf).1 2001) 45 = .ok (.aload_n 0, 1) := zd zm_2001 (by decide +kernel)
theorem d_2001_46 {σ : Nat → Nat} {n0 : Nat} {bf : ab_B} : decode (ab_code (zx σ n0 bf).1 2001) 46 = .ok (.aload_n 3, 1) := zd zm_2001 (by decide +kernel)
theorem d_2001_47 {σ : Nat → Nat} {n0 : Nat} {bf : ab_B} : decode (ab_code (zx σ n0 bf).1 2001) 47 = .ok (.getfield 35, 3) := zd zm_2001 (by decide +kernel)
theorem d_2001_50 {σ : Nat → Nat} {n0 : Nat} {bf : ab_B} : decode (ab_code (zx σ n0 bf).1 2001) 50 = .ok (.iload_n 2, 1) := zd zm_2001 (by decide +kernel)
theorem d_2001_51 {σ : Nat → Nat} {n0 : Nat} {bf : ab_B} : decode (ab_code (zx σ n0 bf).1 2001) 51 = .ok (.invokevirtual 38, 3) := zd zm_2001 (by decide +kernel)
theorem d_2001_54 {σ : Nat → Nat} {n0 : Nat} {bf : ab_B} : decode (ab_code (zx σ n0 bf).1 2001) 54 = .ok (.lstore 6, 2) := zd zm_2001 (by decide +kernel)
theorem d_2001_56 {σ : Nat → Nat} {n0 : Nat} {bf : ab_B} : decode (ab_code (zx σ n0 bf).1 2001) 56 = .ok (.lload 4, 2) := zd zm_2001 (by decide +kernel)
theorem d_2001_58 {σ : Nat → Nat} {n0 : Nat} {bf : ab_B} : decode (ab_code (zx σ n0 bf).1 2001) 58 = .ok (.ldc2_w 41, 3) := zd zm_2001 (by decide +kernel)
theorem d_2001_61 {σ : Nat → Nat} {n0 : Nat} {bf : ab_B} : decode (ab_code (zx σ n0 bf).1 2001) 61 = .ok (.lcmp, 1) := zd zm_2001 (by decide +kernel)
theorem d_2001_62 {σ : Nat → Nat} {n0 : Nat} {bf : ab_B} : decode (ab_code (zx σ n0 bf).1 2001) 62 = .ok (.ifCond .eq 12, 3) := zd zm_2001 (by decide +kernel)
theorem d_2001_65 {σ : Nat → Nat} {n0 : Nat} {bf : ab_B} : decode (ab_code (zx σ n0 bf).1 2001) 65 = .ok (.lload 6, 2) := zd zm_2001 (by decide +kernel)
theorem d_2001_67 {σ : Nat → Nat} {n0 : Nat} {bf : ab_B} : decode (ab_code (zx σ n0 bf).1 2001) 67 = .ok (.ldc2_w 41, 3) := zd zm_2001 (by decide +kernel)
theorem d_2001_70 {σ : Nat → Nat} {n0 : Nat} {bf : ab_B} : decode (ab_code (zx σ n0 bf).1 2001) 70 = .ok (.lcmp, 1) := zd zm_2001 (by decide +kernel)
theorem d_2001_71 {σ : Nat → Nat} {n0 : Nat} {bf : ab_B} : decode (ab_code (zx σ n0 bf).1 2001) 71 = .ok (.ifCond .ne 9, 3) := zd zm_2001 (by decide +kernel)
theorem d_2001_74 {σ : Nat → Nat} {n0 : Nat} {bf : ab_B} : decode (ab_code (zx σ n0 bf).1 2001) 74 = .ok (.ldc2_w 41, 3) := zd zm_2001 (by decide +kernel)
theorem d_2001_77 {σ : Nat → Nat} {n0 : Nat} {bf : ab_B} : decode (ab_code (zx σ n0 bf).1 2001) 77 = .ok (.goto 14, 3) := zd zm_2001 (by decide +kernel)
theorem d_2001_80 {σ : Nat → Nat} {n0 : Nat} {bf : ab_B} : decode (ab_code (zx σ n0 bf).1 2001) 80 = .ok (.aload_n 3, 1) := zd zm_2001 (by decide +kernel)
theorem d_2001_81 {σ : Nat → Nat} {n0 : Nat} {bf : ab_B} : decode (ab_code (zx σ n0 bf).1 2001) 81 = .ok (.getfield 43, 3) := zd zm_2001 (by decide +kernel)
theorem d_2001_84 {σ : Nat → Nat} {n0 : Nat} {bf : ab_B} : decode (ab_code (zx σ n0 bf).1 2001) 84 = .ok (.lload 4, 2) := zd zm_2001 (by decide +kernel)
theorem d_2001_86 {σ : Nat → Nat} {n0 : Nat} {bf : ab_B} : decode (ab_code (zx σ n0 bf).1 2001) 86 = .ok (.lload 6, 2) := zd zm_2001 (by decide +kernel)
theorem d_2001_88 {σ : Nat → Nat} {n0 : Nat} {bf : ab_B} : decode (ab_code (zx σ n0 bf).1 2001) 88 = .ok (.invokestatic 46, 3) := zd zm_2001 (by decide +kernel)
theorem d_2001_91 {σ : Nat → Nat} {n0 : Nat} {bf : ab_B} : decode (ab_code (zx σ n0 bf).1 2001) 91 = .ok (.lstore 4, 2) := zd zm_2001 (by decide +kernel)
theorem d_2001_93 {σ : Nat → Nat} {n0 : Nat} {bf : ab_B} : decode (ab_code (zx σ n0 bf).1 2001) 93 = .ok (.goto (-58), 3) := zd zm_2001 (by decide +kernel)
theorem d_2001_96 {σ : Nat → Nat} {n0 : Nat} {bf : ab_B} : decode (ab_code (zx σ n0 bf).1 2001) 96 = .ok (.lload 4, 2) := zd zm_2001 (by decide +kernel)
theorem d_2001_98 {σ : Nat → Nat} {n0 : Nat} {bf : ab_B} : decode (ab_code (zx σ n0 bf).1 2001) 98 = .ok (.lreturn, 1) := zd zm_2001 (by decide +kernel)
def w_X3_value_2 (X : zs_X) (d : Nat) (p0 : Nat) (p1 : Option Nat) (p2 : Int32) (p3 : Option Nat) (S : zs_T) (Q : zs_Q) : Prop :=
  (∃ b1, p3 = some b1 ∧ zs_K S b1 = some (.inl 11) ∧ ((¬ (zs_I S 11000 b1) = (8 : Int32) → (zs_K S p0 = some (.inl 2) ∧ zs_C X d 2002 [.ref p0, va_rf p3, .int p2] S (zs_kJ (fun v7 S6 => (zs_U X d 2001 35 [(0, .ref p0), (1, va_rf p1), (2, .int p2), (3, va_rf p3), (4, .long v7)] [] S6 Q)) Q))) ∧ (¬ (¬ (zs_I S 11000 b1) = (8 : Int32)) → (∃ b8, (zs_R S 11005 b1) = some b8 ∧ zs_K S b8 = some (.inl 11) ∧ ab_n0 X.1 ≤ b8 ∧ ∀ S12, S12 = zs_sR S 11008 b8 p3 → zs_U X d 2001 2 [(0, .ref p0), (1, va_rf p1), (2, .int p2), (3, va_rf (zs_R S12 11005 b1))] [] S12 Q))))
theorem u_X3_value_2 {σ : Nat → Nat} {n0 : Nat} {bf : ab_B} {d : Nat} {p0 : Nat} {p1 : Option Nat} {p2 : Int32} {p3 : Option Nat} {S : zs_T} {Q : zs_Q} (hB : zt_B bf) (h : w_X3_value_2 (zx σ n0 bf) d p0 p1 p2 p3 S Q) : zs_U (zx σ n0 bf) d 2001 2 [(0, .ref p0), (1, va_rf p1), (2, .int p2), (3, va_rf p3)] [] S Q := by
  unfold w_X3_value_2 at h
  refine zu_aload_n d_2001_2 rfl (zs_rr _) ?_
  obtain ⟨b1, e2, h⟩ := h
  refine zs_stk0 (zs_rfe e2) ?_
  obtain ⟨k3, h⟩ := h
  refine zg_2_19 rfl d_2001_3 k3 ?_
  refine zu_bipush d_2001_6 zj_8 ?_
  refine zu_cmpne (t := 27) d_2001_8 rfl (fun c4 => ?_) (fun c4 => ?_)
  · have h := h.1 c4
    refine zu_aload_n d_2001_27 rfl (zs_ra _) ?_
    refine zu_aload_n d_2001_28 rfl (zs_rr _) ?_
    refine zu_iload_n d_2001_29 rfl ?_
    obtain ⟨k5, h⟩ := h
    refine zc_2_31 (x0 := p3) (x1 := p2) hB rfl k5 d_2001_30 (Nat.le_of_ble_eq_true rfl) h (fun v7 S6 h => ?_)
    refine zu_lstore d_2001_33 (zs_lt zq_2001 rfl) ?_
    refine zs_U.weak (L1 := [(4, .long v7), (0, .ref p0), (1, va_rf p1), (2, .int p2), (3, va_rf p3)]) ?_ ⟨rfl, zs_gp2 rfl rfl (Or.inl rfl) rfl, zs_gp2 rfl rfl (Or.inl (zs_cat _)) rfl, zs_gp2 rfl rfl (Or.inl rfl) rfl, zs_gp2 rfl rfl (Or.inl (zs_cat _)) rfl, trivial⟩
    exact h.weak ⟨rfl, rfl, rfl, rfl, rfl, trivial⟩
  · have h := h.2 c4
    refine zu_aload_n d_2001_11 rfl (zs_rr _) ?_
    refine zs_stk0 (zs_rfe e2) ?_
    refine zg_2_24 rfl d_2001_12 k3 ?_
    refine zu_aload_n d_2001_15 rfl (zs_rr _) ?_
    obtain ⟨b8, e9, h⟩ := h
    refine zs_stk1 (zs_rfe e9) ?_
    obtain ⟨k10, h⟩ := h
    obtain ⟨k11, h⟩ := h
    refine zp_2_28 (v := p3) rfl d_2001_16 k10 k11 ?_
    generalize e13 : zs_sR S 11008 b8 p3 = S12
    have h := h S12 e13.symm
    have K14 : ∀ b, zs_K S12 b = zs_K S b := zs_Kt e13 (zs_KsR _ _ _ _) (fun _ => rfl)
    refine zu_aload_n d_2001_19 rfl (zs_rr _) ?_
    refine zs_stk0 (zs_rfe e2) ?_
    refine zg_2_24 rfl d_2001_20 ((K14 _).trans k3) ?_
    refine zu_astore_n d_2001_23 (zs_rr _) (zs_lt zq_2001 rfl) ?_
    refine zu_goto (t := 2) d_2001_24 rfl ?_
    exact h.weak ⟨rfl, rfl, rfl, rfl, trivial⟩
def w_X3_value_74 (X : zs_X) (d : Nat) (p0 : Nat) (p1 : Option Nat) (p2 : Int32) (p3 : Option Nat) (S : zs_T) (Q : zs_Q) : Prop :=
  (zs_U X d 2001 35 [(0, .ref p0), (1, va_rf p1), (2, .int p2), (3, va_rf p3), (4, .long (-9223372036854775808 : Int64))] [] S Q)
theorem u_X3_value_74 {σ : Nat → Nat} {n0 : Nat} {bf : ab_B} {d : Nat} {p0 : Nat} {p1 : Option Nat} {p2 : Int32} {p3 : Option Nat} {S : zs_T} {Q : zs_Q} (hB : zt_B bf) (h : w_X3_value_74 (zx σ n0 bf) d p0 p1 p2 p3 S Q) : zs_U (zx σ n0 bf) d 2001 74 [(0, .ref p0), (1, va_rf p1), (2, .int p2), (3, va_rf p3)] [] S Q := by
  unfold w_X3_value_74 at h
  refine zl2_2_41 rfl d_2001_74 ?_
  refine zu_goto (t := 91) d_2001_77 rfl ?_
  refine zu_lstore d_2001_91 (zs_lt zq_2001 rfl) ?_
  refine zs_U.weak (L1 := [(4, .long (-9223372036854775808 : Int64)), (0, .ref p0), (1, va_rf p1), (2, .int p2), (3, va_rf p3)]) ?_ ⟨rfl, zs_gp2 rfl rfl (Or.inl rfl) rfl, zs_gp2 rfl rfl (Or.inl (zs_cat _)) rfl, zs_gp2 rfl rfl (Or.inl rfl) rfl, zs_gp2 rfl rfl (Or.inl (zs_cat _)) rfl, trivial⟩
  refine zu_goto (t := 35) d_2001_93 rfl ?_
  exact h.weak ⟨rfl, rfl, rfl, rfl, rfl, trivial⟩
def w_X3_value_65 (X : zs_X) (d : Nat) (p0 : Nat) (p1 : Option Nat) (p2 : Int32) (p3 : Option Nat) (p4 : Int64) (p6 : Int64) (S : zs_T) (Q : zs_Q) : Prop :=
  (((¬ p6 = (-9223372036854775808 : Int64) → (∃ b2, p3 = some b2 ∧ zs_K S b2 = some (.inl 11) ∧ zs_C X d 2005 [.int (zs_I S 11003 b2), .long p4, .long p6] S (zs_kJ (fun v6 S5 => (zs_U X d 2001 35 [(0, .ref p0), (1, va_rf p1), (2, .int p2), (3, va_rf p3), (4, .long v6)] [] S5 Q)) Q))) ∧ (¬ (¬ p6 = (-9223372036854775808 : Int64)) → w_X3_value_74 X d p0 p1 p2 p3 S Q)))
theorem u_X3_value_65 {σ : Nat → Nat} {n0 : Nat} {bf : ab_B} {d : Nat} {p0 : Nat} {p1 : Option Nat} {p2 : Int32} {p3 : Option Nat} {p4 : Int64} {p6 : Int64} {S : zs_T} {Q : zs_Q} (hB : zt_B bf) (h : w_X3_value_65 (zx σ n0 bf) d p0 p1 p2 p3 p4 p6 S Q) : zs_U (zx σ n0 bf) d 2001 65 [(0, .ref p0), (1, va_rf p1), (2, .int p2), (3, va_rf p3), (4, .long p4), (6, .long p6)] [] S Q := by
  unfold w_X3_value_65 at h
  refine zu_lload d_2001_65 rfl ?_
  refine zl2_2_41 rfl d_2001_67 ?_
  refine zu_lne (t := 80) d_2001_70 d_2001_71 rfl (fun c1 => ?_) (fun c1 => ?_)
  · have h := h.1 c1
    refine zu_aload_n d_2001_80 rfl (zs_rr _) ?_
    obtain ⟨b2, e3, h⟩ := h
    refine zs_stk0 (zs_rfe e3) ?_
    obtain ⟨k4, h⟩ := h
    refine zg_2_43 rfl d_2001_81 k4 ?_
    refine zu_lload d_2001_84 rfl ?_
    refine zu_lload d_2001_86 rfl ?_
    refine zc_2_46 (x0 := (zs_I S 11003 b2)) (x1 := p4) (x2 := p6) hB rfl d_2001_88 (Nat.le_of_ble_eq_true rfl) h (fun v6 S5 h => ?_)
    refine zu_lstore d_2001_91 (zs_lt zq_2001 rfl) ?_
    refine zs_U.weak (L1 := [(4, .long v6), (0, .ref p0), (1, va_rf p1), (2, .int p2), (3, va_rf p3), (6, .long p6)]) ?_ ⟨rfl, zs_gp2 rfl rfl (Or.inl rfl) rfl, zs_gp2 rfl rfl (Or.inl (zs_cat _)) rfl, zs_gp2 rfl rfl (Or.inl rfl) rfl, zs_gp2 rfl rfl (Or.inl (zs_cat _)) rfl, zs_gp2 rfl rfl (Or.inr rfl) rfl, trivial⟩
    refine zu_goto (t := 35) d_2001_93 rfl ?_
    exact h.weak ⟨rfl, rfl, rfl, rfl, rfl, trivial⟩
  · have h := h.2 c1
    exact (u_X3_value_74 hB h).weak ⟨rfl, rfl, rfl, rfl, trivial⟩
def w_X3_value_35 (X : zs_X) (d : Nat) (p0 : Nat) (p1 : Option Nat) (p2 : Int32) (p3 : Option Nat) (p4 : Int64) (S : zs_T) (Q : zs_Q) : Prop :=
  (((p3 = p1 → (Q (.returned (some (.long p4))) S)) ∧ (¬ (p3 = p1) → (∃ b2, p3 = some b2 ∧ zs_K S b2 = some (.inl 11) ∧ ∃ b5, (zs_R S 11008 b2) = some b5 ∧ zs_K S b5 = some (.inl 11) ∧ zs_K S p0 = some (.inl 2) ∧ zs_C X d 2001 [.ref p0, va_rf (zs_R S 11006 b5), .int p2] S (zs_kJ (fun v10 S9 => (((p4 = (-9223372036854775808 : Int64) → w_X3_value_74 X d p0 p1 p2 (zs_R S 11008 b2) S9 Q) ∧ (¬ (p4 = (-9223372036854775808 : Int64)) → w_X3_value_65 X d p0 p1 p2 (zs_R S 11008 b2) p4 v10 S9 Q)))) Q)))))
theorem u_X3_value_35 {σ : Nat → Nat} {n0 : Nat} {bf : ab_B} {d : Nat} {p0 : Nat} {p1 : Option Nat} {p2 : Int32} {p3 : Option Nat} {p4 : Int64} {S : zs_T} {Q : zs_Q} (hB : zt_B bf) (h : w_X3_value_35 (zx σ n0 bf) d p0 p1 p2 p3 p4 S Q) : zs_U (zx σ n0 bf) d 2001 35 [(0, .ref p0), (1, va_rf p1), (2, .int p2), (3, va_rf p3), (4, .long p4)] [] S Q := by
  unfold w_X3_value_35 at h
  refine zu_aload_n d_2001_35 rfl (zs_rr _) ?_
  refine zu_aload_n d_2001_36 rfl (zs_rr _) ?_
  refine zu_acmpeq (u := p3) (w := p1) (t := 96) d_2001_37 rfl rfl rfl (fun c1 => ?_) (fun c1 => ?_)
  · have h := h.1 c1
    refine zu_lload d_2001_96 rfl ?_
    exact zu_lret d_2001_98 zr_2001 h
  · have h := h.2 c1
    refine zu_aload_n d_2001_40 rfl (zs_rr _) ?_
    obtain ⟨b2, e3, h⟩ := h
    refine zs_stk0 (zs_rfe e3) ?_
    obtain ⟨k4, h⟩ := h
    refine zg_2_28 rfl d_2001_41 k4 ?_
    refine zu_astore_n d_2001_44 (zs_rr _) (zs_lt zq_2001 rfl) ?_
    refine zu_aload_n d_2001_45 rfl (zs_ra _) ?_
    refine zu_aload_n d_2001_46 rfl (zs_rr _) ?_
    obtain ⟨b5, e6, h⟩ := h
    refine zs_stk0 (zs_rfe e6) ?_
    obtain ⟨k7, h⟩ := h
    refine zg_2_35 rfl d_2001_47 k7 ?_
    refine zu_iload_n d_2001_50 rfl ?_
    obtain ⟨k8, h⟩ := h
    refine zc_2_38 (x0 := (zs_R S 11006 b5)) (x1 := p2) hB rfl k8 d_2001_51 (Nat.le_of_ble_eq_true rfl) h (fun v10 S9 h => ?_)
    refine zu_lstore d_2001_54 (zs_lt zq_2001 rfl) ?_
    refine zu_lload d_2001_56 rfl ?_
    refine zl2_2_41 rfl d_2001_58 ?_
    refine zu_leq (t := 74) d_2001_61 d_2001_62 rfl (fun c11 => ?_) (fun c11 => ?_)
    · have h := h.1 c11
      exact (u_X3_value_74 hB h).weak ⟨rfl, rfl, rfl, rfl, trivial⟩
    · have h := h.2 c11
      exact (u_X3_value_65 hB h).weak ⟨rfl, rfl, rfl, rfl, rfl, rfl, trivial⟩
def w_X3_value (X : zs_X) (d : Nat) (p0 : Nat) (p1 : Option Nat) (p2 : Int32) (S : zs_T) (Q : zs_Q) : Prop :=
  (zs_U X d 2001 2 [(0, .ref p0), (1, va_rf p1), (2, .int p2), (3, va_rf p1)] [] S Q)
theorem u_X3_value {σ : Nat → Nat} {n0 : Nat} {bf : ab_B} {d : Nat} {p0 : Nat} {p1 : Option Nat} {p2 : Int32} {S : zs_T} {Q : zs_Q} (hB : zt_B bf) (hd : 1 ≤ d) (h : w_X3_value (zx σ n0 bf) (d - 1) p0 p1 p2 S Q) : zs_C (zx σ n0 bf) d 2001 [.ref p0, va_rf p1, .int p2] S Q := by
  have hL : lv_args 0 [.ref p0, va_rf p1, .int p2] = [(0, .ref p0), (1, va_rf p1), (2, .int p2)] := by simp [lv_args, zs_cat, zs_cI, zs_cJ, zs_cA]
  refine zs_C.of1 (hB.2 2001 (by decide) (by decide)) hd (by rw [hL]; exact zs_sub_self _ (by exact ⟨rfl, rfl, rfl, trivial⟩)) ?_
  rw [hL]
  clear hL
  unfold w_X3_value at h
  refine zu_aload_n d_2001_0 rfl (zs_rr _) ?_
  refine zu_astore_n d_2001_1 (zs_rr _) (zs_lt zq_2001 rfl) ?_
  exact h.weak ⟨rfl, rfl, rfl, rfl, trivial⟩
