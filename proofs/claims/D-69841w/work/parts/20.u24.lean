/-! printed by gen_all.py: what the methods compute -/
set_option maxRecDepth 100000
/-! SchemaPascalModel.isScalar(I)Z -/
theorem zm_8212 {σ : Nat → Nat} {n0 : Nat} {bf : ab_B} : ab_code (zx σ n0 bf).1 8212 = prog_17_method_241_code := rfl
theorem zq_8212 {σ : Nat → Nat} {n0 : Nat} {bf : ab_B} : ab_maxL (zx σ n0 bf).1 8212 = 2 := rfl
theorem zr_8212 {σ : Nat → Nat} {n0 : Nat} {bf : ab_B} : ab_ret (zx σ n0 bf).1 8212 = (Option.some Jvm.ClassFile.FieldType.boolean) := rfl
theorem d_8212_0 {σ : Nat → Nat} {n0 : Nat} {bf : ab_B} : decode (ab_code (zx σ n0 bf).1 8212) 0 = .ok (.aload_n 0, 1) := zd zm_8212 (by decide +kernel)
theorem d_8212_1 {σ : Nat → Nat} {n0 : Nat} {bf : ab_B} : decode (ab_code (zx σ n0 bf).1 8212) 1 = .ok (.iload_n 1, 1) := zd zm_8212 (by decide +kernel)
theorem d_8212_2 {σ : Nat → Nat} {n0 : Nat} {bf : ab_B} : decode (ab_code (zx σ n0 bf).1 8212) 2 = .ok (.invokevirtual 564, 3) := zd zm_8212 (by decide +kernel)
theorem d_8212_5 {σ : Nat → Nat} {n0 : Nat} {bf : ab_B} : decode (ab_code (zx σ n0 bf).1 8212) 5 = .ok (.ifCond .ne 25, 3) := zd zm_8212 (by decide +kernel)
theorem d_8212_8 {σ : Nat → Nat} {n0 : Nat} {bf : ab_B} : decode (ab_code (zx σ n0 bf).1 8212) 8 = .ok (.aload_n 0, 1) := zd zm_8212 (by decide +kernel)
theorem d_8212_9 {σ : Nat → Nat} {n0 : Nat} {bf : ab_B} : decode (ab_code (zx σ n0 bf).1 8212) 9 = .ok (.getfield 90, 3) := zd zm_8212 (by decide +kernel)
theorem d_8212_12 {σ : Nat → Nat} {n0 : Nat} {bf : ab_B} : decode (ab_code (zx σ n0 bf).1 8212) 12 = .ok (.iload_n 1, 1) := zd zm_8212 (by decide +kernel)
theorem d_8212_13 {σ : Nat → Nat} {n0 : Nat} {bf : ab_B} : decode (ab_code (zx σ n0 bf).1 8212) 13 = .ok (.baload, 1) := zd zm_8212 (by decide +kernel)
theorem d_8212_14 {σ : Nat → Nat} {n0 : Nat} {bf : ab_B} : decode (ab_code (zx σ n0 bf).1 8212) 14 = .ok (.bipush 6, 2) := zd zm_8212 (by decide +kernel)
theorem d_8212_16 {σ : Nat → Nat} {n0 : Nat} {bf : ab_B} : decode (ab_code (zx σ n0 bf).1 8212) 16 = .ok (.if_icmp .eq 14, 3) := zd zm_8212 (by decide +kernel)
theorem d_8212_19 {σ : Nat → Nat} {n0 : Nat} {bf : ab_B} : decode (ab_code (zx σ n0 bf).1 8212) 19 = .ok (.aload_n 0, 1) := zd zm_8212 (by decide +kernel)
theorem d_8212_20 {σ : Nat → Nat} {n0 : Nat} {bf : ab_B} : decode (ab_code (zx σ n0 bf).1 8212) 20 = .ok (.getfield 90, 3) := zd zm_8212 (by decide +kernel)
theorem d_8212_23 {σ : Nat → Nat} {n0 : Nat} {bf : ab_B} : decode (ab_code (zx σ n0 bf).1 8212) 23 = .ok (.iload_n 1, 1) := zd zm_8212 (by decide +kernel)
theorem d_8212_24 {σ : Nat → Nat} {n0 : Nat} {bf : ab_B} : decode (ab_code (zx σ n0 bf).1 8212) 24 = .ok (.baload, 1) := zd zm_8212 (by decide +kernel)
theorem d_8212_25 {σ : Nat → Nat} {n0 : Nat} {bf : ab_B} : decode (ab_code (zx σ n0 bf).1 8212) 25 = .ok (.bipush 10, 2) := zd zm_8212 (by decide +kernel)
theorem d_8212_27 {σ : Nat → Nat} {n0 : Nat} {bf : ab_B} : decode (ab_code (zx σ n0 bf).1 8212) 27 = .ok (.if_icmp .ne 7, 3) := zd zm_8212 (by decide +kernel)
theorem d_8212_30 {σ : Nat → Nat} {n0 : Nat} {bf : ab_B} : decode (ab_code (zx σ n0 bf).1 8212) 30 = .ok (.iconst 1, 1) := zd zm_8212 (by decide +kernel)
theorem d_8212_31 {σ : Nat → Nat} {n0 : Nat} {bf : ab_B} : decode (ab_code (zx σ n0 bf).1 8212) 31 = .ok (.goto 4, 3) := zd zm_8212 (by decide +kernel)
theorem d_8212_34 {σ : Nat → Nat} {n0 : Nat} {bf : ab_B} : decode (ab_code (zx σ n0 bf).1 8212) 34 = .ok (.iconst 0, 1) := zd zm_8212 (by decide +kernel)
theorem d_8212_35 {σ : Nat → Nat} {n0 : Nat} {bf : ab_B} : decode (ab_code (zx σ n0 bf).1 8212) 35 = .ok (.ireturn, 1) := zd zm_8212 (by decide +kernel)
def w_X9_isScalar_30 (X : zs_X) (d : Nat)  (S : zs_T) (Q : zs_Q) : Prop :=
  (Q (.returned (some (.int (1 : Int32)))) S)
theorem u_X9_isScalar_30 {σ : Nat → Nat} {n0 : Nat} {bf : ab_B} {d : Nat}  {S : zs_T} {Q : zs_Q} (hB : zt_B bf) (h : w_X9_isScalar_30 (zx σ n0 bf) d  S Q) : zs_U (zx σ n0 bf) d 8212 30 [] [] S Q := by
  unfold w_X9_isScalar_30 at h
  refine zu_iconst d_8212_30 zi_1 ?_
  refine zu_goto (t := 35) d_8212_31 rfl ?_
  exact zu_iret d_8212_35 zr_8212 (zs_b_n (Or.inr rfl)) h
def w_X9_isScalar_34 (X : zs_X) (d : Nat)  (S : zs_T) (Q : zs_Q) : Prop :=
  (Q (.returned (some (.int (0 : Int32)))) S)
theorem u_X9_isScalar_34 {σ : Nat → Nat} {n0 : Nat} {bf : ab_B} {d : Nat}  {S : zs_T} {Q : zs_Q} (hB : zt_B bf) (h : w_X9_isScalar_34 (zx σ n0 bf) d  S Q) : zs_U (zx σ n0 bf) d 8212 34 [] [] S Q := by
  unfold w_X9_isScalar_34 at h
  refine zu_iconst d_8212_34 zi_0 ?_
  exact zu_iret d_8212_35 zr_8212 (zs_b_n (Or.inl rfl)) h
def w_X9_isScalar (X : zs_X) (d : Nat) (p0 : Nat) (p1 : Int32) (S : zs_T) (Q : zs_Q) : Prop :=
  (zs_K S p0 = some (.inl 8) ∧ zs_C X d 8036 [.ref p0, .int p1] S (zs_kI (fun v3 S2 => (((¬ v3 = 0 → w_X9_isScalar_30 X d  S2 Q) ∧ (¬ (¬ v3 = 0) → (zs_K S2 p0 = some (.inl 8) ∧ ∃ b6, (zs_R S2 8044 p0) = some b6 ∧ zs_A S2 b6 1 p1 ∧ (((zs_i S2 b6 p1.toNatClampNeg) = (6 : Int32) → w_X9_isScalar_30 X d  S2 Q) ∧ (¬ ((zs_i S2 b6 p1.toNatClampNeg) = (6 : Int32)) → (((¬ (zs_i S2 b6 p1.toNatClampNeg) = (10 : Int32) → w_X9_isScalar_34 X d  S2 Q) ∧ (¬ (¬ (zs_i S2 b6 p1.toNatClampNeg) = (10 : Int32)) → w_X9_isScalar_30 X d  S2 Q)))))))))) Q))
theorem u_X9_isScalar {σ : Nat → Nat} {n0 : Nat} {bf : ab_B} {d : Nat} {p0 : Nat} {p1 : Int32} {S : zs_T} {Q : zs_Q} (hB : zt_B bf) (hd : 1 ≤ d) (h : w_X9_isScalar (zx σ n0 bf) (d - 1) p0 p1 S Q) : zs_C (zx σ n0 bf) d 8212 [.ref p0, .int p1] S Q := by
  have hL : lv_args 0 [.ref p0, .int p1] = [(0, .ref p0), (1, .int p1)] := rfl
  refine zs_C.of1 (hB.2 8212 (by decide) (by decide)) hd (by rw [hL]; exact zs_sub_self _ (by exact ⟨rfl, rfl, trivial⟩)) ?_
  rw [hL]
  clear hL
  unfold w_X9_isScalar at h
  refine zu_aload_n d_8212_0 rfl (zs_ra _) ?_
  refine zu_iload_n d_8212_1 rfl ?_
  obtain ⟨k1, h⟩ := h
  refine zc_8_564 (x0 := p1) hB rfl k1 d_8212_2 (Nat.le_of_ble_eq_true rfl) h (fun v3 S2 h => ?_)
  refine zu_ifne (t := 30) d_8212_5 rfl (fun c4 => ?_) (fun c4 => ?_)
  · have h := h.1 c4
    exact (u_X9_isScalar_30 hB h).weak trivial
  · have h := h.2 c4
    refine zu_aload_n d_8212_8 rfl (zs_ra _) ?_
    obtain ⟨k5, h⟩ := h
    refine zg_8_90 rfl d_8212_9 k5 ?_
    refine zu_iload_n d_8212_12 rfl ?_
    obtain ⟨b6, e7, h⟩ := h
    refine zs_stk1 (zs_rfe e7) ?_
    obtain ⟨k8, h⟩ := h
    refine zu_bald (k := 1) d_8212_13 rfl (Or.inl rfl) k8 ?_
    refine zu_bipush d_8212_14 zj_6 ?_
    refine zu_cmpeq (t := 30) d_8212_16 rfl (fun c9 => ?_) (fun c9 => ?_)
    · have h := h.1 c9
      exact (u_X9_isScalar_30 hB h).weak trivial
    · have h := h.2 c9
      refine zu_aload_n d_8212_19 rfl (zs_ra _) ?_
      refine zg_8_90 rfl d_8212_20 k5 ?_
      refine zu_iload_n d_8212_23 rfl ?_
      refine zs_stk1 (zs_rfe e7) ?_
      refine zu_bald (k := 1) d_8212_24 rfl (Or.inl rfl) k8 ?_
      refine zu_bipush d_8212_25 zj_10 ?_
      refine zu_cmpne (t := 34) d_8212_27 rfl (fun c10 => ?_) (fun c10 => ?_)
      · have h := h.1 c10
        exact (u_X9_isScalar_34 hB h).weak trivial
      · have h := h.2 c10
        exact (u_X9_isScalar_30 hB h).weak trivial
/-! SchemaPascalModel.giveScalar(IIJII)V -/
theorem zm_8213 {σ : Nat → Nat} {n0 : Nat} {bf : ab_B} : ab_code (zx σ n0 bf).1 8213 = prog_17_method_244_code := rfl
theorem zq_8213 {σ : Nat → Nat} {n0 : Nat} {bf : ab_B} : ab_maxL (zx σ n0 bf).1 8213 = 7 := rfl
theorem zr_8213 {σ : Nat → Nat} {n0 : Nat} {bf : ab_B} : ab_ret (zx σ n0 bf).1 8213 = (Option.none : Option Jvm.ClassFile.FieldType) := rfl
theorem d_8213_0 {σ : Nat → Nat} {n0 : Nat} {bf : ab_B} : decode (ab_code (zx σ n0 bf).1 8213) 0 = .ok (.aload_n 0, 1) := zd zm_8213 (by decide +kernel)
theorem d_8213_1 {σ : Nat → Nat} {n0 : Nat} {bf : ab_B} : decode (ab_code (zx σ n0 bf).1 8213) 1 = .ok (.invokevirtual 1368, 3) := zd zm_8213 (by decide +kernel)
theorem d_8213_4 {σ : Nat → Nat} {n0 : Nat} {bf : ab_B} : decode (ab_code (zx σ n0 bf).1 8213) 4 = .ok (.aload_n 0, 1) := zd zm_8213 (by decide +kernel)
theorem d_8213_5 {σ : Nat → Nat} {n0 : Nat} {bf : ab_B} : decode (ab_code (zx σ n0 bf).1 8213) 5 = .ok (.iload_n 1, 1) := zd zm_8213 (by decide +kernel)
theorem d_8213_6 {σ : Nat → Nat} {n0 : Nat} {bf : ab_B} : decode (ab_code (zx σ n0 bf).1 8213) 6 = .ok (.iload_n 2, 1) := zd zm_8213 (by decide +kernel)
theorem d_8213_7 {σ : Nat → Nat} {n0 : Nat} {bf : ab_B} : decode (ab_code (zx σ n0 bf).1 8213) 7 = .ok (.iload 6, 2) := zd zm_8213 (by decide +kernel)
theorem d_8213_9 {σ : Nat → Nat} {n0 : Nat} {bf : ab_B} : decode (ab_code (zx σ n0 bf).1 8213) 9 = .ok (.invokevirtual 1398, 3) := zd zm_8213 (by decide +kernel)
theorem d_8213_12 {σ : Nat → Nat} {n0 : Nat} {bf : ab_B} : decode (ab_code (zx σ n0 bf).1 8213) 12 = .ok (.ifCond .ne 4, 3) := zd zm_8213 (by decide +kernel)
theorem d_8213_15 {σ : Nat → Nat} {n0 : Nat} {bf : ab_B} : decode (ab_code (zx σ n0 bf).1 8213) 15 = .ok (.return_, 1) := zd zm_8213 (by decide +kernel)
theorem d_8213_16 {σ : Nat → Nat} {n0 : Nat} {bf : ab_B} : decode (ab_code (zx σ n0 bf).1 8213) 16 = .ok (.aload_n 0, 1) := zd zm_8213 (by decide +kernel)
theorem d_8213_17 {σ : Nat → Nat} {n0 : Nat} {bf : ab_B} : decode (ab_code (zx σ n0 bf).1 8213) 17 = .ok (.getfield 90, 3) := zd zm_8213 (by decide +kernel)
theorem d_8213_20 {σ : Nat → Nat} {n0 : Nat} {bf : ab_B} : decode (ab_code (zx σ n0 bf).1 8213) 20 = .ok (.iload_n 2, 1) := zd zm_8213 (by decide +kernel)
theorem d_8213_21 {σ : Nat → Nat} {n0 : Nat} {bf : ab_B} : decode (ab_code (zx σ n0 bf).1 8213) 21 = .ok (.baload, 1) := zd zm_8213 (by decide +kernel)
theorem d_8213_22 {σ : Nat → Nat} {n0 : Nat} {bf : ab_B} : decode (ab_code (zx σ n0 bf).1 8213) 22 = .ok (.bipush 10, 2) := zd zm_8213 (by decide +kernel)
theorem d_8213_24 {σ : Nat → Nat} {n0 : Nat} {bf : ab_B} : decode (ab_code (zx σ n0 bf).1 8213) 24 = .ok (.if_icmp .eq 22, 3) := zd zm_8213 (by decide +kernel)
theorem d_8213_27 {σ : Nat → Nat} {n0 : Nat} {bf : ab_B} : decode (ab_code (zx σ n0 bf).1 8213) 27 = .ok (.aload_n 0, 1) := zd zm_8213 (by decide +kernel)
theorem d_8213_28 {σ : Nat → Nat} {n0 : Nat} {bf : ab_B} : decode (ab_code (zx σ n0 bf).1 8213) 28 = .ok (.iload_n 2, 1) := zd zm_8213 (by decide +kernel)
theorem d_8213_29 {σ : Nat → Nat} {n0 : Nat} {bf : ab_B} : decode (ab_code (zx σ n0 bf).1 8213) 29 = .ok (.lload_n 3, 1) := zd zm_8213 (by decide +kernel)
theorem d_8213_30 {σ : Nat → Nat} {n0 : Nat} {bf : ab_B} : decode (ab_code (zx σ n0 bf).1 8213) 30 = .ok (.invokevirtual 1335, 3) := zd zm_8213 (by decide +kernel)
theorem d_8213_33 {σ : Nat → Nat} {n0 : Nat} {bf : ab_B} : decode (ab_code (zx σ n0 bf).1 8213) 33 = .ok (.ifCond .ne 13, 3) := zd zm_8213 (by decide +kernel)
theorem d_8213_36 {σ : Nat → Nat} {n0 : Nat} {bf : ab_B} : decode (ab_code (zx σ n0 bf).1 8213) 36 = .ok (.aload_n 0, 1) := zd zm_8213 (by decide +kernel)
theorem d_8213_37 {σ : Nat → Nat} {n0 : Nat} {bf : ab_B} : decode (ab_code (zx σ n0 bf).1 8213) 37 = .ok (.iconst 2, 1) := zd zm_8213 (by decide +kernel)
theorem d_8213_38 {σ : Nat → Nat} {n0 : Nat} {bf : ab_B} : decode (ab_code (zx σ n0 bf).1 8213) 38 = .ok (.iload 5, 2) := zd zm_8213 (by decide +kernel)
theorem d_8213_40 {σ : Nat → Nat} {n0 : Nat} {bf : ab_B} : decode (ab_code (zx σ n0 bf).1 8213) 40 = .ok (.invokevirtual 1297, 3) := zd zm_8213 (by decide +kernel)
theorem d_8213_43 {σ : Nat → Nat} {n0 : Nat} {bf : ab_B} : decode (ab_code (zx σ n0 bf).1 8213) 43 = .ok (.goto 19, 3) := zd zm_8213 (by decide +kernel)
theorem d_8213_46 {σ : Nat → Nat} {n0 : Nat} {bf : ab_B} : decode (ab_code (zx σ n0 bf).1 8213) 46 = .ok (.aload_n 0, 1) := zd zm_8213 (by decide +kernel)
theorem d_8213_47 {σ : Nat → Nat} {n0 : Nat} {bf : ab_B} : decode (ab_code (zx σ n0 bf).1 8213) 47 = .ok (.aload_n 0, 1) := zd zm_8213 (by decide +kernel)
theorem d_8213_48 {σ : Nat → Nat} {n0 : Nat} {bf : ab_B} : decode (ab_code (zx σ n0 bf).1 8213) 48 = .ok (.getfield 362, 3) := zd zm_8213 (by decide +kernel)
theorem d_8213_51 {σ : Nat → Nat} {n0 : Nat} {bf : ab_B} : decode (ab_code (zx σ n0 bf).1 8213) 51 = .ok (.iload_n 1, 1) := zd zm_8213 (by decide +kernel)
theorem d_8213_52 {σ : Nat → Nat} {n0 : Nat} {bf : ab_B} : decode (ab_code (zx σ n0 bf).1 8213) 52 = .ok (.iaload, 1) := zd zm_8213 (by decide +kernel)
theorem d_8213_53 {σ : Nat → Nat} {n0 : Nat} {bf : ab_B} : decode (ab_code (zx σ n0 bf).1 8213) 53 = .ok (.lload_n 3, 1) := zd zm_8213 (by decide +kernel)
theorem d_8213_54 {σ : Nat → Nat} {n0 : Nat} {bf : ab_B} : decode (ab_code (zx σ n0 bf).1 8213) 54 = .ok (.aload_n 0, 1) := zd zm_8213 (by decide +kernel)
theorem d_8213_55 {σ : Nat → Nat} {n0 : Nat} {bf : ab_B} : decode (ab_code (zx σ n0 bf).1 8213) 55 = .ok (.iload_n 2, 1) := zd zm_8213 (by decide +kernel)
theorem d_8213_56 {σ : Nat → Nat} {n0 : Nat} {bf : ab_B} : decode (ab_code (zx σ n0 bf).1 8213) 56 = .ok (.invokevirtual 1332, 3) := zd zm_8213 (by decide +kernel)
theorem d_8213_59 {σ : Nat → Nat} {n0 : Nat} {bf : ab_B} : decode (ab_code (zx σ n0 bf).1 8213) 59 = .ok (.invokevirtual 1341, 3) := zd zm_8213 (by decide +kernel)
theorem d_8213_62 {σ : Nat → Nat} {n0 : Nat} {bf : ab_B} : decode (ab_code (zx σ n0 bf).1 8213) 62 = .ok (.return_, 1) := zd zm_8213 (by decide +kernel)
def w_X9_giveScalar_36 (X : zs_X) (d : Nat) (p0 : Nat) (p5 : Int32) (S : zs_T) (Q : zs_Q) : Prop :=
  (zs_K S p0 = some (.inl 8) ∧ zs_C X d 8208 [.ref p0, .int (2 : Int32), .int p5] S (zs_kV (fun S2 => (Q (.returned none) S2)) Q))
theorem u_X9_giveScalar_36 {σ : Nat → Nat} {n0 : Nat} {bf : ab_B} {d : Nat} {p0 : Nat} {p5 : Int32} {S : zs_T} {Q : zs_Q} (hB : zt_B bf) (h : w_X9_giveScalar_36 (zx σ n0 bf) d p0 p5 S Q) : zs_U (zx σ n0 bf) d 8213 36 [(0, .ref p0), (5, .int p5)] [] S Q := by
  unfold w_X9_giveScalar_36 at h
  refine zu_aload_n d_8213_36 rfl (zs_ra _) ?_
  refine zu_iconst d_8213_37 zi_2 ?_
  refine zu_iload d_8213_38 rfl ?_
  obtain ⟨k1, h⟩ := h
  refine zc_8_1297 (x0 := (2 : Int32)) (x1 := p5) hB rfl k1 d_8213_40 (Nat.le_of_ble_eq_true rfl) h (fun S2 h => ?_)
  refine zu_goto (t := 62) d_8213_43 rfl ?_
  exact zu_vret d_8213_62 zr_8213 h
def w_X9_giveScalar_46 (X : zs_X) (d : Nat) (p0 : Nat) (p1 : Int32) (p2 : Int32) (p3 : Int64) (S : zs_T) (Q : zs_Q) : Prop :=
  (zs_K S p0 = some (.inl 8) ∧ ∃ b2, (zs_R S 8167 p0) = some b2 ∧ zs_A S b2 0 p1 ∧ zs_C X d 8220 [.ref p0, .int p2] S (zs_kI (fun v6 S5 => (zs_K S5 p0 = some (.inl 8) ∧ zs_C X d 8221 [.ref p0, .int (zs_i S b2 p1.toNatClampNeg), .long p3, .int v6] S5 (zs_kV (fun S8 => (Q (.returned none) S8)) Q))) Q))
theorem u_X9_giveScalar_46 {σ : Nat → Nat} {n0 : Nat} {bf : ab_B} {d : Nat} {p0 : Nat} {p1 : Int32} {p2 : Int32} {p3 : Int64} {S : zs_T} {Q : zs_Q} (hB : zt_B bf) (h : w_X9_giveScalar_46 (zx σ n0 bf) d p0 p1 p2 p3 S Q) : zs_U (zx σ n0 bf) d 8213 46 [(0, .ref p0), (1, .int p1), (2, .int p2), (3, .long p3)] [] S Q := by
  unfold w_X9_giveScalar_46 at h
  refine zu_aload_n d_8213_46 rfl (zs_ra _) ?_
  refine zu_aload_n d_8213_47 rfl (zs_ra _) ?_
  obtain ⟨k1, h⟩ := h
  refine zg_8_362 rfl d_8213_48 k1 ?_
  refine zu_iload_n d_8213_51 rfl ?_
  obtain ⟨b2, e3, h⟩ := h
  refine zs_stk1 (zs_rfe e3) ?_
  obtain ⟨k4, h⟩ := h
  refine zu_iald (k := 0) d_8213_52 rfl rfl k4 ?_
  refine zu_lload_n d_8213_53 rfl ?_
  refine zu_aload_n d_8213_54 rfl (zs_ra _) ?_
  refine zu_iload_n d_8213_55 rfl ?_
  refine zc_8_1332 (x0 := p2) hB rfl k1 d_8213_56 (Nat.le_of_ble_eq_true rfl) h (fun v6 S5 h => ?_)
  obtain ⟨k7, h⟩ := h
  refine zc_8_1341 (x0 := (zs_i S b2 p1.toNatClampNeg)) (x1 := p3) (x2 := v6) hB rfl k7 d_8213_59 (Nat.le_of_ble_eq_true rfl) h (fun S8 h => ?_)
  exact zu_vret d_8213_62 zr_8213 h
def w_X9_giveScalar (X : zs_X) (d : Nat) (p0 : Nat) (p1 : Int32) (p2 : Int32) (p3 : Int64) (p5 : Int32) (p6 : Int32) (S : zs_T) (Q : zs_Q) : Prop :=
  (zs_K S p0 = some (.inl 8) ∧ zs_C X d 8214 [.ref p0] S (zs_kV (fun S2 => (zs_K S2 p0 = some (.inl 8) ∧ zs_C X d 8215 [.ref p0, .int p1, .int p2, .int p6] S2 (zs_kI (fun v6 S5 => (((¬ v6 = 0 → (zs_K S5 p0 = some (.inl 8) ∧ ∃ b9, (zs_R S5 8044 p0) = some b9 ∧ zs_A S5 b9 1 p2 ∧ (((zs_i S5 b9 p2.toNatClampNeg) = (10 : Int32) → w_X9_giveScalar_46 X d p0 p1 p2 p3 S5 Q) ∧ (¬ ((zs_i S5 b9 p2.toNatClampNeg) = (10 : Int32)) → (zs_C X d 8219 [.ref p0, .int p2, .long p3] S5 (zs_kI (fun v14 S13 => (((¬ v14 = 0 → w_X9_giveScalar_46 X d p0 p1 p2 p3 S13 Q) ∧ (¬ (¬ v14 = 0) → w_X9_giveScalar_36 X d p0 p5 S13 Q)))) Q)))))) ∧ (¬ (¬ v6 = 0) → (Q (.returned none) S5))))) Q))) Q))
theorem u_X9_giveScalar {σ : Nat → Nat} {n0 : Nat} {bf : ab_B} {d : Nat} {p0 : Nat} {p1 : Int32} {p2 : Int32} {p3 : Int64} {p5 : Int32} {p6 : Int32} {S : zs_T} {Q : zs_Q} (hB : zt_B bf) (hd : 1 ≤ d) (h : w_X9_giveScalar (zx σ n0 bf) (d - 1) p0 p1 p2 p3 p5 p6 S Q) : zs_C (zx σ n0 bf) d 8213 [.ref p0, .int p1, .int p2, .long p3, .int p5, .int p6] S Q := by
  have hL : lv_args 0 [.ref p0, .int p1, .int p2, .long p3, .int p5, .int p6] = [(0, .ref p0), (1, .int p1), (2, .int p2), (3, .long p3), (5, .int p5), (6, .int p6)] := rfl
  refine zs_C.of1 (hB.2 8213 (by decide) (by decide)) hd (by rw [hL]; exact zs_sub_self _ (by exact ⟨rfl, rfl, rfl, rfl, rfl, rfl, trivial⟩)) ?_
  rw [hL]
  clear hL
  unfold w_X9_giveScalar at h
  refine zu_aload_n d_8213_0 rfl (zs_ra _) ?_
  obtain ⟨k1, h⟩ := h
  refine zc_8_1368  hB rfl k1 d_8213_1 (Nat.le_of_ble_eq_true rfl) h (fun S2 h => ?_)
  refine zu_aload_n d_8213_4 rfl (zs_ra _) ?_
  refine zu_iload_n d_8213_5 rfl ?_
  refine zu_iload_n d_8213_6 rfl ?_
  refine zu_iload d_8213_7 rfl ?_
  obtain ⟨k4, h⟩ := h
  refine zc_8_1398 (x0 := p1) (x1 := p2) (x2 := p6) hB rfl k4 d_8213_9 (Nat.le_of_ble_eq_true rfl) h (fun v6 S5 h => ?_)
  refine zu_ifne (t := 16) d_8213_12 rfl (fun c7 => ?_) (fun c7 => ?_)
  · have h := h.1 c7
    refine zu_aload_n d_8213_16 rfl (zs_ra _) ?_
    obtain ⟨k8, h⟩ := h
    refine zg_8_90 rfl d_8213_17 k8 ?_
    refine zu_iload_n d_8213_20 rfl ?_
    obtain ⟨b9, e10, h⟩ := h
    refine zs_stk1 (zs_rfe e10) ?_
    obtain ⟨k11, h⟩ := h
    refine zu_bald (k := 1) d_8213_21 rfl (Or.inl rfl) k11 ?_
    refine zu_bipush d_8213_22 zj_10 ?_
    refine zu_cmpeq (t := 46) d_8213_24 rfl (fun c12 => ?_) (fun c12 => ?_)
    · have h := h.1 c12
      exact (u_X9_giveScalar_46 hB h).weak ⟨rfl, rfl, rfl, rfl, trivial⟩
    · have h := h.2 c12
      refine zu_aload_n d_8213_27 rfl (zs_ra _) ?_
      refine zu_iload_n d_8213_28 rfl ?_
      refine zu_lload_n d_8213_29 rfl ?_
      refine zc_8_1335 (x0 := p2) (x1 := p3) hB rfl k8 d_8213_30 (Nat.le_of_ble_eq_true rfl) h (fun v14 S13 h => ?_)
      refine zu_ifne (t := 46) d_8213_33 rfl (fun c15 => ?_) (fun c15 => ?_)
      · have h := h.1 c15
        exact (u_X9_giveScalar_46 hB h).weak ⟨rfl, rfl, rfl, rfl, trivial⟩
      · have h := h.2 c15
        exact (u_X9_giveScalar_36 hB h).weak ⟨rfl, rfl, trivial⟩
  · have h := h.2 c7
    exact zu_vret d_8213_15 zr_8213 h
/-! SchemaPascalModel.clearDisc()V -/
theorem zm_8214 {σ : Nat → Nat} {n0 : Nat} {bf : ab_B} : ab_code (zx σ n0 bf).1 8214 = prog_17_method_209_code := rfl
theorem zq_8214 {σ : Nat → Nat} {n0 : Nat} {bf : ab_B} : ab_maxL (zx σ n0 bf).1 8214 = 1 := rfl
theorem zr_8214 {σ : Nat → Nat} {n0 : Nat} {bf : ab_B} : ab_ret (zx σ n0 bf).1 8214 = (Option.none : Option Jvm.ClassFile.FieldType) := rfl
theorem d_8214_0 {σ : Nat → Nat} {n0 : Nat} {bf : ab_B} : decode (ab_code (zx σ n0 bf).1 8214) 0 = .ok (.aload_n 0, 1) := zd zm_8214 (by decide +kernel)
theorem d_8214_1 {σ : Nat → Nat} {n0 : Nat} {bf : ab_B} : decode (ab_code (zx σ n0 bf).1 8214) 1 = .ok (.lconst 0, 1) := zd zm_8214 (by decide +kernel)
theorem d_8214_2 {σ : Nat → Nat} {n0 : Nat} {bf : ab_B} : decode (ab_code (zx σ n0 bf).1 8214) 2 = .ok (.putfield 610, 3) := zd zm_8214 (by decide +kernel)
theorem d_8214_5 {σ : Nat → Nat} {n0 : Nat} {bf : ab_B} : decode (ab_code (zx σ n0 bf).1 8214) 5 = .ok (.aload_n 0, 1) := zd zm_8214 (by decide +kernel)
theorem d_8214_6 {σ : Nat → Nat} {n0 : Nat} {bf : ab_B} : decode (ab_code (zx σ n0 bf).1 8214) 6 = .ok (.lconst 0, 1) := zd zm_8214 (by decide +kernel)
theorem d_8214_7 {σ : Nat → Nat} {n0 : Nat} {bf : ab_B} : decode (ab_code (zx σ n0 bf).1 8214) 7 = .ok (.putfield 614, 3) := zd zm_8214 (by decide +kernel)
theorem d_8214_10 {σ : Nat → Nat} {n0 : Nat} {bf : ab_B} : decode (ab_code (zx σ n0 bf).1 8214) 10 = .ok (.aload_n 0, 1) := zd zm_8214 (by decide +kernel)
theorem d_8214_11 {σ : Nat → Nat} {n0 : Nat} {bf : ab_B} : decode (ab_code (zx σ n0 bf).1 8214) 11 = .ok (.lconst 0, 1) := zd zm_8214 (by decide +kernel)
theorem d_8214_12 {σ : Nat → Nat} {n0 : Nat} {bf : ab_B} : decode (ab_code (zx σ n0 bf).1 8214) 12 = .ok (.putfield 617, 3) := zd zm_8214 (by decide +kernel)
theorem d_8214_15 {σ : Nat → Nat} {n0 : Nat} {bf : ab_B} : decode (ab_code (zx σ n0 bf).1 8214) 15 = .ok (.aload_n 0, 1) := zd zm_8214 (by decide +kernel)
theorem d_8214_16 {σ : Nat → Nat} {n0 : Nat} {bf : ab_B} : decode (ab_code (zx σ n0 bf).1 8214) 16 = .ok (.lconst 0, 1) := zd zm_8214 (by decide +kernel)
theorem d_8214_17 {σ : Nat → Nat} {n0 : Nat} {bf : ab_B} : decode (ab_code (zx σ n0 bf).1 8214) 17 = .ok (.putfield 620, 3) := zd zm_8214 (by decide +kernel)
theorem d_8214_20 {σ : Nat → Nat} {n0 : Nat} {bf : ab_B} : decode (ab_code (zx σ n0 bf).1 8214) 20 = .ok (.return_, 1) := zd zm_8214 (by decide +kernel)
def w_X9_clearDisc (X : zs_X) (d : Nat) (p0 : Nat) (S : zs_T) (Q : zs_Q) : Prop :=
  (zs_K S p0 = some (.inl 8) ∧ ab_n0 X.1 ≤ p0 ∧ ∀ S3, S3 = zs_sJ S 8081 p0 (0 : Int64) → ∀ S6, S6 = zs_sJ S3 8082 p0 (0 : Int64) → ∀ S9, S9 = zs_sJ S6 8083 p0 (0 : Int64) → ∀ S12, S12 = zs_sJ S9 8084 p0 (0 : Int64) → Q (.returned none) S12)
theorem u_X9_clearDisc {σ : Nat → Nat} {n0 : Nat} {bf : ab_B} {d : Nat} {p0 : Nat} {S : zs_T} {Q : zs_Q} (hB : zt_B bf) (hd : 1 ≤ d) (h : w_X9_clearDisc (zx σ n0 bf) (d - 1) p0 S Q) : zs_C (zx σ n0 bf) d 8214 [.ref p0] S Q := by
  have hL : lv_args 0 [.ref p0] = [(0, .ref p0)] := rfl
  refine zs_C.of1 (hB.2 8214 (by decide) (by decide)) hd (by rw [hL]; exact zs_sub_self _ (by exact ⟨rfl, trivial⟩)) ?_
  rw [hL]
  clear hL
  unfold w_X9_clearDisc at h
  refine zu_aload_n d_8214_0 rfl (zs_ra _) ?_
  refine zu_lconst (v := 0) d_8214_1 rfl ?_
  obtain ⟨k1, h⟩ := h
  obtain ⟨k2, h⟩ := h
  refine zp_8_610 (v := (0 : Int64)) rfl d_8214_2 k1 k2 ?_
  generalize e4 : zs_sJ S 8081 p0 (0 : Int64) = S3
  have h := h S3 e4.symm
  have K5 : ∀ b, zs_K S3 b = zs_K S b := zs_Kt e4 (zs_KsJ _ _ _ _) (fun _ => rfl)
  refine zu_aload_n d_8214_5 rfl (zs_ra _) ?_
  refine zu_lconst (v := 0) d_8214_6 rfl ?_
  refine zp_8_614 (v := (0 : Int64)) rfl d_8214_7 ((K5 _).trans k1) k2 ?_
  generalize e7 : zs_sJ S3 8082 p0 (0 : Int64) = S6
  have h := h S6 e7.symm
  have K8 : ∀ b, zs_K S6 b = zs_K S b := zs_Kt e7 (zs_KsJ _ _ _ _) K5
  refine zu_aload_n d_8214_10 rfl (zs_ra _) ?_
  refine zu_lconst (v := 0) d_8214_11 rfl ?_
  refine zp_8_617 (v := (0 : Int64)) rfl d_8214_12 ((K8 _).trans k1) k2 ?_
  generalize e10 : zs_sJ S6 8083 p0 (0 : Int64) = S9
  have h := h S9 e10.symm
  have K11 : ∀ b, zs_K S9 b = zs_K S b := zs_Kt e10 (zs_KsJ _ _ _ _) K8
  refine zu_aload_n d_8214_15 rfl (zs_ra _) ?_
  refine zu_lconst (v := 0) d_8214_16 rfl ?_
  refine zp_8_620 (v := (0 : Int64)) rfl d_8214_17 ((K11 _).trans k1) k2 ?_
  generalize e13 : zs_sJ S9 8084 p0 (0 : Int64) = S12
  have h := h S12 e13.symm
  have K14 : ∀ b, zs_K S12 b = zs_K S b := zs_Kt e13 (zs_KsJ _ _ _ _) K11
  exact zu_vret d_8214_20 zr_8214 h
/-! SchemaPascalModel.make(III)Z -/
theorem zm_8215 {σ : Nat → Nat} {n0 : Nat} {bf : ab_B} : ab_code (zx σ n0 bf).1 8215 = prog_17_method_239_code := rfl
theorem zq_8215 {σ : Nat → Nat} {n0 : Nat} {bf : ab_B} : ab_maxL (zx σ n0 bf).1 8215 = 6 := rfl
theorem zr_8215 {σ : Nat → Nat} {n0 : Nat} {bf : ab_B} : ab_ret (zx σ n0 bf).1 8215 = (Option.some Jvm.ClassFile.FieldType.boolean) := rfl
theorem d_8215_0 {σ : Nat → Nat} {n0 : Nat} {bf : ab_B} : decode (ab_code (zx σ n0 bf).1 8215) 0 = .ok (.aload_n 0, 1) := zd zm_8215 (by decide +kernel)
theorem d_8215_1 {σ : Nat → Nat} {n0 : Nat} {bf : ab_B} : decode (ab_code (zx σ n0 bf).1 8215) 1 = .ok (.iload_n 2, 1) := zd zm_8215 (by decide +kernel)
theorem d_8215_2 {σ : Nat → Nat} {n0 : Nat} {bf : ab_B} : decode (ab_code (zx σ n0 bf).1 8215) 2 = .ok (.invokevirtual 727, 3) := zd zm_8215 (by decide +kernel)
theorem d_8215_5 {σ : Nat → Nat} {n0 : Nat} {bf : ab_B} : decode (ab_code (zx σ n0 bf).1 8215) 5 = .ok (.istore 4, 2) := zd zm_8215 (by decide +kernel)
theorem d_8215_7 {σ : Nat → Nat} {n0 : Nat} {bf : ab_B} : decode (ab_code (zx σ n0 bf).1 8215) 7 = .ok (.aload_n 0, 1) := zd zm_8215 (by decide +kernel)
theorem d_8215_8 {σ : Nat → Nat} {n0 : Nat} {bf : ab_B} : decode (ab_code (zx σ n0 bf).1 8215) 8 = .ok (.iload_n 2, 1) := zd zm_8215 (by decide +kernel)
theorem d_8215_9 {σ : Nat → Nat} {n0 : Nat} {bf : ab_B} : decode (ab_code (zx σ n0 bf).1 8215) 9 = .ok (.invokevirtual 1356, 3) := zd zm_8215 (by decide +kernel)
theorem d_8215_12 {σ : Nat → Nat} {n0 : Nat} {bf : ab_B} : decode (ab_code (zx σ n0 bf).1 8215) 12 = .ok (.istore 5, 2) := zd zm_8215 (by decide +kernel)
theorem d_8215_14 {σ : Nat → Nat} {n0 : Nat} {bf : ab_B} : decode (ab_code (zx σ n0 bf).1 8215) 14 = .ok (.iload 5, 2) := zd zm_8215 (by decide +kernel)
theorem d_8215_16 {σ : Nat → Nat} {n0 : Nat} {bf : ab_B} : decode (ab_code (zx σ n0 bf).1 8215) 16 = .ok (.ifCond .ge 11, 3) := zd zm_8215 (by decide +kernel)
theorem d_8215_19 {σ : Nat → Nat} {n0 : Nat} {bf : ab_B} : decode (ab_code (zx σ n0 bf).1 8215) 19 = .ok (.aload_n 0, 1) := zd zm_8215 (by decide +kernel)
theorem d_8215_20 {σ : Nat → Nat} {n0 : Nat} {bf : ab_B} : decode (ab_code (zx σ n0 bf).1 8215) 20 = .ok (.iconst 2, 1) := zd zm_8215 (by decide +kernel)
theorem d_8215_21 {σ : Nat → Nat} {n0 : Nat} {bf : ab_B} : decode (ab_code (zx σ n0 bf).1 8215) 21 = .ok (.iload_n 3, 1) := zd zm_8215 (by decide +kernel)
theorem d_8215_22 {σ : Nat → Nat} {n0 : Nat} {bf : ab_B} : decode (ab_code (zx σ n0 bf).1 8215) 22 = .ok (.invokevirtual 1297, 3) := zd zm_8215 (by decide +kernel)
theorem d_8215_25 {σ : Nat → Nat} {n0 : Nat} {bf : ab_B} : decode (ab_code (zx σ n0 bf).1 8215) 25 = .ok (.iconst 0, 1) := zd zm_8215 (by decide +kernel)
theorem d_8215_26 {σ : Nat → Nat} {n0 : Nat} {bf : ab_B} : decode (ab_code (zx σ n0 bf).1 8215) 26 = .ok (.ireturn, 1) := zd zm_8215 (by decide +kernel)
theorem d_8215_27 {σ : Nat → Nat} {n0 : Nat} {bf : ab_B} : decode (ab_code (zx σ n0 bf).1 8215) 27 = .ok (.aload_n 0, 1) := zd zm_8215 (by decide +kernel)
theorem d_8215_28 {σ : Nat → Nat} {n0 : Nat} {bf : ab_B} : decode (ab_code (zx σ n0 bf).1 8215) 28 = .ok (.iload 5, 2) := zd zm_8215 (by decide +kernel)
theorem d_8215_30 {σ : Nat → Nat} {n0 : Nat} {bf : ab_B} : decode (ab_code (zx σ n0 bf).1 8215) 30 = .ok (.iload 4, 2) := zd zm_8215 (by decide +kernel)
theorem d_8215_32 {σ : Nat → Nat} {n0 : Nat} {bf : ab_B} : decode (ab_code (zx σ n0 bf).1 8215) 32 = .ok (.ifCond .le 13, 3) := zd zm_8215 (by decide +kernel)
theorem d_8215_35 {σ : Nat → Nat} {n0 : Nat} {bf : ab_B} : decode (ab_code (zx σ n0 bf).1 8215) 35 = .ok (.aload_n 0, 1) := zd zm_8215 (by decide +kernel)
theorem d_8215_36 {σ : Nat → Nat} {n0 : Nat} {bf : ab_B} : decode (ab_code (zx σ n0 bf).1 8215) 36 = .ok (.getfield 127, 3) := zd zm_8215 (by decide +kernel)
theorem d_8215_39 {σ : Nat → Nat} {n0 : Nat} {bf : ab_B} : decode (ab_code (zx σ n0 bf).1 8215) 39 = .ok (.iload 4, 2) := zd zm_8215 (by decide +kernel)
theorem d_8215_41 {σ : Nat → Nat} {n0 : Nat} {bf : ab_B} : decode (ab_code (zx σ n0 bf).1 8215) 41 = .ok (.baload, 1) := zd zm_8215 (by decide +kernel)
theorem d_8215_42 {σ : Nat → Nat} {n0 : Nat} {bf : ab_B} : decode (ab_code (zx σ n0 bf).1 8215) 42 = .ok (.goto 4, 3) := zd zm_8215 (by decide +kernel)
theorem d_8215_45 {σ : Nat → Nat} {n0 : Nat} {bf : ab_B} : decode (ab_code (zx σ n0 bf).1 8215) 45 = .ok (.iconst 0, 1) := zd zm_8215 (by decide +kernel)
theorem d_8215_46 {σ : Nat → Nat} {n0 : Nat} {bf : ab_B} : decode (ab_code (zx σ n0 bf).1 8215) 46 = .ok (.iadd, 1) := zd zm_8215 (by decide +kernel)
theorem d_8215_47 {σ : Nat → Nat} {n0 : Nat} {bf : ab_B} : decode (ab_code (zx σ n0 bf).1 8215) 47 = .ok (.iload_n 3, 1) := zd zm_8215 (by decide +kernel)
theorem d_8215_48 {σ : Nat → Nat} {n0 : Nat} {bf : ab_B} : decode (ab_code (zx σ n0 bf).1 8215) 48 = .ok (.invokevirtual 1362, 3) := zd zm_8215 (by decide +kernel)
theorem d_8215_51 {σ : Nat → Nat} {n0 : Nat} {bf : ab_B} : decode (ab_code (zx σ n0 bf).1 8215) 51 = .ok (.ifCond .ne 5, 3) := zd zm_8215 (by decide +kernel)
theorem d_8215_54 {σ : Nat → Nat} {n0 : Nat} {bf : ab_B} : decode (ab_code (zx σ n0 bf).1 8215) 54 = .ok (.iconst 0, 1) := zd zm_8215 (by decide +kernel)
theorem d_8215_55 {σ : Nat → Nat} {n0 : Nat} {bf : ab_B} : decode (ab_code (zx σ n0 bf).1 8215) 55 = .ok (.ireturn, 1) := zd zm_8215 (by decide +kernel)
theorem d_8215_56 {σ : Nat → Nat} {n0 : Nat} {bf : ab_B} : decode (ab_code (zx σ n0 bf).1 8215) 56 = .ok (.aload_n 0, 1) := zd zm_8215 (by decide +kernel)
theorem d_8215_57 {σ : Nat → Nat} {n0 : Nat} {bf : ab_B} : decode (ab_code (zx σ n0 bf).1 8215) 57 = .ok (.iload_n 1, 1) := zd zm_8215 (by decide +kernel)
theorem d_8215_58 {σ : Nat → Nat} {n0 : Nat} {bf : ab_B} : decode (ab_code (zx σ n0 bf).1 8215) 58 = .ok (.aload_n 0, 1) := zd zm_8215 (by decide +kernel)
theorem d_8215_59 {σ : Nat → Nat} {n0 : Nat} {bf : ab_B} : decode (ab_code (zx σ n0 bf).1 8215) 59 = .ok (.getfield 1246, 3) := zd zm_8215 (by decide +kernel)
theorem d_8215_62 {σ : Nat → Nat} {n0 : Nat} {bf : ab_B} : decode (ab_code (zx σ n0 bf).1 8215) 62 = .ok (.iload_n 2, 1) := zd zm_8215 (by decide +kernel)
theorem d_8215_63 {σ : Nat → Nat} {n0 : Nat} {bf : ab_B} : decode (ab_code (zx σ n0 bf).1 8215) 63 = .ok (.invokevirtual 1365, 3) := zd zm_8215 (by decide +kernel)
theorem d_8215_66 {σ : Nat → Nat} {n0 : Nat} {bf : ab_B} : decode (ab_code (zx σ n0 bf).1 8215) 66 = .ok (.aload_n 0, 1) := zd zm_8215 (by decide +kernel)
theorem d_8215_67 {σ : Nat → Nat} {n0 : Nat} {bf : ab_B} : decode (ab_code (zx σ n0 bf).1 8215) 67 = .ok (.aload_n 0, 1) := zd zm_8215 (by decide +kernel)
theorem d_8215_68 {σ : Nat → Nat} {n0 : Nat} {bf : ab_B} : decode (ab_code (zx σ n0 bf).1 8215) 68 = .ok (.getfield 1246, 3) := zd zm_8215 (by decide +kernel)
theorem d_8215_71 {σ : Nat → Nat} {n0 : Nat} {bf : ab_B} : decode (ab_code (zx σ n0 bf).1 8215) 71 = .ok (.iload 5, 2) := zd zm_8215 (by decide +kernel)
theorem d_8215_73 {σ : Nat → Nat} {n0 : Nat} {bf : ab_B} : decode (ab_code (zx σ n0 bf).1 8215) 73 = .ok (.invokevirtual 1345, 3) := zd zm_8215 (by decide +kernel)
theorem d_8215_76 {σ : Nat → Nat} {n0 : Nat} {bf : ab_B} : decode (ab_code (zx σ n0 bf).1 8215) 76 = .ok (.aload_n 0, 1) := zd zm_8215 (by decide +kernel)
theorem d_8215_77 {σ : Nat → Nat} {n0 : Nat} {bf : ab_B} : decode (ab_code (zx σ n0 bf).1 8215) 77 = .ok (.dup, 1) := zd zm_8215 (by decide +kernel)
theorem d_8215_78 {σ : Nat → Nat} {n0 : Nat} {bf : ab_B} : decode (ab_code (zx σ n0 bf).1 8215) 78 = .ok (.getfield 1246, 3) := zd zm_8215 (by decide +kernel)
theorem d_8215_81 {σ : Nat → Nat} {n0 : Nat} {bf : ab_B} : decode (ab_code (zx σ n0 bf).1 8215) 81 = .ok (.iload 5, 2) := zd zm_8215 (by decide +kernel)
theorem d_8215_83 {σ : Nat → Nat} {n0 : Nat} {bf : ab_B} : decode (ab_code (zx σ n0 bf).1 8215) 83 = .ok (.iadd, 1) := zd zm_8215 (by decide +kernel)
theorem d_8215_84 {σ : Nat → Nat} {n0 : Nat} {bf : ab_B} : decode (ab_code (zx σ n0 bf).1 8215) 84 = .ok (.putfield 1246, 3) := zd zm_8215 (by decide +kernel)
theorem d_8215_87 {σ : Nat → Nat} {n0 : Nat} {bf : ab_B} : decode (ab_code (zx σ n0 bf).1 8215) 87 = .ok (.iconst 1, 1) := zd zm_8215 (by decide +kernel)
theorem d_8215_88 {σ : Nat → Nat} {n0 : Nat} {bf : ab_B} : decode (ab_code (zx σ n0 bf).1 8215) 88 = .ok (.ireturn, 1) := zd zm_8215 (by decide +kernel)
def w_X9_make_87 (X : zs_X) (d : Nat)  (S : zs_T) (Q : zs_Q) : Prop :=
  (Q (.returned (some (.int (1 : Int32)))) S)
theorem u_X9_make_87 {σ : Nat → Nat} {n0 : Nat} {bf : ab_B} {d : Nat}  {S : zs_T} {Q : zs_Q} (hB : zt_B bf) (h : w_X9_make_87 (zx σ n0 bf) d  S Q) : zs_U (zx σ n0 bf) d 8215 87 [] [] S Q := by
  unfold w_X9_make_87 at h
  refine zu_iconst d_8215_87 zi_1 ?_
  exact zu_iret d_8215_88 zr_8215 (zs_b_n (Or.inr rfl)) h
def w_X9_make_46 (X : zs_X) (d : Nat) (p0 : Nat) (p1 : Int32) (p2 : Int32) (p3 : Int32) (p5 : Int32) (q0 : Option Nat) (q1 : Int32) (q2 : Int32) (S : zs_T) (Q : zs_Q) : Prop :=
  (∃ b1, q0 = some b1 ∧ zs_K S b1 = some (.inl 8) ∧ zs_C X d 8211 [.ref b1, .int (q1 + q2), .int p3] S (zs_kI (fun v5 S4 => (((¬ v5 = 0 → (zs_K S4 p0 = some (.inl 8) ∧ zs_C X d 8217 [.ref p0, .int p1, .int (zs_I S4 8173 p0), .int p2] S4 (zs_kV (fun S8 => (zs_K S8 p0 = some (.inl 8) ∧ zs_C X d 8218 [.ref p0, .int (zs_I S8 8173 p0), .int p5] S8 (zs_kV (fun S11 => (zs_K S11 p0 = some (.inl 8) ∧ ab_n0 X.1 ≤ p0 ∧ ∀ S15, S15 = zs_sI S11 8173 p0 ((zs_I S11 8173 p0) + p5) → w_X9_make_87 X d  S15 Q)) Q))) Q))) ∧ (¬ (¬ v5 = 0) → (Q (.returned (some (.int (0 : Int32)))) S4))))) Q))
theorem u_X9_make_46 {σ : Nat → Nat} {n0 : Nat} {bf : ab_B} {d : Nat} {p0 : Nat} {p1 : Int32} {p2 : Int32} {p3 : Int32} {p5 : Int32} {q0 : Option Nat} {q1 : Int32} {q2 : Int32} {S : zs_T} {Q : zs_Q} (hB : zt_B bf) (h : w_X9_make_46 (zx σ n0 bf) d p0 p1 p2 p3 p5 q0 q1 q2 S Q) : zs_U (zx σ n0 bf) d 8215 46 [(0, .ref p0), (1, .int p1), (2, .int p2), (3, .int p3), (5, .int p5)] [.int q2, .int q1, va_rf q0] S Q := by
  unfold w_X9_make_46 at h
  refine zu_stk d_8215_46 rfl rfl ?_
  refine zu_iload_n d_8215_47 rfl ?_
  obtain ⟨b1, e2, h⟩ := h
  refine zs_stk2 (zs_rfe e2) ?_
  obtain ⟨k3, h⟩ := h
  refine zc_8_1362 (x0 := (q1 + q2)) (x1 := p3) hB rfl k3 d_8215_48 (Nat.le_of_ble_eq_true rfl) h (fun v5 S4 h => ?_)
  refine zu_ifne (t := 56) d_8215_51 rfl (fun c6 => ?_) (fun c6 => ?_)
  · have h := h.1 c6
    refine zu_aload_n d_8215_56 rfl (zs_ra _) ?_
    refine zu_iload_n d_8215_57 rfl ?_
    refine zu_aload_n d_8215_58 rfl (zs_ra _) ?_
    obtain ⟨k7, h⟩ := h
    refine zg_8_1246 rfl d_8215_59 k7 ?_
    refine zu_iload_n d_8215_62 rfl ?_
    refine zc_8_1365 (x0 := p1) (x1 := (zs_I S4 8173 p0)) (x2 := p2) hB rfl k7 d_8215_63 (Nat.le_of_ble_eq_true rfl) h (fun S8 h => ?_)
    refine zu_aload_n d_8215_66 rfl (zs_ra _) ?_
    refine zu_aload_n d_8215_67 rfl (zs_ra _) ?_
    obtain ⟨k10, h⟩ := h
    refine zg_8_1246 rfl d_8215_68 k10 ?_
    refine zu_iload d_8215_71 rfl ?_
    refine zc_8_1345 (x0 := (zs_I S8 8173 p0)) (x1 := p5) hB rfl k10 d_8215_73 (Nat.le_of_ble_eq_true rfl) h (fun S11 h => ?_)
    refine zu_aload_n d_8215_76 rfl (zs_ra _) ?_
    refine zu_dup d_8215_77 rfl ?_
    obtain ⟨k13, h⟩ := h
    refine zg_8_1246 rfl d_8215_78 k13 ?_
    refine zu_iload d_8215_81 rfl ?_
    refine zu_stk d_8215_83 rfl rfl ?_
    obtain ⟨k14, h⟩ := h
    refine zp_8_1246 (v := ((zs_I S11 8173 p0) + p5)) rfl d_8215_84 k13 k14 ?_
    generalize e16 : zs_sI S11 8173 p0 ((zs_I S11 8173 p0) + p5) = S15
    have h := h S15 e16.symm
    have K17 : ∀ b, zs_K S15 b = zs_K S11 b := zs_Kt e16 (zs_KsI _ _ _ _) (fun _ => rfl)
    exact (u_X9_make_87 hB h).weak trivial
  · have h := h.2 c6
    refine zu_iconst d_8215_54 zi_0 ?_
    exact zu_iret d_8215_55 zr_8215 (zs_b_n (Or.inl rfl)) h
def w_X9_make (X : zs_X) (d : Nat) (p0 : Nat) (p1 : Int32) (p2 : Int32) (p3 : Int32) (S : zs_T) (Q : zs_Q) : Prop :=
  (zs_K S p0 = some (.inl 8) ∧ zs_C X d 8074 [.ref p0, .int p2] S (zs_kI (fun v3 S2 => (zs_K S2 p0 = some (.inl 8) ∧ zs_C X d 8216 [.ref p0, .int p2] S2 (zs_kI (fun v6 S5 => (((0 ≤ v6 → (((v3 ≤ 0 → (w_X9_make_46 X d p0 p1 p2 p3 v6 (some p0) v6 (0 : Int32) S5 Q)) ∧ (¬ (v3 ≤ 0) → (zs_K S5 p0 = some (.inl 8) ∧ ∃ b10, (zs_R S5 8058 p0) = some b10 ∧ zs_A S5 b10 1 v3 ∧ w_X9_make_46 X d p0 p1 p2 p3 v6 (some p0) v6 (zs_i S5 b10 v3.toNatClampNeg) S5 Q))))) ∧ (¬ (0 ≤ v6) → (zs_K S5 p0 = some (.inl 8) ∧ zs_C X d 8208 [.ref p0, .int (2 : Int32), .int p3] S5 (zs_kV (fun S14 => (Q (.returned (some (.int (0 : Int32)))) S14)) Q)))))) Q))) Q))
theorem u_X9_make {σ : Nat → Nat} {n0 : Nat} {bf : ab_B} {d : Nat} {p0 : Nat} {p1 : Int32} {p2 : Int32} {p3 : Int32} {S : zs_T} {Q : zs_Q} (hB : zt_B bf) (hd : 1 ≤ d) (h : w_X9_make (zx σ n0 bf) (d - 1) p0 p1 p2 p3 S Q) : zs_C (zx σ n0 bf) d 8215 [.ref p0, .int p1, .int p2, .int p3] S Q := by
  have hL : lv_args 0 [.ref p0, .int p1, .int p2, .int p3] = [(0, .ref p0), (1, .int p1), (2, .int p2), (3, .int p3)] := rfl
  refine zs_C.of1 (hB.2 8215 (by decide) (by decide)) hd (by rw [hL]; exact zs_sub_self _ (by exact ⟨rfl, rfl, rfl, rfl, trivial⟩)) ?_
  rw [hL]
  clear hL
  unfold w_X9_make at h
  refine zu_aload_n d_8215_0 rfl (zs_ra _) ?_
  refine zu_iload_n d_8215_1 rfl ?_
  obtain ⟨k1, h⟩ := h
  refine zc_8_727 (x0 := p2) hB rfl k1 d_8215_2 (Nat.le_of_ble_eq_true rfl) h (fun v3 S2 h => ?_)
  refine zu_istore d_8215_5 (zs_lt zq_8215 rfl) ?_
  refine zu_aload_n d_8215_7 rfl (zs_ra _) ?_
  refine zu_iload_n d_8215_8 rfl ?_
  obtain ⟨k4, h⟩ := h
  refine zc_8_1356 (x0 := p2) hB rfl k4 d_8215_9 (Nat.le_of_ble_eq_true rfl) h (fun v6 S5 h => ?_)
  refine zu_istore d_8215_12 (zs_lt zq_8215 rfl) ?_
  refine zu_iload d_8215_14 rfl ?_
  refine zu_ifge (t := 27) d_8215_16 rfl (fun c7 => ?_) (fun c7 => ?_)
  · have h := h.1 c7
    refine zu_aload_n d_8215_27 rfl (zs_ra _) ?_
    refine zu_iload d_8215_28 rfl ?_
    refine zu_iload d_8215_30 rfl ?_
    refine zu_ifle (t := 45) d_8215_32 rfl (fun c8 => ?_) (fun c8 => ?_)
    · have h := h.1 c8
      refine zu_iconst d_8215_45 zi_0 ?_
      exact (u_X9_make_46 hB h).weak ⟨rfl, rfl, rfl, rfl, rfl, trivial⟩
    · have h := h.2 c8
      refine zu_aload_n d_8215_35 rfl (zs_ra _) ?_
      obtain ⟨k9, h⟩ := h
      refine zg_8_127 rfl d_8215_36 k9 ?_
      refine zu_iload d_8215_39 rfl ?_
      obtain ⟨b10, e11, h⟩ := h
      refine zs_stk1 (zs_rfe e11) ?_
      obtain ⟨k12, h⟩ := h
      refine zu_bald (k := 1) d_8215_41 rfl (Or.inl rfl) k12 ?_
      refine zu_goto (t := 46) d_8215_42 rfl ?_
      exact (u_X9_make_46 hB h).weak ⟨rfl, rfl, rfl, rfl, rfl, trivial⟩
  · have h := h.2 c7
    refine zu_aload_n d_8215_19 rfl (zs_ra _) ?_
    refine zu_iconst d_8215_20 zi_2 ?_
    refine zu_iload_n d_8215_21 rfl ?_
    obtain ⟨k13, h⟩ := h
    refine zc_8_1297 (x0 := (2 : Int32)) (x1 := p3) hB rfl k13 d_8215_22 (Nat.le_of_ble_eq_true rfl) h (fun S14 h => ?_)
    refine zu_iconst d_8215_25 zi_0 ?_
    exact zu_iret d_8215_26 zr_8215 (zs_b_n (Or.inl rfl)) h
/-! SchemaPascalModel.cellsOf(I)I -/
theorem zm_8216 {σ : Nat → Nat} {n0 : Nat} {bf : ab_B} : ab_code (zx σ n0 bf).1 8216 = prog_17_method_214_code := rfl
theorem zq_8216 {σ : Nat → Nat} {n0 : Nat} {bf : ab_B} : ab_maxL (zx σ n0 bf).1 8216 = 3 := rfl
theorem zr_8216 {σ : Nat → Nat} {n0 : Nat} {bf : ab_B} : ab_ret (zx σ n0 bf).1 8216 = (Option.some Jvm.ClassFile.FieldType.int) := rfl
theorem d_8216_0 {σ : Nat → Nat} {n0 : Nat} {bf : ab_B} : decode (ab_code (zx σ n0 bf).1 8216) 0 = .ok (.aload_n 0, 1) := zd zm_8216 (by decide +kernel)
theorem d_8216_1 {σ : Nat → Nat} {n0 : Nat} {bf : ab_B} : decode (ab_code (zx σ n0 bf).1 8216) 1 = .ok (.iload_n 1, 1) := zd zm_8216 (by decide +kernel)
theorem d_8216_2 {σ : Nat → Nat} {n0 : Nat} {bf : ab_B} : decode (ab_code (zx σ n0 bf).1 8216) 2 = .ok (.invokevirtual 730, 3) := zd zm_8216 (by decide +kernel)
theorem d_8216_5 {σ : Nat → Nat} {n0 : Nat} {bf : ab_B} : decode (ab_code (zx σ n0 bf).1 8216) 5 = .ok (.istore_n 2, 1) := zd zm_8216 (by decide +kernel)
theorem d_8216_6 {σ : Nat → Nat} {n0 : Nat} {bf : ab_B} : decode (ab_code (zx σ n0 bf).1 8216) 6 = .ok (.aload_n 0, 1) := zd zm_8216 (by decide +kernel)
theorem d_8216_7 {σ : Nat → Nat} {n0 : Nat} {bf : ab_B} : decode (ab_code (zx σ n0 bf).1 8216) 7 = .ok (.getfield 105, 3) := zd zm_8216 (by decide +kernel)
theorem d_8216_10 {σ : Nat → Nat} {n0 : Nat} {bf : ab_B} : decode (ab_code (zx σ n0 bf).1 8216) 10 = .ok (.iload_n 2, 1) := zd zm_8216 (by decide +kernel)
theorem d_8216_11 {σ : Nat → Nat} {n0 : Nat} {bf : ab_B} : decode (ab_code (zx σ n0 bf).1 8216) 11 = .ok (.baload, 1) := zd zm_8216 (by decide +kernel)
theorem d_8216_12 {σ : Nat → Nat} {n0 : Nat} {bf : ab_B} : decode (ab_code (zx σ n0 bf).1 8216) 12 = .ok (.ifCond .eq 11, 3) := zd zm_8216 (by decide +kernel)
theorem d_8216_15 {σ : Nat → Nat} {n0 : Nat} {bf : ab_B} : decode (ab_code (zx σ n0 bf).1 8216) 15 = .ok (.aload_n 0, 1) := zd zm_8216 (by decide +kernel)
theorem d_8216_16 {σ : Nat → Nat} {n0 : Nat} {bf : ab_B} : decode (ab_code (zx σ n0 bf).1 8216) 16 = .ok (.iload_n 2, 1) := zd zm_8216 (by decide +kernel)
theorem d_8216_17 {σ : Nat → Nat} {n0 : Nat} {bf : ab_B} : decode (ab_code (zx σ n0 bf).1 8216) 17 = .ok (.invokevirtual 837, 3) := zd zm_8216 (by decide +kernel)
theorem d_8216_20 {σ : Nat → Nat} {n0 : Nat} {bf : ab_B} : decode (ab_code (zx σ n0 bf).1 8216) 20 = .ok (.goto 9, 3) := zd zm_8216 (by decide +kernel)
theorem d_8216_23 {σ : Nat → Nat} {n0 : Nat} {bf : ab_B} : decode (ab_code (zx σ n0 bf).1 8216) 23 = .ok (.aload_n 0, 1) := zd zm_8216 (by decide +kernel)
theorem d_8216_24 {σ : Nat → Nat} {n0 : Nat} {bf : ab_B} : decode (ab_code (zx σ n0 bf).1 8216) 24 = .ok (.getfield 115, 3) := zd zm_8216 (by decide +kernel)
theorem d_8216_27 {σ : Nat → Nat} {n0 : Nat} {bf : ab_B} : decode (ab_code (zx σ n0 bf).1 8216) 27 = .ok (.iload_n 2, 1) := zd zm_8216 (by decide +kernel)
theorem d_8216_28 {σ : Nat → Nat} {n0 : Nat} {bf : ab_B} : decode (ab_code (zx σ n0 bf).1 8216) 28 = .ok (.iaload, 1) := zd zm_8216 (by decide +kernel)
theorem d_8216_29 {σ : Nat → Nat} {n0 : Nat} {bf : ab_B} : decode (ab_code (zx σ n0 bf).1 8216) 29 = .ok (.ireturn, 1) := zd zm_8216 (by decide +kernel)
def w_X9_cellsOf (X : zs_X) (d : Nat) (p0 : Nat) (p1 : Int32) (S : zs_T) (Q : zs_Q) : Prop :=
  (zs_K S p0 = some (.inl 8) ∧ zs_C X d 8073 [.ref p0, .int p1] S (zs_kI (fun v3 S2 => (zs_K S2 p0 = some (.inl 8) ∧ ∃ b5, (zs_R S2 8049 p0) = some b5 ∧ zs_A S2 b5 2 v3 ∧ (((zs_i S2 b5 v3.toNatClampNeg) = 0 → (∃ b9, (zs_R S2 8052 p0) = some b9 ∧ zs_A S2 b9 0 v3 ∧ Q (.returned (some (.int (zs_i S2 b9 v3.toNatClampNeg)))) S2)) ∧ (¬ ((zs_i S2 b5 v3.toNatClampNeg) = 0) → (zs_C X d 8115 [.ref p0, .int v3] S2 (zs_kI (fun v13 S12 => (Q (.returned (some (.int v13))) S12)) Q)))))) Q))
theorem u_X9_cellsOf {σ : Nat → Nat} {n0 : Nat} {bf : ab_B} {d : Nat} {p0 : Nat} {p1 : Int32} {S : zs_T} {Q : zs_Q} (hB : zt_B bf) (hd : 1 ≤ d) (h : w_X9_cellsOf (zx σ n0 bf) (d - 1) p0 p1 S Q) : zs_C (zx σ n0 bf) d 8216 [.ref p0, .int p1] S Q := by
  have hL : lv_args 0 [.ref p0, .int p1] = [(0, .ref p0), (1, .int p1)] := rfl
  refine zs_C.of1 (hB.2 8216 (by decide) (by decide)) hd (by rw [hL]; exact zs_sub_self _ (by exact ⟨rfl, rfl, trivial⟩)) ?_
  rw [hL]
  clear hL
  unfold w_X9_cellsOf at h
  refine zu_aload_n d_8216_0 rfl (zs_ra _) ?_
  refine zu_iload_n d_8216_1 rfl ?_
  obtain ⟨k1, h⟩ := h
  refine zc_8_730 (x0 := p1) hB rfl k1 d_8216_2 (Nat.le_of_ble_eq_true rfl) h (fun v3 S2 h => ?_)
  refine zu_istore_n d_8216_5 (zs_lt zq_8216 rfl) ?_
  refine zu_aload_n d_8216_6 rfl (zs_ra _) ?_
  obtain ⟨k4, h⟩ := h
  refine zg_8_105 rfl d_8216_7 k4 ?_
  refine zu_iload_n d_8216_10 rfl ?_
  obtain ⟨b5, e6, h⟩ := h
  refine zs_stk1 (zs_rfe e6) ?_
  obtain ⟨k7, h⟩ := h
  refine zu_bald (k := 2) d_8216_11 rfl (Or.inr rfl) k7 ?_
  refine zu_ifeq (t := 23) d_8216_12 rfl (fun c8 => ?_) (fun c8 => ?_)
  · have h := h.1 c8
    refine zu_aload_n d_8216_23 rfl (zs_ra _) ?_
    refine zg_8_115 rfl d_8216_24 k4 ?_
    refine zu_iload_n d_8216_27 rfl ?_
    obtain ⟨b9, e10, h⟩ := h
    refine zs_stk1 (zs_rfe e10) ?_
    obtain ⟨k11, h⟩ := h
    refine zu_iald (k := 0) d_8216_28 rfl rfl k11 ?_
    exact zu_iret d_8216_29 zr_8216 rfl h
  · have h := h.2 c8
    refine zu_aload_n d_8216_15 rfl (zs_ra _) ?_
    refine zu_iload_n d_8216_16 rfl ?_
    refine zc_8_837 (x0 := v3) hB rfl k4 d_8216_17 (Nat.le_of_ble_eq_true rfl) h (fun v13 S12 h => ?_)
    refine zu_goto (t := 29) d_8216_20 rfl ?_
    exact zu_iret d_8216_29 zr_8216 rfl h
/-! SchemaPascalModel.setSlot(III)V -/
theorem zm_8217 {σ : Nat → Nat} {n0 : Nat} {bf : ab_B} : ab_code (zx σ n0 bf).1 8217 = prog_17_method_212_code := rfl
theorem zq_8217 {σ : Nat → Nat} {n0 : Nat} {bf : ab_B} : ab_maxL (zx σ n0 bf).1 8217 = 4 := rfl
theorem zr_8217 {σ : Nat → Nat} {n0 : Nat} {bf : ab_B} : ab_ret (zx σ n0 bf).1 8217 = (Option.none : Option Jvm.ClassFile.FieldType) := rfl
theorem d_8217_0 {σ : Nat → Nat} {n0 : Nat} {bf : ab_B} : decode (ab_code (zx σ n0 bf).1 8217) 0 = .ok (.aload_n 0, 1) := zd zm_8217 (by decide +kernel)
theorem d_8217_1 {σ : Nat → Nat} {n0 : Nat} {bf : ab_B} : decode (ab_code (zx σ n0 bf).1 8217) 1 = .ok (.getfield 362, 3) := zd zm_8217 (by decide +kernel)
theorem d_8217_4 {σ : Nat → Nat} {n0 : Nat} {bf : ab_B} : decode (ab_code (zx σ n0 bf).1 8217) 4 = .ok (.iload_n 1, 1) := zd zm_8217 (by decide +kernel)
theorem d_8217_5 {σ : Nat → Nat} {n0 : Nat} {bf : ab_B} : decode (ab_code (zx σ n0 bf).1 8217) 5 = .ok (.iload_n 2, 1) := zd zm_8217 (by decide +kernel)
theorem d_8217_6 {σ : Nat → Nat} {n0 : Nat} {bf : ab_B} : decode (ab_code (zx σ n0 bf).1 8217) 6 = .ok (.iastore, 1) := zd zm_8217 (by decide +kernel)
theorem d_8217_7 {σ : Nat → Nat} {n0 : Nat} {bf : ab_B} : decode (ab_code (zx σ n0 bf).1 8217) 7 = .ok (.aload_n 0, 1) := zd zm_8217 (by decide +kernel)
theorem d_8217_8 {σ : Nat → Nat} {n0 : Nat} {bf : ab_B} : decode (ab_code (zx σ n0 bf).1 8217) 8 = .ok (.getfield 365, 3) := zd zm_8217 (by decide +kernel)
theorem d_8217_11 {σ : Nat → Nat} {n0 : Nat} {bf : ab_B} : decode (ab_code (zx σ n0 bf).1 8217) 11 = .ok (.iload_n 1, 1) := zd zm_8217 (by decide +kernel)
theorem d_8217_12 {σ : Nat → Nat} {n0 : Nat} {bf : ab_B} : decode (ab_code (zx σ n0 bf).1 8217) 12 = .ok (.iload_n 3, 1) := zd zm_8217 (by decide +kernel)
theorem d_8217_13 {σ : Nat → Nat} {n0 : Nat} {bf : ab_B} : decode (ab_code (zx σ n0 bf).1 8217) 13 = .ok (.iastore, 1) := zd zm_8217 (by decide +kernel)
theorem d_8217_14 {σ : Nat → Nat} {n0 : Nat} {bf : ab_B} : decode (ab_code (zx σ n0 bf).1 8217) 14 = .ok (.aload_n 0, 1) := zd zm_8217 (by decide +kernel)
theorem d_8217_15 {σ : Nat → Nat} {n0 : Nat} {bf : ab_B} : decode (ab_code (zx σ n0 bf).1 8217) 15 = .ok (.getfield 369, 3) := zd zm_8217 (by decide +kernel)
theorem d_8217_18 {σ : Nat → Nat} {n0 : Nat} {bf : ab_B} : decode (ab_code (zx σ n0 bf).1 8217) 18 = .ok (.iconst 4, 1) := zd zm_8217 (by decide +kernel)
theorem d_8217_19 {σ : Nat → Nat} {n0 : Nat} {bf : ab_B} : decode (ab_code (zx σ n0 bf).1 8217) 19 = .ok (.iload_n 1, 1) := zd zm_8217 (by decide +kernel)
theorem d_8217_20 {σ : Nat → Nat} {n0 : Nat} {bf : ab_B} : decode (ab_code (zx σ n0 bf).1 8217) 20 = .ok (.imul, 1) := zd zm_8217 (by decide +kernel)
theorem d_8217_21 {σ : Nat → Nat} {n0 : Nat} {bf : ab_B} : decode (ab_code (zx σ n0 bf).1 8217) 21 = .ok (.aload_n 0, 1) := zd zm_8217 (by decide +kernel)
theorem d_8217_22 {σ : Nat → Nat} {n0 : Nat} {bf : ab_B} : decode (ab_code (zx σ n0 bf).1 8217) 22 = .ok (.getfield 610, 3) := zd zm_8217 (by decide +kernel)
theorem d_8217_25 {σ : Nat → Nat} {n0 : Nat} {bf : ab_B} : decode (ab_code (zx σ n0 bf).1 8217) 25 = .ok (.lastore, 1) := zd zm_8217 (by decide +kernel)
theorem d_8217_26 {σ : Nat → Nat} {n0 : Nat} {bf : ab_B} : decode (ab_code (zx σ n0 bf).1 8217) 26 = .ok (.aload_n 0, 1) := zd zm_8217 (by decide +kernel)
theorem d_8217_27 {σ : Nat → Nat} {n0 : Nat} {bf : ab_B} : decode (ab_code (zx σ n0 bf).1 8217) 27 = .ok (.getfield 369, 3) := zd zm_8217 (by decide +kernel)
theorem d_8217_30 {σ : Nat → Nat} {n0 : Nat} {bf : ab_B} : decode (ab_code (zx σ n0 bf).1 8217) 30 = .ok (.iconst 4, 1) := zd zm_8217 (by decide +kernel)
theorem d_8217_31 {σ : Nat → Nat} {n0 : Nat} {bf : ab_B} : decode (ab_code (zx σ n0 bf).1 8217) 31 = .ok (.iload_n 1, 1) := zd zm_8217 (by decide +kernel)
theorem d_8217_32 {σ : Nat → Nat} {n0 : Nat} {bf : ab_B} : decode (ab_code (zx σ n0 bf).1 8217) 32 = .ok (.imul, 1) := zd zm_8217 (by decide +kernel)
theorem d_8217_33 {σ : Nat → Nat} {n0 : Nat} {bf : ab_B} : decode (ab_code (zx σ n0 bf).1 8217) 33 = .ok (.iconst 1, 1) := zd zm_8217 (by decide +kernel)
theorem d_8217_34 {σ : Nat → Nat} {n0 : Nat} {bf : ab_B} : decode (ab_code (zx σ n0 bf).1 8217) 34 = .ok (.iadd, 1) := zd zm_8217 (by decide +kernel)
theorem d_8217_35 {σ : Nat → Nat} {n0 : Nat} {bf : ab_B} : decode (ab_code (zx σ n0 bf).1 8217) 35 = .ok (.aload_n 0, 1) := zd zm_8217 (by decide +kernel)
theorem d_8217_36 {σ : Nat → Nat} {n0 : Nat} {bf : ab_B} : decode (ab_code (zx σ n0 bf).1 8217) 36 = .ok (.getfield 614, 3) := zd zm_8217 (by decide +kernel)
theorem d_8217_39 {σ : Nat → Nat} {n0 : Nat} {bf : ab_B} : decode (ab_code (zx σ n0 bf).1 8217) 39 = .ok (.lastore, 1) := zd zm_8217 (by decide +kernel)
theorem d_8217_40 {σ : Nat → Nat} {n0 : Nat} {bf : ab_B} : decode (ab_code (zx σ n0 bf).1 8217) 40 = .ok (.aload_n 0, 1) := zd zm_8217 (by decide +kernel)
theorem d_8217_41 {σ : Nat → Nat} {n0 : Nat} {bf : ab_B} : decode (ab_code (zx σ n0 bf).1 8217) 41 = .ok (.getfield 369, 3) := zd zm_8217 (by decide +kernel)
theorem d_8217_44 {σ : Nat → Nat} {n0 : Nat} {bf : ab_B} : decode (ab_code (zx σ n0 bf).1 8217) 44 = .ok (.iconst 4, 1) := zd zm_8217 (by decide +kernel)
theorem d_8217_45 {σ : Nat → Nat} {n0 : Nat} {bf : ab_B} : decode (ab_code (zx σ n0 bf).1 8217) 45 = .ok (.iload_n 1, 1) := zd zm_8217 (by decide +kernel)
theorem d_8217_46 {σ : Nat → Nat} {n0 : Nat} {bf : ab_B} : decode (ab_code (zx σ n0 bf).1 8217) 46 = .ok (.imul, 1) := zd zm_8217 (by decide +kernel)
theorem d_8217_47 {σ : Nat → Nat} {n0 : Nat} {bf : ab_B} : decode (ab_code (zx σ n0 bf).1 8217) 47 = .ok (.iconst 2, 1) := zd zm_8217 (by decide +kernel)
theorem d_8217_48 {σ : Nat → Nat} {n0 : Nat} {bf : ab_B} : decode (ab_code (zx σ n0 bf).1 8217) 48 = .ok (.iadd, 1) := zd zm_8217 (by decide +kernel)
theorem d_8217_49 {σ : Nat → Nat} {n0 : Nat} {bf : ab_B} : decode (ab_code (zx σ n0 bf).1 8217) 49 = .ok (.aload_n 0, 1) := zd zm_8217 (by decide +kernel)
theorem d_8217_50 {σ : Nat → Nat} {n0 : Nat} {bf : ab_B} : decode (ab_code (zx σ n0 bf).1 8217) 50 = .ok (.getfield 617, 3) := zd zm_8217 (by decide +kernel)
theorem d_8217_53 {σ : Nat → Nat} {n0 : Nat} {bf : ab_B} : decode (ab_code (zx σ n0 bf).1 8217) 53 = .ok (.lastore, 1) := zd zm_8217 (by decide +kernel)
theorem d_8217_54 {σ : Nat → Nat} {n0 : Nat} {bf : ab_B} : decode (ab_code (zx σ n0 bf).1 8217) 54 = .ok (.aload_n 0, 1) := zd zm_8217 (by decide +kernel)
theorem d_8217_55 {σ : Nat → Nat} {n0 : Nat} {bf : ab_B} : decode (ab_code (zx σ n0 bf).1 8217) 55 = .ok (.getfield 369, 3) := zd zm_8217 (by decide +kernel)
theorem d_8217_58 {σ : Nat → Nat} {n0 : Nat} {bf : ab_B} : decode (ab_code (zx σ n0 bf).1 8217) 58 = .ok (.iconst 4, 1) := zd zm_8217 (by decide +kernel)
theorem d_8217_59 {σ : Nat → Nat} {n0 : Nat} {bf : ab_B} : decode (ab_code (zx σ n0 bf).1 8217) 59 = .ok (.iload_n 1, 1) := zd zm_8217 (by decide +kernel)
theorem d_8217_60 {σ : Nat → Nat} {n0 : Nat} {bf : ab_B} : decode (ab_code (zx σ n0 bf).1 8217) 60 = .ok (.imul, 1) := zd zm_8217 (by decide +kernel)
theorem d_8217_61 {σ : Nat → Nat} {n0 : Nat} {bf : ab_B} : decode (ab_code (zx σ n0 bf).1 8217) 61 = .ok (.iconst 3, 1) := zd zm_8217 (by decide +kernel)
theorem d_8217_62 {σ : Nat → Nat} {n0 : Nat} {bf : ab_B} : decode (ab_code (zx σ n0 bf).1 8217) 62 = .ok (.iadd, 1) := zd zm_8217 (by decide +kernel)
theorem d_8217_63 {σ : Nat → Nat} {n0 : Nat} {bf : ab_B} : decode (ab_code (zx σ n0 bf).1 8217) 63 = .ok (.aload_n 0, 1) := zd zm_8217 (by decide +kernel)
theorem d_8217_64 {σ : Nat → Nat} {n0 : Nat} {bf : ab_B} : decode (ab_code (zx σ n0 bf).1 8217) 64 = .ok (.getfield 620, 3) := zd zm_8217 (by decide +kernel)
theorem d_8217_67 {σ : Nat → Nat} {n0 : Nat} {bf : ab_B} : decode (ab_code (zx σ n0 bf).1 8217) 67 = .ok (.lastore, 1) := zd zm_8217 (by decide +kernel)
theorem d_8217_68 {σ : Nat → Nat} {n0 : Nat} {bf : ab_B} : decode (ab_code (zx σ n0 bf).1 8217) 68 = .ok (.return_, 1) := zd zm_8217 (by decide +kernel)
def w_X9_setSlot_54 (X : zs_X) (d : Nat) (p0 : Nat) (p1 : Int32) (S : zs_T) (Q : zs_Q) : Prop :=
  (zs_K S p0 = some (.inl 8) ∧ ∃ b2, (zs_R S 8169 p0) = some b2 ∧ zs_A S b2 3 (((4 : Int32) * p1) + (3 : Int32)) ∧ ab_n0 X.1 ≤ b2 ∧ ∀ S6, S6 = zs_sj S b2 (((4 : Int32) * p1) + (3 : Int32)).toNatClampNeg (zs_J S 8084 p0) → Q (.returned none) S6)
theorem u_X9_setSlot_54 {σ : Nat → Nat} {n0 : Nat} {bf : ab_B} {d : Nat} {p0 : Nat} {p1 : Int32} {S : zs_T} {Q : zs_Q} (hB : zt_B bf) (h : w_X9_setSlot_54 (zx σ n0 bf) d p0 p1 S Q) : zs_U (zx σ n0 bf) d 8217 54 [(0, .ref p0), (1, .int p1)] [] S Q := by
  unfold w_X9_setSlot_54 at h
  refine zu_aload_n d_8217_54 rfl (zs_ra _) ?_
  obtain ⟨k1, h⟩ := h
  refine zg_8_369 rfl d_8217_55 k1 ?_
  refine zu_iconst d_8217_58 zi_4 ?_
  refine zu_iload_n d_8217_59 rfl ?_
  refine zu_stk d_8217_60 rfl rfl ?_
  refine zu_iconst d_8217_61 zi_3 ?_
  refine zu_stk d_8217_62 rfl rfl ?_
  refine zu_aload_n d_8217_63 rfl (zs_ra _) ?_
  refine zg_8_620 rfl d_8217_64 k1 ?_
  obtain ⟨b2, e3, h⟩ := h
  refine zs_stk2 (zs_rfe e3) ?_
  obtain ⟨k4, h⟩ := h
  obtain ⟨k5, h⟩ := h
  refine zu_last (k := 3) d_8217_67 rfl rfl k5 k4 ?_
  generalize e7 : zs_sj S b2 (((4 : Int32) * p1) + (3 : Int32)).toNatClampNeg (zs_J S 8084 p0) = S6
  have h := h S6 e7.symm
  have K8 : ∀ b, zs_K S6 b = zs_K S b := zs_Kt e7 (zs_Ksj _ _ _ _) (fun _ => rfl)
  exact zu_vret d_8217_68 zr_8217 h
def w_X9_setSlot_26 (X : zs_X) (d : Nat) (p0 : Nat) (p1 : Int32) (S : zs_T) (Q : zs_Q) : Prop :=
  (zs_K S p0 = some (.inl 8) ∧ ∃ b2, (zs_R S 8169 p0) = some b2 ∧ zs_A S b2 3 (((4 : Int32) * p1) + (1 : Int32)) ∧ ab_n0 X.1 ≤ b2 ∧ ∀ S6, S6 = zs_sj S b2 (((4 : Int32) * p1) + (1 : Int32)).toNatClampNeg (zs_J S 8082 p0) → ∃ b9, (zs_R S6 8169 p0) = some b9 ∧ zs_A S b9 3 (((4 : Int32) * p1) + (2 : Int32)) ∧ ab_n0 X.1 ≤ b9 ∧ ∀ S13, S13 = zs_sj S6 b9 (((4 : Int32) * p1) + (2 : Int32)).toNatClampNeg (zs_J S6 8083 p0) → w_X9_setSlot_54 X d p0 p1 S13 Q)
theorem u_X9_setSlot_26 {σ : Nat → Nat} {n0 : Nat} {bf : ab_B} {d : Nat} {p0 : Nat} {p1 : Int32} {S : zs_T} {Q : zs_Q} (hB : zt_B bf) (h : w_X9_setSlot_26 (zx σ n0 bf) d p0 p1 S Q) : zs_U (zx σ n0 bf) d 8217 26 [(0, .ref p0), (1, .int p1)] [] S Q := by
  unfold w_X9_setSlot_26 at h
  refine zu_aload_n d_8217_26 rfl (zs_ra _) ?_
  obtain ⟨k1, h⟩ := h
  refine zg_8_369 rfl d_8217_27 k1 ?_
  refine zu_iconst d_8217_30 zi_4 ?_
  refine zu_iload_n d_8217_31 rfl ?_
  refine zu_stk d_8217_32 rfl rfl ?_
  refine zu_iconst d_8217_33 zi_1 ?_
  refine zu_stk d_8217_34 rfl rfl ?_
  refine zu_aload_n d_8217_35 rfl (zs_ra _) ?_
  refine zg_8_614 rfl d_8217_36 k1 ?_
  obtain ⟨b2, e3, h⟩ := h
  refine zs_stk2 (zs_rfe e3) ?_
  obtain ⟨k4, h⟩ := h
  obtain ⟨k5, h⟩ := h
  refine zu_last (k := 3) d_8217_39 rfl rfl k5 k4 ?_
  generalize e7 : zs_sj S b2 (((4 : Int32) * p1) + (1 : Int32)).toNatClampNeg (zs_J S 8082 p0) = S6
  have h := h S6 e7.symm
  have K8 : ∀ b, zs_K S6 b = zs_K S b := zs_Kt e7 (zs_Ksj _ _ _ _) (fun _ => rfl)
  refine zu_aload_n d_8217_40 rfl (zs_ra _) ?_
  refine zg_8_369 rfl d_8217_41 ((K8 _).trans k1) ?_
  refine zu_iconst d_8217_44 zi_4 ?_
  refine zu_iload_n d_8217_45 rfl ?_
  refine zu_stk d_8217_46 rfl rfl ?_
  refine zu_iconst d_8217_47 zi_2 ?_
  refine zu_stk d_8217_48 rfl rfl ?_
  refine zu_aload_n d_8217_49 rfl (zs_ra _) ?_
  refine zg_8_617 rfl d_8217_50 ((K8 _).trans k1) ?_
  obtain ⟨b9, e10, h⟩ := h
  refine zs_stk2 (zs_rfe e10) ?_
  obtain ⟨k11, h⟩ := h
  obtain ⟨k12, h⟩ := h
  refine zu_last (k := 3) d_8217_53 rfl rfl k12 (zs_Ak K8 k11) ?_
  generalize e14 : zs_sj S6 b9 (((4 : Int32) * p1) + (2 : Int32)).toNatClampNeg (zs_J S6 8083 p0) = S13
  have h := h S13 e14.symm
  have K15 : ∀ b, zs_K S13 b = zs_K S b := zs_Kt e14 (zs_Ksj _ _ _ _) K8
  exact (u_X9_setSlot_54 hB h).weak ⟨rfl, rfl, trivial⟩
def w_X9_setSlot (X : zs_X) (d : Nat) (p0 : Nat) (p1 : Int32) (p2 : Int32) (p3 : Int32) (S : zs_T) (Q : zs_Q) : Prop :=
  (zs_K S p0 = some (.inl 8) ∧ ∃ b2, (zs_R S 8167 p0) = some b2 ∧ zs_A S b2 0 p1 ∧ ab_n0 X.1 ≤ b2 ∧ ∀ S6, S6 = zs_si S b2 p1.toNatClampNeg p2 → ∃ b9, (zs_R S6 8168 p0) = some b9 ∧ zs_A S b9 0 p1 ∧ ab_n0 X.1 ≤ b9 ∧ ∀ S13, S13 = zs_si S6 b9 p1.toNatClampNeg p3 → ∃ b16, (zs_R S13 8169 p0) = some b16 ∧ zs_A S b16 3 ((4 : Int32) * p1) ∧ ab_n0 X.1 ≤ b16 ∧ ∀ S20, S20 = zs_sj S13 b16 ((4 : Int32) * p1).toNatClampNeg (zs_J S13 8081 p0) → w_X9_setSlot_26 X d p0 p1 S20 Q)
theorem u_X9_setSlot {σ : Nat → Nat} {n0 : Nat} {bf : ab_B} {d : Nat} {p0 : Nat} {p1 : Int32} {p2 : Int32} {p3 : Int32} {S : zs_T} {Q : zs_Q} (hB : zt_B bf) (hd : 1 ≤ d) (h : w_X9_setSlot (zx σ n0 bf) (d - 1) p0 p1 p2 p3 S Q) : zs_C (zx σ n0 bf) d 8217 [.ref p0, .int p1, .int p2, .int p3] S Q := by
  have hL : lv_args 0 [.ref p0, .int p1, .int p2, .int p3] = [(0, .ref p0), (1, .int p1), (2, .int p2), (3, .int p3)] := rfl
  refine zs_C.of1 (hB.2 8217 (by decide) (by decide)) hd (by rw [hL]; exact zs_sub_self _ (by exact ⟨rfl, rfl, rfl, rfl, trivial⟩)) ?_
  rw [hL]
  clear hL
  unfold w_X9_setSlot at h
  refine zu_aload_n d_8217_0 rfl (zs_ra _) ?_
  obtain ⟨k1, h⟩ := h
  refine zg_8_362 rfl d_8217_1 k1 ?_
  refine zu_iload_n d_8217_4 rfl ?_
  refine zu_iload_n d_8217_5 rfl ?_
  obtain ⟨b2, e3, h⟩ := h
  refine zs_stk2 (zs_rfe e3) ?_
  obtain ⟨k4, h⟩ := h
  obtain ⟨k5, h⟩ := h
  refine zu_iast (k := 0) d_8217_6 rfl rfl k5 k4 ?_
  generalize e7 : zs_si S b2 p1.toNatClampNeg p2 = S6
  have h := h S6 e7.symm
  have K8 : ∀ b, zs_K S6 b = zs_K S b := zs_Kt e7 (zs_Ksi _ _ _ _) (fun _ => rfl)
  refine zu_aload_n d_8217_7 rfl (zs_ra _) ?_
  refine zg_8_365 rfl d_8217_8 ((K8 _).trans k1) ?_
  refine zu_iload_n d_8217_11 rfl ?_
  refine zu_iload_n d_8217_12 rfl ?_
  obtain ⟨b9, e10, h⟩ := h
  refine zs_stk2 (zs_rfe e10) ?_
  obtain ⟨k11, h⟩ := h
  obtain ⟨k12, h⟩ := h
  refine zu_iast (k := 0) d_8217_13 rfl rfl k12 (zs_Ak K8 k11) ?_
  generalize e14 : zs_si S6 b9 p1.toNatClampNeg p3 = S13
  have h := h S13 e14.symm
  have K15 : ∀ b, zs_K S13 b = zs_K S b := zs_Kt e14 (zs_Ksi _ _ _ _) K8
  refine zu_aload_n d_8217_14 rfl (zs_ra _) ?_
  refine zg_8_369 rfl d_8217_15 ((K15 _).trans k1) ?_
  refine zu_iconst d_8217_18 zi_4 ?_
  refine zu_iload_n d_8217_19 rfl ?_
  refine zu_stk d_8217_20 rfl rfl ?_
  refine zu_aload_n d_8217_21 rfl (zs_ra _) ?_
  refine zg_8_610 rfl d_8217_22 ((K15 _).trans k1) ?_
  obtain ⟨b16, e17, h⟩ := h
  refine zs_stk2 (zs_rfe e17) ?_
  obtain ⟨k18, h⟩ := h
  obtain ⟨k19, h⟩ := h
  refine zu_last (k := 3) d_8217_25 rfl rfl k19 (zs_Ak K15 k18) ?_
  generalize e21 : zs_sj S13 b16 ((4 : Int32) * p1).toNatClampNeg (zs_J S13 8081 p0) = S20
  have h := h S20 e21.symm
  have K22 : ∀ b, zs_K S20 b = zs_K S b := zs_Kt e21 (zs_Ksj _ _ _ _) K15
  exact (u_X9_setSlot_26 hB h).weak ⟨rfl, rfl, trivial⟩
/-! SchemaPascalModel.undefine(II)V -/
theorem zm_8218 {σ : Nat → Nat} {n0 : Nat} {bf : ab_B} : ab_code (zx σ n0 bf).1 8218 = prog_17_method_230_code := rfl
theorem zq_8218 {σ : Nat → Nat} {n0 : Nat} {bf : ab_B} : ab_maxL (zx σ n0 bf).1 8218 = 4 := rfl
theorem zr_8218 {σ : Nat → Nat} {n0 : Nat} {bf : ab_B} : ab_ret (zx σ n0 bf).1 8218 = (Option.none : Option Jvm.ClassFile.FieldType) := rfl
theorem d_8218_0 {σ : Nat → Nat} {n0 : Nat} {bf : ab_B} : decode (ab_code (zx σ n0 bf).1 8218) 0 = .ok (.iconst 0, 1) := zd zm_8218 (by decide +kernel)
theorem d_8218_1 {σ : Nat → Nat} {n0 : Nat} {bf : ab_B} : decode (ab_code (zx σ n0 bf).1 8218) 1 = .ok (.istore_n 3, 1) := zd zm_8218 (by decide +kernel)
theorem d_8218_2 {σ : Nat → Nat} {n0 : Nat} {bf : ab_B} : decode (ab_code (zx σ n0 bf).1 8218) 2 = .ok (.iload_n 3, 1) := zd zm_8218 (by decide +kernel)
theorem d_8218_3 {σ : Nat → Nat} {n0 : Nat} {bf : ab_B} : decode (ab_code (zx σ n0 bf).1 8218) 3 = .ok (.iload_n 2, 1) := zd zm_8218 (by decide +kernel)
theorem d_8218_4 {σ : Nat → Nat} {n0 : Nat} {bf : ab_B} : decode (ab_code (zx σ n0 bf).1 8218) 4 = .ok (.if_icmp .ge 18, 3) := zd zm_8218 (by decide +kernel)
theorem d_8218_7 {σ : Nat → Nat} {n0 : Nat} {bf : ab_B} : decode (ab_code (zx σ n0 bf).1 8218) 7 = .ok (.aload_n 0, 1) := zd zm_8218 (by decide +kernel)
theorem d_8218_8 {σ : Nat → Nat} {n0 : Nat} {bf : ab_B} : decode (ab_code (zx σ n0 bf).1 8218) 8 = .ok (.getfield 376, 3) := zd zm_8218 (by decide +kernel)
theorem d_8218_11 {σ : Nat → Nat} {n0 : Nat} {bf : ab_B} : decode (ab_code (zx σ n0 bf).1 8218) 11 = .ok (.iload_n 1, 1) := zd zm_8218 (by decide +kernel)
theorem d_8218_12 {σ : Nat → Nat} {n0 : Nat} {bf : ab_B} : decode (ab_code (zx σ n0 bf).1 8218) 12 = .ok (.iload_n 3, 1) := zd zm_8218 (by decide +kernel)
theorem d_8218_13 {σ : Nat → Nat} {n0 : Nat} {bf : ab_B} : decode (ab_code (zx σ n0 bf).1 8218) 13 = .ok (.iadd, 1) := zd zm_8218 (by decide +kernel)
theorem d_8218_14 {σ : Nat → Nat} {n0 : Nat} {bf : ab_B} : decode (ab_code (zx σ n0 bf).1 8218) 14 = .ok (.iconst 0, 1) := zd zm_8218 (by decide +kernel)
theorem d_8218_15 {σ : Nat → Nat} {n0 : Nat} {bf : ab_B} : decode (ab_code (zx σ n0 bf).1 8218) 15 = .ok (.bastore, 1) := zd zm_8218 (by decide +kernel)
theorem d_8218_16 {σ : Nat → Nat} {n0 : Nat} {bf : ab_B} : decode (ab_code (zx σ n0 bf).1 8218) 16 = .ok (.iinc 3 1, 3) := zd zm_8218 (by decide +kernel)
theorem d_8218_19 {σ : Nat → Nat} {n0 : Nat} {bf : ab_B} : decode (ab_code (zx σ n0 bf).1 8218) 19 = .ok (.goto (-17), 3) := zd zm_8218 (by decide +kernel)
theorem d_8218_22 {σ : Nat → Nat} {n0 : Nat} {bf : ab_B} : decode (ab_code (zx σ n0 bf).1 8218) 22 = .ok (.return_, 1) := zd zm_8218 (by decide +kernel)
def w_X9_undefine_2 (X : zs_X) (d : Nat) (p0 : Nat) (p1 : Int32) (p2 : Int32) (p3 : Int32) (S : zs_T) (Q : zs_Q) : Prop :=
  (((p2 ≤ p3 → (Q (.returned none) S)) ∧ (¬ (p2 ≤ p3) → (zs_K S p0 = some (.inl 8) ∧ ∃ b3, (zs_R S 8171 p0) = some b3 ∧ zs_A S b3 2 (p1 + p3) ∧ ab_n0 X.1 ≤ b3 ∧ ∀ S7, S7 = zs_si S b3 (p1 + p3).toNatClampNeg (vp_nar .boolean (0 : Int32)) → zs_U X d 8218 2 [(0, .ref p0), (1, .int p1), (2, .int p2), (3, .int (p3 + (1 : Int32)))] [] S7 Q))))
theorem u_X9_undefine_2 {σ : Nat → Nat} {n0 : Nat} {bf : ab_B} {d : Nat} {p0 : Nat} {p1 : Int32} {p2 : Int32} {p3 : Int32} {S : zs_T} {Q : zs_Q} (hB : zt_B bf) (h : w_X9_undefine_2 (zx σ n0 bf) d p0 p1 p2 p3 S Q) : zs_U (zx σ n0 bf) d 8218 2 [(0, .ref p0), (1, .int p1), (2, .int p2), (3, .int p3)] [] S Q := by
  unfold w_X9_undefine_2 at h
  refine zu_iload_n d_8218_2 rfl ?_
  refine zu_iload_n d_8218_3 rfl ?_
  refine zu_cmpge (t := 22) d_8218_4 rfl (fun c1 => ?_) (fun c1 => ?_)
  · have h := h.1 c1
    exact zu_vret d_8218_22 zr_8218 h
  · have h := h.2 c1
    refine zu_aload_n d_8218_7 rfl (zs_ra _) ?_
    obtain ⟨k2, h⟩ := h
    refine zg_8_376 rfl d_8218_8 k2 ?_
    refine zu_iload_n d_8218_11 rfl ?_
    refine zu_iload_n d_8218_12 rfl ?_
    refine zu_stk d_8218_13 rfl rfl ?_
    refine zu_iconst d_8218_14 zi_0 ?_
    obtain ⟨b3, e4, h⟩ := h
    refine zs_stk2 (zs_rfe e4) ?_
    obtain ⟨k5, h⟩ := h
    obtain ⟨k6, h⟩ := h
    refine zu_bast_bool (k := 2) d_8218_15 rfl rfl k6 k5 ?_
    generalize e8 : zs_si S b3 (p1 + p3).toNatClampNeg (vp_nar .boolean (0 : Int32)) = S7
    have h := h S7 e8.symm
    have K9 : ∀ b, zs_K S7 b = zs_K S b := zs_Kt e8 (zs_Ksi _ _ _ _) (fun _ => rfl)
    refine zu_iinc d_8218_16 rfl zi_1 (zs_lt zq_8218 rfl) ?_
    refine zu_goto (t := 2) d_8218_19 rfl ?_
    exact h.weak ⟨rfl, rfl, rfl, rfl, trivial⟩
def w_X9_undefine (X : zs_X) (d : Nat) (p0 : Nat) (p1 : Int32) (p2 : Int32) (S : zs_T) (Q : zs_Q) : Prop :=
  (zs_U X d 8218 2 [(0, .ref p0), (1, .int p1), (2, .int p2), (3, .int (0 : Int32))] [] S Q)
theorem u_X9_undefine {σ : Nat → Nat} {n0 : Nat} {bf : ab_B} {d : Nat} {p0 : Nat} {p1 : Int32} {p2 : Int32} {S : zs_T} {Q : zs_Q} (hB : zt_B bf) (hd : 1 ≤ d) (h : w_X9_undefine (zx σ n0 bf) (d - 1) p0 p1 p2 S Q) : zs_C (zx σ n0 bf) d 8218 [.ref p0, .int p1, .int p2] S Q := by
  have hL : lv_args 0 [.ref p0, .int p1, .int p2] = [(0, .ref p0), (1, .int p1), (2, .int p2)] := rfl
  refine zs_C.of1 (hB.2 8218 (by decide) (by decide)) hd (by rw [hL]; exact zs_sub_self _ (by exact ⟨rfl, rfl, rfl, trivial⟩)) ?_
  rw [hL]
  clear hL
  unfold w_X9_undefine at h
  refine zu_iconst d_8218_0 zi_0 ?_
  refine zu_istore_n d_8218_1 (zs_lt zq_8218 rfl) ?_
  exact h.weak ⟨rfl, rfl, rfl, rfl, trivial⟩
/-! SchemaPascalModel.isWithin(IJ)Z -/
theorem zm_8219 {σ : Nat → Nat} {n0 : Nat} {bf : ab_B} : ab_code (zx σ n0 bf).1 8219 = prog_17_method_231_code := rfl
theorem zq_8219 {σ : Nat → Nat} {n0 : Nat} {bf : ab_B} : ab_maxL (zx σ n0 bf).1 8219 = 6 := rfl
theorem zr_8219 {σ : Nat → Nat} {n0 : Nat} {bf : ab_B} : ab_ret (zx σ n0 bf).1 8219 = (Option.some Jvm.ClassFile.FieldType.boolean) := rfl
theorem d_8219_0 {σ : Nat → Nat} {n0 : Nat} {bf : ab_B} : decode (ab_code (zx σ n0 bf).1 8219) 0 = .ok (.aload_n 0, 1) := zd zm_8219 (by decide +kernel)
theorem d_8219_1 {σ : Nat → Nat} {n0 : Nat} {bf : ab_B} : decode (ab_code (zx σ n0 bf).1 8219) 1 = .ok (.getfield 90, 3) := zd zm_8219 (by decide +kernel)
theorem d_8219_4 {σ : Nat → Nat} {n0 : Nat} {bf : ab_B} : decode (ab_code (zx σ n0 bf).1 8219) 4 = .ok (.iload_n 1, 1) := zd zm_8219 (by decide +kernel)
theorem d_8219_5 {σ : Nat → Nat} {n0 : Nat} {bf : ab_B} : decode (ab_code (zx σ n0 bf).1 8219) 5 = .ok (.baload, 1) := zd zm_8219 (by decide +kernel)
theorem d_8219_6 {σ : Nat → Nat} {n0 : Nat} {bf : ab_B} : decode (ab_code (zx σ n0 bf).1 8219) 6 = .ok (.bipush 6, 2) := zd zm_8219 (by decide +kernel)
theorem d_8219_8 {σ : Nat → Nat} {n0 : Nat} {bf : ab_B} : decode (ab_code (zx σ n0 bf).1 8219) 8 = .ok (.if_icmp .eq 34, 3) := zd zm_8219 (by decide +kernel)
theorem d_8219_11 {σ : Nat → Nat} {n0 : Nat} {bf : ab_B} : decode (ab_code (zx σ n0 bf).1 8219) 11 = .ok (.aload_n 0, 1) := zd zm_8219 (by decide +kernel)
theorem d_8219_12 {σ : Nat → Nat} {n0 : Nat} {bf : ab_B} : decode (ab_code (zx σ n0 bf).1 8219) 12 = .ok (.iload_n 1, 1) := zd zm_8219 (by decide +kernel)
theorem d_8219_13 {σ : Nat → Nat} {n0 : Nat} {bf : ab_B} : decode (ab_code (zx σ n0 bf).1 8219) 13 = .ok (.invokevirtual 792, 3) := zd zm_8219 (by decide +kernel)
theorem d_8219_16 {σ : Nat → Nat} {n0 : Nat} {bf : ab_B} : decode (ab_code (zx σ n0 bf).1 8219) 16 = .ok (.istore 4, 2) := zd zm_8219 (by decide +kernel)
theorem d_8219_18 {σ : Nat → Nat} {n0 : Nat} {bf : ab_B} : decode (ab_code (zx σ n0 bf).1 8219) 18 = .ok (.lload_n 2, 1) := zd zm_8219 (by decide +kernel)
theorem d_8219_19 {σ : Nat → Nat} {n0 : Nat} {bf : ab_B} : decode (ab_code (zx σ n0 bf).1 8219) 19 = .ok (.aload_n 0, 1) := zd zm_8219 (by decide +kernel)
theorem d_8219_20 {σ : Nat → Nat} {n0 : Nat} {bf : ab_B} : decode (ab_code (zx σ n0 bf).1 8219) 20 = .ok (.getfield 783, 3) := zd zm_8219 (by decide +kernel)
theorem d_8219_23 {σ : Nat → Nat} {n0 : Nat} {bf : ab_B} : decode (ab_code (zx σ n0 bf).1 8219) 23 = .ok (.lcmp, 1) := zd zm_8219 (by decide +kernel)
theorem d_8219_24 {σ : Nat → Nat} {n0 : Nat} {bf : ab_B} : decode (ab_code (zx σ n0 bf).1 8219) 24 = .ok (.ifCond .lt 16, 3) := zd zm_8219 (by decide +kernel)
theorem d_8219_27 {σ : Nat → Nat} {n0 : Nat} {bf : ab_B} : decode (ab_code (zx σ n0 bf).1 8219) 27 = .ok (.lload_n 2, 1) := zd zm_8219 (by decide +kernel)
theorem d_8219_28 {σ : Nat → Nat} {n0 : Nat} {bf : ab_B} : decode (ab_code (zx σ n0 bf).1 8219) 28 = .ok (.aload_n 0, 1) := zd zm_8219 (by decide +kernel)
theorem d_8219_29 {σ : Nat → Nat} {n0 : Nat} {bf : ab_B} : decode (ab_code (zx σ n0 bf).1 8219) 29 = .ok (.getfield 786, 3) := zd zm_8219 (by decide +kernel)
theorem d_8219_32 {σ : Nat → Nat} {n0 : Nat} {bf : ab_B} : decode (ab_code (zx σ n0 bf).1 8219) 32 = .ok (.lcmp, 1) := zd zm_8219 (by decide +kernel)
theorem d_8219_33 {σ : Nat → Nat} {n0 : Nat} {bf : ab_B} : decode (ab_code (zx σ n0 bf).1 8219) 33 = .ok (.ifCond .gt 7, 3) := zd zm_8219 (by decide +kernel)
theorem d_8219_36 {σ : Nat → Nat} {n0 : Nat} {bf : ab_B} : decode (ab_code (zx σ n0 bf).1 8219) 36 = .ok (.iconst 1, 1) := zd zm_8219 (by decide +kernel)
theorem d_8219_37 {σ : Nat → Nat} {n0 : Nat} {bf : ab_B} : decode (ab_code (zx σ n0 bf).1 8219) 37 = .ok (.goto 4, 3) := zd zm_8219 (by decide +kernel)
theorem d_8219_40 {σ : Nat → Nat} {n0 : Nat} {bf : ab_B} : decode (ab_code (zx σ n0 bf).1 8219) 40 = .ok (.iconst 0, 1) := zd zm_8219 (by decide +kernel)
theorem d_8219_41 {σ : Nat → Nat} {n0 : Nat} {bf : ab_B} : decode (ab_code (zx σ n0 bf).1 8219) 41 = .ok (.ireturn, 1) := zd zm_8219 (by decide +kernel)
theorem d_8219_42 {σ : Nat → Nat} {n0 : Nat} {bf : ab_B} : decode (ab_code (zx σ n0 bf).1 8219) 42 = .ok (.aload_n 0, 1) := zd zm_8219 (by decide +kernel)
theorem d_8219_43 {σ : Nat → Nat} {n0 : Nat} {bf : ab_B} : decode (ab_code (zx σ n0 bf).1 8219) 43 = .ok (.aload_n 0, 1) := zd zm_8219 (by decide +kernel)
theorem d_8219_44 {σ : Nat → Nat} {n0 : Nat} {bf : ab_B} : decode (ab_code (zx σ n0 bf).1 8219) 44 = .ok (.getfield 93, 3) := zd zm_8219 (by decide +kernel)
theorem d_8219_47 {σ : Nat → Nat} {n0 : Nat} {bf : ab_B} : decode (ab_code (zx σ n0 bf).1 8219) 47 = .ok (.iload_n 1, 1) := zd zm_8219 (by decide +kernel)
theorem d_8219_48 {σ : Nat → Nat} {n0 : Nat} {bf : ab_B} : decode (ab_code (zx σ n0 bf).1 8219) 48 = .ok (.iaload, 1) := zd zm_8219 (by decide +kernel)
theorem d_8219_49 {σ : Nat → Nat} {n0 : Nat} {bf : ab_B} : decode (ab_code (zx σ n0 bf).1 8219) 49 = .ok (.invokevirtual 792, 3) := zd zm_8219 (by decide +kernel)
theorem d_8219_52 {σ : Nat → Nat} {n0 : Nat} {bf : ab_B} : decode (ab_code (zx σ n0 bf).1 8219) 52 = .ok (.istore 4, 2) := zd zm_8219 (by decide +kernel)
theorem d_8219_54 {σ : Nat → Nat} {n0 : Nat} {bf : ab_B} : decode (ab_code (zx σ n0 bf).1 8219) 54 = .ok (.iconst 0, 1) := zd zm_8219 (by decide +kernel)
theorem d_8219_55 {σ : Nat → Nat} {n0 : Nat} {bf : ab_B} : decode (ab_code (zx σ n0 bf).1 8219) 55 = .ok (.istore 5, 2) := zd zm_8219 (by decide +kernel)
theorem d_8219_57 {σ : Nat → Nat} {n0 : Nat} {bf : ab_B} : decode (ab_code (zx σ n0 bf).1 8219) 57 = .ok (.iload 5, 2) := zd zm_8219 (by decide +kernel)
theorem d_8219_59 {σ : Nat → Nat} {n0 : Nat} {bf : ab_B} : decode (ab_code (zx σ n0 bf).1 8219) 59 = .ok (.bipush 64, 2) := zd zm_8219 (by decide +kernel)
theorem d_8219_61 {σ : Nat → Nat} {n0 : Nat} {bf : ab_B} : decode (ab_code (zx σ n0 bf).1 8219) 61 = .ok (.if_icmp .ge 54, 3) := zd zm_8219 (by decide +kernel)
theorem d_8219_64 {σ : Nat → Nat} {n0 : Nat} {bf : ab_B} : decode (ab_code (zx σ n0 bf).1 8219) 64 = .ok (.iload 4, 2) := zd zm_8219 (by decide +kernel)
theorem d_8219_66 {σ : Nat → Nat} {n0 : Nat} {bf : ab_B} : decode (ab_code (zx σ n0 bf).1 8219) 66 = .ok (.ifCond .eq 40, 3) := zd zm_8219 (by decide +kernel)
theorem d_8219_69 {σ : Nat → Nat} {n0 : Nat} {bf : ab_B} : decode (ab_code (zx σ n0 bf).1 8219) 69 = .ok (.lload_n 2, 1) := zd zm_8219 (by decide +kernel)
theorem d_8219_70 {σ : Nat → Nat} {n0 : Nat} {bf : ab_B} : decode (ab_code (zx σ n0 bf).1 8219) 70 = .ok (.iload 5, 2) := zd zm_8219 (by decide +kernel)
theorem d_8219_72 {σ : Nat → Nat} {n0 : Nat} {bf : ab_B} : decode (ab_code (zx σ n0 bf).1 8219) 72 = .ok (.lushr, 1) := zd zm_8219 (by decide +kernel)
theorem d_8219_73 {σ : Nat → Nat} {n0 : Nat} {bf : ab_B} : decode (ab_code (zx σ n0 bf).1 8219) 73 = .ok (.lconst 1, 1) := zd zm_8219 (by decide +kernel)
theorem d_8219_74 {σ : Nat → Nat} {n0 : Nat} {bf : ab_B} : decode (ab_code (zx σ n0 bf).1 8219) 74 = .ok (.land, 1) := zd zm_8219 (by decide +kernel)
theorem d_8219_75 {σ : Nat → Nat} {n0 : Nat} {bf : ab_B} : decode (ab_code (zx σ n0 bf).1 8219) 75 = .ok (.lconst 0, 1) := zd zm_8219 (by decide +kernel)
theorem d_8219_76 {σ : Nat → Nat} {n0 : Nat} {bf : ab_B} : decode (ab_code (zx σ n0 bf).1 8219) 76 = .ok (.lcmp, 1) := zd zm_8219 (by decide +kernel)
theorem d_8219_77 {σ : Nat → Nat} {n0 : Nat} {bf : ab_B} : decode (ab_code (zx σ n0 bf).1 8219) 77 = .ok (.ifCond .eq 25, 3) := zd zm_8219 (by decide +kernel)
theorem d_8219_80 {σ : Nat → Nat} {n0 : Nat} {bf : ab_B} : decode (ab_code (zx σ n0 bf).1 8219) 80 = .ok (.iload 5, 2) := zd zm_8219 (by decide +kernel)
theorem d_8219_82 {σ : Nat → Nat} {n0 : Nat} {bf : ab_B} : decode (ab_code (zx σ n0 bf).1 8219) 82 = .ok (.i2l, 1) := zd zm_8219 (by decide +kernel)
theorem d_8219_83 {σ : Nat → Nat} {n0 : Nat} {bf : ab_B} : decode (ab_code (zx σ n0 bf).1 8219) 83 = .ok (.aload_n 0, 1) := zd zm_8219 (by decide +kernel)
theorem d_8219_84 {σ : Nat → Nat} {n0 : Nat} {bf : ab_B} : decode (ab_code (zx σ n0 bf).1 8219) 84 = .ok (.getfield 783, 3) := zd zm_8219 (by decide +kernel)
theorem d_8219_87 {σ : Nat → Nat} {n0 : Nat} {bf : ab_B} : decode (ab_code (zx σ n0 bf).1 8219) 87 = .ok (.lcmp, 1) := zd zm_8219 (by decide +kernel)
theorem d_8219_88 {σ : Nat → Nat} {n0 : Nat} {bf : ab_B} : decode (ab_code (zx σ n0 bf).1 8219) 88 = .ok (.ifCond .lt 18, 3) := zd zm_8219 (by decide +kernel)
theorem d_8219_91 {σ : Nat → Nat} {n0 : Nat} {bf : ab_B} : decode (ab_code (zx σ n0 bf).1 8219) 91 = .ok (.iload 5, 2) := zd zm_8219 (by decide +kernel)
theorem d_8219_93 {σ : Nat → Nat} {n0 : Nat} {bf : ab_B} : decode (ab_code (zx σ n0 bf).1 8219) 93 = .ok (.i2l, 1) := zd zm_8219 (by decide +kernel)
theorem d_8219_94 {σ : Nat → Nat} {n0 : Nat} {bf : ab_B} : decode (ab_code (zx σ n0 bf).1 8219) 94 = .ok (.aload_n 0, 1) := zd zm_8219 (by decide +kernel)
theorem d_8219_95 {σ : Nat → Nat} {n0 : Nat} {bf : ab_B} : decode (ab_code (zx σ n0 bf).1 8219) 95 = .ok (.getfield 786, 3) := zd zm_8219 (by decide +kernel)
theorem d_8219_98 {σ : Nat → Nat} {n0 : Nat} {bf : ab_B} : decode (ab_code (zx σ n0 bf).1 8219) 98 = .ok (.lcmp, 1) := zd zm_8219 (by decide +kernel)
theorem d_8219_99 {σ : Nat → Nat} {n0 : Nat} {bf : ab_B} : decode (ab_code (zx σ n0 bf).1 8219) 99 = .ok (.ifCond .gt 7, 3) := zd zm_8219 (by decide +kernel)
theorem d_8219_102 {σ : Nat → Nat} {n0 : Nat} {bf : ab_B} : decode (ab_code (zx σ n0 bf).1 8219) 102 = .ok (.iconst 1, 1) := zd zm_8219 (by decide +kernel)
theorem d_8219_103 {σ : Nat → Nat} {n0 : Nat} {bf : ab_B} : decode (ab_code (zx σ n0 bf).1 8219) 103 = .ok (.goto 4, 3) := zd zm_8219 (by decide +kernel)
theorem d_8219_106 {σ : Nat → Nat} {n0 : Nat} {bf : ab_B} : decode (ab_code (zx σ n0 bf).1 8219) 106 = .ok (.iconst 0, 1) := zd zm_8219 (by decide +kernel)
theorem d_8219_107 {σ : Nat → Nat} {n0 : Nat} {bf : ab_B} : decode (ab_code (zx σ n0 bf).1 8219) 107 = .ok (.istore 4, 2) := zd zm_8219 (by decide +kernel)
theorem d_8219_109 {σ : Nat → Nat} {n0 : Nat} {bf : ab_B} : decode (ab_code (zx σ n0 bf).1 8219) 109 = .ok (.iinc 5 1, 3) := zd zm_8219 (by decide +kernel)
theorem d_8219_112 {σ : Nat → Nat} {n0 : Nat} {bf : ab_B} : decode (ab_code (zx σ n0 bf).1 8219) 112 = .ok (.goto (-55), 3) := zd zm_8219 (by decide +kernel)
theorem d_8219_115 {σ : Nat → Nat} {n0 : Nat} {bf : ab_B} : decode (ab_code (zx σ n0 bf).1 8219) 115 = .ok (.iload 4, 2) := zd zm_8219 (by decide +kernel)
theorem d_8219_117 {σ : Nat → Nat} {n0 : Nat} {bf : ab_B} : decode (ab_code (zx σ n0 bf).1 8219) 117 = .ok (.ireturn, 1) := zd zm_8219 (by decide +kernel)
def w_X9_isWithin_36 (X : zs_X) (d : Nat)  (S : zs_T) (Q : zs_Q) : Prop :=
  (Q (.returned (some (.int (1 : Int32)))) S)
theorem u_X9_isWithin_36 {σ : Nat → Nat} {n0 : Nat} {bf : ab_B} {d : Nat}  {S : zs_T} {Q : zs_Q} (hB : zt_B bf) (h : w_X9_isWithin_36 (zx σ n0 bf) d  S Q) : zs_U (zx σ n0 bf) d 8219 36 [] [] S Q := by
  unfold w_X9_isWithin_36 at h
  refine zu_iconst d_8219_36 zi_1 ?_
  refine zu_goto (t := 41) d_8219_37 rfl ?_
  exact zu_iret d_8219_41 zr_8219 (zs_b_n (Or.inr rfl)) h
def w_X9_isWithin_40 (X : zs_X) (d : Nat)  (S : zs_T) (Q : zs_Q) : Prop :=
  (Q (.returned (some (.int (0 : Int32)))) S)
theorem u_X9_isWithin_40 {σ : Nat → Nat} {n0 : Nat} {bf : ab_B} {d : Nat}  {S : zs_T} {Q : zs_Q} (hB : zt_B bf) (h : w_X9_isWithin_40 (zx σ n0 bf) d  S Q) : zs_U (zx σ n0 bf) d 8219 40 [] [] S Q := by
  unfold w_X9_isWithin_40 at h
  refine zu_iconst d_8219_40 zi_0 ?_
  exact zu_iret d_8219_41 zr_8219 (zs_b_n (Or.inl rfl)) h
def w_X9_isWithin_106 (X : zs_X) (d : Nat) (p0 : Nat) (p2 : Int64) (p5 : Int32) (S : zs_T) (Q : zs_Q) : Prop :=
  (zs_U X d 8219 57 [(0, .ref p0), (2, .long p2), (4, .int (0 : Int32)), (5, .int (p5 + (1 : Int32)))] [] S Q)
theorem u_X9_isWithin_106 {σ : Nat → Nat} {n0 : Nat} {bf : ab_B} {d : Nat} {p0 : Nat} {p2 : Int64} {p5 : Int32} {S : zs_T} {Q : zs_Q} (hB : zt_B bf) (h : w_X9_isWithin_106 (zx σ n0 bf) d p0 p2 p5 S Q) : zs_U (zx σ n0 bf) d 8219 106 [(0, .ref p0), (2, .long p2), (5, .int p5)] [] S Q := by
  unfold w_X9_isWithin_106 at h
  refine zu_iconst d_8219_106 zi_0 ?_
  refine zu_istore d_8219_107 (zs_lt zq_8219 rfl) ?_
  refine zu_iinc d_8219_109 rfl zi_1 (zs_lt zq_8219 rfl) ?_
  refine zu_goto (t := 57) d_8219_112 rfl ?_
  exact h.weak ⟨rfl, rfl, rfl, rfl, trivial⟩
def w_X9_isWithin_102 (X : zs_X) (d : Nat) (p0 : Nat) (p2 : Int64) (p5 : Int32) (S : zs_T) (Q : zs_Q) : Prop :=
  (zs_U X d 8219 57 [(0, .ref p0), (2, .long p2), (4, .int (1 : Int32)), (5, .int (p5 + (1 : Int32)))] [] S Q)
theorem u_X9_isWithin_102 {σ : Nat → Nat} {n0 : Nat} {bf : ab_B} {d : Nat} {p0 : Nat} {p2 : Int64} {p5 : Int32} {S : zs_T} {Q : zs_Q} (hB : zt_B bf) (h : w_X9_isWithin_102 (zx σ n0 bf) d p0 p2 p5 S Q) : zs_U (zx σ n0 bf) d 8219 102 [(0, .ref p0), (2, .long p2), (5, .int p5)] [] S Q := by
  unfold w_X9_isWithin_102 at h
  refine zu_iconst d_8219_102 zi_1 ?_
  refine zu_goto (t := 107) d_8219_103 rfl ?_
  refine zu_istore d_8219_107 (zs_lt zq_8219 rfl) ?_
  refine zu_iinc d_8219_109 rfl zi_1 (zs_lt zq_8219 rfl) ?_
  refine zu_goto (t := 57) d_8219_112 rfl ?_
  exact h.weak ⟨rfl, rfl, rfl, rfl, trivial⟩
def w_X9_isWithin_91 (X : zs_X) (d : Nat) (p0 : Nat) (p2 : Int64) (p5 : Int32) (S : zs_T) (Q : zs_Q) : Prop :=
  (zs_K S p0 = some (.inl 8) ∧ (((zs_J S 8126 p0) < ((p5).toInt64) → w_X9_isWithin_106 X d p0 p2 p5 S Q) ∧ (¬ ((zs_J S 8126 p0) < ((p5).toInt64)) → w_X9_isWithin_102 X d p0 p2 p5 S Q)))
theorem u_X9_isWithin_91 {σ : Nat → Nat} {n0 : Nat} {bf : ab_B} {d : Nat} {p0 : Nat} {p2 : Int64} {p5 : Int32} {S : zs_T} {Q : zs_Q} (hB : zt_B bf) (h : w_X9_isWithin_91 (zx σ n0 bf) d p0 p2 p5 S Q) : zs_U (zx σ n0 bf) d 8219 91 [(0, .ref p0), (2, .long p2), (5, .int p5)] [] S Q := by
  unfold w_X9_isWithin_91 at h
  refine zu_iload d_8219_91 rfl ?_
  refine zu_stk d_8219_93 rfl rfl ?_
  refine zu_aload_n d_8219_94 rfl (zs_ra _) ?_
  obtain ⟨k1, h⟩ := h
  refine zg_8_786 rfl d_8219_95 k1 ?_
  refine zu_lgt (t := 106) d_8219_98 d_8219_99 rfl (fun c2 => ?_) (fun c2 => ?_)
  · have h := h.1 c2
    exact (u_X9_isWithin_106 hB h).weak ⟨rfl, rfl, rfl, trivial⟩
  · have h := h.2 c2
    exact (u_X9_isWithin_102 hB h).weak ⟨rfl, rfl, rfl, trivial⟩
def w_X9_isWithin_57 (X : zs_X) (d : Nat) (p0 : Nat) (p2 : Int64) (p4 : Int32) (p5 : Int32) (S : zs_T) (Q : zs_Q) : Prop :=
  ((((64 : Int32) ≤ p5 → (zs_b p4 ∧ Q (.returned (some (.int p4))) S)) ∧ (¬ ((64 : Int32) ≤ p5) → (((p4 = 0 → w_X9_isWithin_106 X d p0 p2 p5 S Q) ∧ (¬ (p4 = 0) → (((((((p2).toUInt64 >>> ((p5).toInt64.toUInt64 &&& Int64.toUInt64 63)).toInt64) &&& (1 : Int64)) = (0 : Int64) → w_X9_isWithin_102 X d p0 p2 p5 S Q) ∧ (¬ (((((p2).toUInt64 >>> ((p5).toInt64.toUInt64 &&& Int64.toUInt64 63)).toInt64) &&& (1 : Int64)) = (0 : Int64)) → (zs_K S p0 = some (.inl 8) ∧ ((((p5).toInt64) < (zs_J S 8125 p0) → w_X9_isWithin_106 X d p0 p2 p5 S Q) ∧ (¬ (((p5).toInt64) < (zs_J S 8125 p0)) → w_X9_isWithin_91 X d p0 p2 p5 S Q))))))))))))
theorem u_X9_isWithin_57 {σ : Nat → Nat} {n0 : Nat} {bf : ab_B} {d : Nat} {p0 : Nat} {p2 : Int64} {p4 : Int32} {p5 : Int32} {S : zs_T} {Q : zs_Q} (hB : zt_B bf) (h : w_X9_isWithin_57 (zx σ n0 bf) d p0 p2 p4 p5 S Q) : zs_U (zx σ n0 bf) d 8219 57 [(0, .ref p0), (2, .long p2), (4, .int p4), (5, .int p5)] [] S Q := by
  unfold w_X9_isWithin_57 at h
  refine zu_iload d_8219_57 rfl ?_
  refine zu_bipush d_8219_59 zj_64 ?_
  refine zu_cmpge (t := 115) d_8219_61 rfl (fun c1 => ?_) (fun c1 => ?_)
  · have h := h.1 c1
    refine zu_iload d_8219_115 rfl ?_
    obtain ⟨k2, h⟩ := h
    exact zu_iret d_8219_117 zr_8219 (zs_b_n k2) h
  · have h := h.2 c1
    refine zu_iload d_8219_64 rfl ?_
    refine zu_ifeq (t := 106) d_8219_66 rfl (fun c3 => ?_) (fun c3 => ?_)
    · have h := h.1 c3
      exact (u_X9_isWithin_106 hB h).weak ⟨rfl, rfl, rfl, trivial⟩
    · have h := h.2 c3
      refine zu_lload_n d_8219_69 rfl ?_
      refine zu_iload d_8219_70 rfl ?_
      refine zu_stk d_8219_72 rfl rfl ?_
      refine zu_lconst (v := 1) d_8219_73 rfl ?_
      refine zu_stk d_8219_74 rfl rfl ?_
      refine zu_lconst (v := 0) d_8219_75 rfl ?_
      refine zu_leq (t := 102) d_8219_76 d_8219_77 rfl (fun c4 => ?_) (fun c4 => ?_)
      · have h := h.1 c4
        exact (u_X9_isWithin_102 hB h).weak ⟨rfl, rfl, rfl, trivial⟩
      · have h := h.2 c4
        refine zu_iload d_8219_80 rfl ?_
        refine zu_stk d_8219_82 rfl rfl ?_
        refine zu_aload_n d_8219_83 rfl (zs_ra _) ?_
        obtain ⟨k5, h⟩ := h
        refine zg_8_783 rfl d_8219_84 k5 ?_
        refine zu_llt (t := 106) d_8219_87 d_8219_88 rfl (fun c6 => ?_) (fun c6 => ?_)
        · have h := h.1 c6
          exact (u_X9_isWithin_106 hB h).weak ⟨rfl, rfl, rfl, trivial⟩
        · have h := h.2 c6
          exact (u_X9_isWithin_91 hB h).weak ⟨rfl, rfl, rfl, trivial⟩
def w_X9_isWithin (X : zs_X) (d : Nat) (p0 : Nat) (p1 : Int32) (p2 : Int64) (S : zs_T) (Q : zs_Q) : Prop :=
  (zs_K S p0 = some (.inl 8) ∧ ∃ b2, (zs_R S 8044 p0) = some b2 ∧ zs_A S b2 1 p1 ∧ (((zs_i S b2 p1.toNatClampNeg) = (6 : Int32) → (∃ b6, (zs_R S 8045 p0) = some b6 ∧ zs_A S b6 0 p1 ∧ zs_C X d 8123 [.ref p0, .int (zs_i S b6 p1.toNatClampNeg)] S (zs_kI (fun v10 S9 => (zs_U X d 8219 57 [(0, .ref p0), (2, .long p2), (4, .int v10), (5, .int (0 : Int32))] [] S9 Q)) Q))) ∧ (¬ ((zs_i S b2 p1.toNatClampNeg) = (6 : Int32)) → (zs_C X d 8123 [.ref p0, .int p1] S (zs_kI (fun v12 S11 => (zs_K S11 p0 = some (.inl 8) ∧ ((p2 < (zs_J S11 8125 p0) → w_X9_isWithin_40 X d  S11 Q) ∧ (¬ (p2 < (zs_J S11 8125 p0)) → ((((zs_J S11 8126 p0) < p2 → w_X9_isWithin_40 X d  S11 Q) ∧ (¬ ((zs_J S11 8126 p0) < p2) → w_X9_isWithin_36 X d  S11 Q))))))) Q)))))
theorem u_X9_isWithin {σ : Nat → Nat} {n0 : Nat} {bf : ab_B} {d : Nat} {p0 : Nat} {p1 : Int32} {p2 : Int64} {S : zs_T} {Q : zs_Q} (hB : zt_B bf) (hd : 1 ≤ d) (h : w_X9_isWithin (zx σ n0 bf) (d - 1) p0 p1 p2 S Q) : zs_C (zx σ n0 bf) d 8219 [.ref p0, .int p1, .long p2] S Q := by
  have hL : lv_args 0 [.ref p0, .int p1, .long p2] = [(0, .ref p0), (1, .int p1), (2, .long p2)] := rfl
  refine zs_C.of1 (hB.2 8219 (by decide) (by decide)) hd (by rw [hL]; exact zs_sub_self _ (by exact ⟨rfl, rfl, rfl, trivial⟩)) ?_
  rw [hL]
  clear hL
  unfold w_X9_isWithin at h
  refine zu_aload_n d_8219_0 rfl (zs_ra _) ?_
  obtain ⟨k1, h⟩ := h
  refine zg_8_90 rfl d_8219_1 k1 ?_
  refine zu_iload_n d_8219_4 rfl ?_
  obtain ⟨b2, e3, h⟩ := h
  refine zs_stk1 (zs_rfe e3) ?_
  obtain ⟨k4, h⟩ := h
  refine zu_bald (k := 1) d_8219_5 rfl (Or.inl rfl) k4 ?_
  refine zu_bipush d_8219_6 zj_6 ?_
  refine zu_cmpeq (t := 42) d_8219_8 rfl (fun c5 => ?_) (fun c5 => ?_)
  · have h := h.1 c5
    refine zu_aload_n d_8219_42 rfl (zs_ra _) ?_
    refine zu_aload_n d_8219_43 rfl (zs_ra _) ?_
    refine zg_8_93 rfl d_8219_44 k1 ?_
    refine zu_iload_n d_8219_47 rfl ?_
    obtain ⟨b6, e7, h⟩ := h
    refine zs_stk1 (zs_rfe e7) ?_
    obtain ⟨k8, h⟩ := h
    refine zu_iald (k := 0) d_8219_48 rfl rfl k8 ?_
    refine zc_8_792 (x0 := (zs_i S b6 p1.toNatClampNeg)) hB rfl k1 d_8219_49 (Nat.le_of_ble_eq_true rfl) h (fun v10 S9 h => ?_)
    refine zu_istore d_8219_52 (zs_lt zq_8219 rfl) ?_
    refine zu_iconst d_8219_54 zi_0 ?_
    refine zu_istore d_8219_55 (zs_lt zq_8219 rfl) ?_
    exact h.weak ⟨rfl, rfl, rfl, rfl, trivial⟩
  · have h := h.2 c5
    refine zu_aload_n d_8219_11 rfl (zs_ra _) ?_
    refine zu_iload_n d_8219_12 rfl ?_
    refine zc_8_792 (x0 := p1) hB rfl k1 d_8219_13 (Nat.le_of_ble_eq_true rfl) h (fun v12 S11 h => ?_)
    refine zu_istore d_8219_16 (zs_lt zq_8219 rfl) ?_
    refine zu_lload_n d_8219_18 rfl ?_
    refine zu_aload_n d_8219_19 rfl (zs_ra _) ?_
    obtain ⟨k13, h⟩ := h
    refine zg_8_783 rfl d_8219_20 k13 ?_
    refine zu_llt (t := 40) d_8219_23 d_8219_24 rfl (fun c14 => ?_) (fun c14 => ?_)
    · have h := h.1 c14
      exact (u_X9_isWithin_40 hB h).weak trivial
    · have h := h.2 c14
      refine zu_lload_n d_8219_27 rfl ?_
      refine zu_aload_n d_8219_28 rfl (zs_ra _) ?_
      refine zg_8_786 rfl d_8219_29 k13 ?_
      refine zu_lgt (t := 40) d_8219_32 d_8219_33 rfl (fun c15 => ?_) (fun c15 => ?_)
      · have h := h.1 c15
        exact (u_X9_isWithin_40 hB h).weak trivial
      · have h := h.2 c15
        exact (u_X9_isWithin_36 hB h).weak trivial
/-! SchemaPascalModel.sortOf(I)I -/
theorem zm_8220 {σ : Nat → Nat} {n0 : Nat} {bf : ab_B} : ab_code (zx σ n0 bf).1 8220 = prog_17_method_228_code := rfl
theorem zq_8220 {σ : Nat → Nat} {n0 : Nat} {bf : ab_B} : ab_maxL (zx σ n0 bf).1 8220 = 2 := rfl
theorem zr_8220 {σ : Nat → Nat} {n0 : Nat} {bf : ab_B} : ab_ret (zx σ n0 bf).1 8220 = (Option.some Jvm.ClassFile.FieldType.int) := rfl
theorem d_8220_0 {σ : Nat → Nat} {n0 : Nat} {bf : ab_B} : decode (ab_code (zx σ n0 bf).1 8220) 0 = .ok (.aload_n 0, 1) := zd zm_8220 (by decide +kernel)
theorem d_8220_1 {σ : Nat → Nat} {n0 : Nat} {bf : ab_B} : decode (ab_code (zx σ n0 bf).1 8220) 1 = .ok (.iload_n 1, 1) := zd zm_8220 (by decide +kernel)
theorem d_8220_2 {σ : Nat → Nat} {n0 : Nat} {bf : ab_B} : decode (ab_code (zx σ n0 bf).1 8220) 2 = .ok (.invokevirtual 564, 3) := zd zm_8220 (by decide +kernel)
theorem d_8220_5 {σ : Nat → Nat} {n0 : Nat} {bf : ab_B} : decode (ab_code (zx σ n0 bf).1 8220) 5 = .ok (.ifCond .eq 11, 3) := zd zm_8220 (by decide +kernel)
theorem d_8220_8 {σ : Nat → Nat} {n0 : Nat} {bf : ab_B} : decode (ab_code (zx σ n0 bf).1 8220) 8 = .ok (.aload_n 0, 1) := zd zm_8220 (by decide +kernel)
theorem d_8220_9 {σ : Nat → Nat} {n0 : Nat} {bf : ab_B} : decode (ab_code (zx σ n0 bf).1 8220) 9 = .ok (.iload_n 1, 1) := zd zm_8220 (by decide +kernel)
theorem d_8220_10 {σ : Nat → Nat} {n0 : Nat} {bf : ab_B} : decode (ab_code (zx σ n0 bf).1 8220) 10 = .ok (.invokevirtual 561, 3) := zd zm_8220 (by decide +kernel)
theorem d_8220_13 {σ : Nat → Nat} {n0 : Nat} {bf : ab_B} : decode (ab_code (zx σ n0 bf).1 8220) 13 = .ok (.goto 36, 3) := zd zm_8220 (by decide +kernel)
theorem d_8220_16 {σ : Nat → Nat} {n0 : Nat} {bf : ab_B} : decode (ab_code (zx σ n0 bf).1 8220) 16 = .ok (.aload_n 0, 1) := zd zm_8220 (by decide +kernel)
theorem d_8220_17 {σ : Nat → Nat} {n0 : Nat} {bf : ab_B} : decode (ab_code (zx σ n0 bf).1 8220) 17 = .ok (.getfield 90, 3) := zd zm_8220 (by decide +kernel)
theorem d_8220_20 {σ : Nat → Nat} {n0 : Nat} {bf : ab_B} : decode (ab_code (zx σ n0 bf).1 8220) 20 = .ok (.iload_n 1, 1) := zd zm_8220 (by decide +kernel)
theorem d_8220_21 {σ : Nat → Nat} {n0 : Nat} {bf : ab_B} : decode (ab_code (zx σ n0 bf).1 8220) 21 = .ok (.baload, 1) := zd zm_8220 (by decide +kernel)
theorem d_8220_22 {σ : Nat → Nat} {n0 : Nat} {bf : ab_B} : decode (ab_code (zx σ n0 bf).1 8220) 22 = .ok (.bipush 6, 2) := zd zm_8220 (by decide +kernel)
theorem d_8220_24 {σ : Nat → Nat} {n0 : Nat} {bf : ab_B} : decode (ab_code (zx σ n0 bf).1 8220) 24 = .ok (.if_icmp .ne 20, 3) := zd zm_8220 (by decide +kernel)
theorem d_8220_27 {σ : Nat → Nat} {n0 : Nat} {bf : ab_B} : decode (ab_code (zx σ n0 bf).1 8220) 27 = .ok (.ldc_w 1330, 3) := zd zm_8220 (by decide +kernel)
theorem d_8220_30 {σ : Nat → Nat} {n0 : Nat} {bf : ab_B} : decode (ab_code (zx σ n0 bf).1 8220) 30 = .ok (.aload_n 0, 1) := zd zm_8220 (by decide +kernel)
theorem d_8220_31 {σ : Nat → Nat} {n0 : Nat} {bf : ab_B} : decode (ab_code (zx σ n0 bf).1 8220) 31 = .ok (.aload_n 0, 1) := zd zm_8220 (by decide +kernel)
theorem d_8220_32 {σ : Nat → Nat} {n0 : Nat} {bf : ab_B} : decode (ab_code (zx σ n0 bf).1 8220) 32 = .ok (.getfield 93, 3) := zd zm_8220 (by decide +kernel)
theorem d_8220_35 {σ : Nat → Nat} {n0 : Nat} {bf : ab_B} : decode (ab_code (zx σ n0 bf).1 8220) 35 = .ok (.iload_n 1, 1) := zd zm_8220 (by decide +kernel)
theorem d_8220_36 {σ : Nat → Nat} {n0 : Nat} {bf : ab_B} : decode (ab_code (zx σ n0 bf).1 8220) 36 = .ok (.iaload, 1) := zd zm_8220 (by decide +kernel)
theorem d_8220_37 {σ : Nat → Nat} {n0 : Nat} {bf : ab_B} : decode (ab_code (zx σ n0 bf).1 8220) 37 = .ok (.invokevirtual 561, 3) := zd zm_8220 (by decide +kernel)
theorem d_8220_40 {σ : Nat → Nat} {n0 : Nat} {bf : ab_B} : decode (ab_code (zx σ n0 bf).1 8220) 40 = .ok (.iadd, 1) := zd zm_8220 (by decide +kernel)
theorem d_8220_41 {σ : Nat → Nat} {n0 : Nat} {bf : ab_B} : decode (ab_code (zx σ n0 bf).1 8220) 41 = .ok (.goto 8, 3) := zd zm_8220 (by decide +kernel)
theorem d_8220_44 {σ : Nat → Nat} {n0 : Nat} {bf : ab_B} : decode (ab_code (zx σ n0 bf).1 8220) 44 = .ok (.ldc_w 1331, 3) := zd zm_8220 (by decide +kernel)
theorem d_8220_47 {σ : Nat → Nat} {n0 : Nat} {bf : ab_B} : decode (ab_code (zx σ n0 bf).1 8220) 47 = .ok (.iload_n 1, 1) := zd zm_8220 (by decide +kernel)
theorem d_8220_48 {σ : Nat → Nat} {n0 : Nat} {bf : ab_B} : decode (ab_code (zx σ n0 bf).1 8220) 48 = .ok (.iadd, 1) := zd zm_8220 (by decide +kernel)
theorem d_8220_49 {σ : Nat → Nat} {n0 : Nat} {bf : ab_B} : decode (ab_code (zx σ n0 bf).1 8220) 49 = .ok (.ireturn, 1) := zd zm_8220 (by decide +kernel)
def w_X9_sortOf (X : zs_X) (d : Nat) (p0 : Nat) (p1 : Int32) (S : zs_T) (Q : zs_Q) : Prop :=
  (zs_K S p0 = some (.inl 8) ∧ zs_C X d 8036 [.ref p0, .int p1] S (zs_kI (fun v3 S2 => (((v3 = 0 → (zs_K S2 p0 = some (.inl 8) ∧ ∃ b6, (zs_R S2 8044 p0) = some b6 ∧ zs_A S2 b6 1 p1 ∧ ((¬ (zs_i S2 b6 p1.toNatClampNeg) = (6 : Int32) → (Q (.returned (some (.int ((200000 : Int32) + p1)))) S2)) ∧ (¬ (¬ (zs_i S2 b6 p1.toNatClampNeg) = (6 : Int32)) → (∃ b10, (zs_R S2 8045 p0) = some b10 ∧ zs_A S2 b10 0 p1 ∧ zs_C X d 8042 [.ref p0, .int (zs_i S2 b10 p1.toNatClampNeg)] S2 (zs_kI (fun v14 S13 => (Q (.returned (some (.int ((100000 : Int32) + v14)))) S13)) Q)))))) ∧ (¬ (v3 = 0) → (zs_K S2 p0 = some (.inl 8) ∧ zs_C X d 8042 [.ref p0, .int p1] S2 (zs_kI (fun v17 S16 => (Q (.returned (some (.int v17))) S16)) Q)))))) Q))
theorem u_X9_sortOf {σ : Nat → Nat} {n0 : Nat} {bf : ab_B} {d : Nat} {p0 : Nat} {p1 : Int32} {S : zs_T} {Q : zs_Q} (hB : zt_B bf) (hd : 1 ≤ d) (h : w_X9_sortOf (zx σ n0 bf) (d - 1) p0 p1 S Q) : zs_C (zx σ n0 bf) d 8220 [.ref p0, .int p1] S Q := by
  have hL : lv_args 0 [.ref p0, .int p1] = [(0, .ref p0), (1, .int p1)] := rfl
  refine zs_C.of1 (hB.2 8220 (by decide) (by decide)) hd (by rw [hL]; exact zs_sub_self _ (by exact ⟨rfl, rfl, trivial⟩)) ?_
  rw [hL]
  clear hL
  unfold w_X9_sortOf at h
  refine zu_aload_n d_8220_0 rfl (zs_ra _) ?_
  refine zu_iload_n d_8220_1 rfl ?_
  obtain ⟨k1, h⟩ := h
  refine zc_8_564 (x0 := p1) hB rfl k1 d_8220_2 (Nat.le_of_ble_eq_true rfl) h (fun v3 S2 h => ?_)
  refine zu_ifeq (t := 16) d_8220_5 rfl (fun c4 => ?_) (fun c4 => ?_)
  · have h := h.1 c4
    refine zu_aload_n d_8220_16 rfl (zs_ra _) ?_
    obtain ⟨k5, h⟩ := h
    refine zg_8_90 rfl d_8220_17 k5 ?_
    refine zu_iload_n d_8220_20 rfl ?_
    obtain ⟨b6, e7, h⟩ := h
    refine zs_stk1 (zs_rfe e7) ?_
    obtain ⟨k8, h⟩ := h
    refine zu_bald (k := 1) d_8220_21 rfl (Or.inl rfl) k8 ?_
    refine zu_bipush d_8220_22 zj_6 ?_
    refine zu_cmpne (t := 44) d_8220_24 rfl (fun c9 => ?_) (fun c9 => ?_)
    · have h := h.1 c9
      refine zlw_8_1331 rfl d_8220_44 ?_
      refine zu_iload_n d_8220_47 rfl ?_
      refine zu_stk d_8220_48 rfl rfl ?_
      exact zu_iret d_8220_49 zr_8220 rfl h
    · have h := h.2 c9
      refine zlw_8_1330 rfl d_8220_27 ?_
      refine zu_aload_n d_8220_30 rfl (zs_ra _) ?_
      refine zu_aload_n d_8220_31 rfl (zs_ra _) ?_
      refine zg_8_93 rfl d_8220_32 k5 ?_
      refine zu_iload_n d_8220_35 rfl ?_
      obtain ⟨b10, e11, h⟩ := h
      refine zs_stk1 (zs_rfe e11) ?_
      obtain ⟨k12, h⟩ := h
      refine zu_iald (k := 0) d_8220_36 rfl rfl k12 ?_
      refine zc_8_561 (x0 := (zs_i S2 b10 p1.toNatClampNeg)) hB rfl k5 d_8220_37 (Nat.le_of_ble_eq_true rfl) h (fun v14 S13 h => ?_)
      refine zu_stk d_8220_40 rfl rfl ?_
      refine zu_goto (t := 49) d_8220_41 rfl ?_
      exact zu_iret d_8220_49 zr_8220 rfl h
  · have h := h.2 c4
    refine zu_aload_n d_8220_8 rfl (zs_ra _) ?_
    refine zu_iload_n d_8220_9 rfl ?_
    obtain ⟨k15, h⟩ := h
    refine zc_8_561 (x0 := p1) hB rfl k15 d_8220_10 (Nat.le_of_ble_eq_true rfl) h (fun v17 S16 h => ?_)
    refine zu_goto (t := 49) d_8220_13 rfl ?_
    exact zu_iret d_8220_49 zr_8220 rfl h
/-! SchemaPascalModel.define(IJI)V -/
theorem zm_8221 {σ : Nat → Nat} {n0 : Nat} {bf : ab_B} : ab_code (zx σ n0 bf).1 8221 = prog_17_method_227_code := rfl
theorem zq_8221 {σ : Nat → Nat} {n0 : Nat} {bf : ab_B} : ab_maxL (zx σ n0 bf).1 8221 = 5 := rfl
theorem zr_8221 {σ : Nat → Nat} {n0 : Nat} {bf : ab_B} : ab_ret (zx σ n0 bf).1 8221 = (Option.none : Option Jvm.ClassFile.FieldType) := rfl
theorem d_8221_0 {σ : Nat → Nat} {n0 : Nat} {bf : ab_B} : decode (ab_code (zx σ n0 bf).1 8221) 0 = .ok (.aload_n 0, 1) := zd zm_8221 (by decide +kernel)
theorem d_8221_1 {σ : Nat → Nat} {n0 : Nat} {bf : ab_B} : decode (ab_code (zx σ n0 bf).1 8221) 1 = .ok (.getfield 373, 3) := zd zm_8221 (by decide +kernel)
theorem d_8221_4 {σ : Nat → Nat} {n0 : Nat} {bf : ab_B} : decode (ab_code (zx σ n0 bf).1 8221) 4 = .ok (.iload_n 1, 1) := zd zm_8221 (by decide +kernel)
theorem d_8221_5 {σ : Nat → Nat} {n0 : Nat} {bf : ab_B} : decode (ab_code (zx σ n0 bf).1 8221) 5 = .ok (.lload_n 2, 1) := zd zm_8221 (by decide +kernel)
theorem d_8221_6 {σ : Nat → Nat} {n0 : Nat} {bf : ab_B} : decode (ab_code (zx σ n0 bf).1 8221) 6 = .ok (.lastore, 1) := zd zm_8221 (by decide +kernel)
theorem d_8221_7 {σ : Nat → Nat} {n0 : Nat} {bf : ab_B} : decode (ab_code (zx σ n0 bf).1 8221) 7 = .ok (.aload_n 0, 1) := zd zm_8221 (by decide +kernel)
theorem d_8221_8 {σ : Nat → Nat} {n0 : Nat} {bf : ab_B} : decode (ab_code (zx σ n0 bf).1 8221) 8 = .ok (.getfield 376, 3) := zd zm_8221 (by decide +kernel)
theorem d_8221_11 {σ : Nat → Nat} {n0 : Nat} {bf : ab_B} : decode (ab_code (zx σ n0 bf).1 8221) 11 = .ok (.iload_n 1, 1) := zd zm_8221 (by decide +kernel)
theorem d_8221_12 {σ : Nat → Nat} {n0 : Nat} {bf : ab_B} : decode (ab_code (zx σ n0 bf).1 8221) 12 = .ok (.iconst 1, 1) := zd zm_8221 (by decide +kernel)
theorem d_8221_13 {σ : Nat → Nat} {n0 : Nat} {bf : ab_B} : decode (ab_code (zx σ n0 bf).1 8221) 13 = .ok (.bastore, 1) := zd zm_8221 (by decide +kernel)
theorem d_8221_14 {σ : Nat → Nat} {n0 : Nat} {bf : ab_B} : decode (ab_code (zx σ n0 bf).1 8221) 14 = .ok (.aload_n 0, 1) := zd zm_8221 (by decide +kernel)
theorem d_8221_15 {σ : Nat → Nat} {n0 : Nat} {bf : ab_B} : decode (ab_code (zx σ n0 bf).1 8221) 15 = .ok (.getfield 379, 3) := zd zm_8221 (by decide +kernel)
theorem d_8221_18 {σ : Nat → Nat} {n0 : Nat} {bf : ab_B} : decode (ab_code (zx σ n0 bf).1 8221) 18 = .ok (.iload_n 1, 1) := zd zm_8221 (by decide +kernel)
theorem d_8221_19 {σ : Nat → Nat} {n0 : Nat} {bf : ab_B} : decode (ab_code (zx σ n0 bf).1 8221) 19 = .ok (.iload 4, 2) := zd zm_8221 (by decide +kernel)
theorem d_8221_21 {σ : Nat → Nat} {n0 : Nat} {bf : ab_B} : decode (ab_code (zx σ n0 bf).1 8221) 21 = .ok (.iastore, 1) := zd zm_8221 (by decide +kernel)
theorem d_8221_22 {σ : Nat → Nat} {n0 : Nat} {bf : ab_B} : decode (ab_code (zx σ n0 bf).1 8221) 22 = .ok (.return_, 1) := zd zm_8221 (by decide +kernel)
def w_X9_define (X : zs_X) (d : Nat) (p0 : Nat) (p1 : Int32) (p2 : Int64) (p4 : Int32) (S : zs_T) (Q : zs_Q) : Prop :=
  (zs_K S p0 = some (.inl 8) ∧ ∃ b2, (zs_R S 8170 p0) = some b2 ∧ zs_A S b2 3 p1 ∧ ab_n0 X.1 ≤ b2 ∧ ∀ S6, S6 = zs_sj S b2 p1.toNatClampNeg p2 → ∃ b9, (zs_R S6 8171 p0) = some b9 ∧ zs_A S b9 2 p1 ∧ ab_n0 X.1 ≤ b9 ∧ ∀ S13, S13 = zs_si S6 b9 p1.toNatClampNeg (vp_nar .boolean (1 : Int32)) → ∃ b16, (zs_R S13 8172 p0) = some b16 ∧ zs_A S b16 0 p1 ∧ ab_n0 X.1 ≤ b16 ∧ ∀ S20, S20 = zs_si S13 b16 p1.toNatClampNeg p4 → Q (.returned none) S20)
theorem u_X9_define {σ : Nat → Nat} {n0 : Nat} {bf : ab_B} {d : Nat} {p0 : Nat} {p1 : Int32} {p2 : Int64} {p4 : Int32} {S : zs_T} {Q : zs_Q} (hB : zt_B bf) (hd : 1 ≤ d) (h : w_X9_define (zx σ n0 bf) (d - 1) p0 p1 p2 p4 S Q) : zs_C (zx σ n0 bf) d 8221 [.ref p0, .int p1, .long p2, .int p4] S Q := by
  have hL : lv_args 0 [.ref p0, .int p1, .long p2, .int p4] = [(0, .ref p0), (1, .int p1), (2, .long p2), (4, .int p4)] := rfl
  refine zs_C.of1 (hB.2 8221 (by decide) (by decide)) hd (by rw [hL]; exact zs_sub_self _ (by exact ⟨rfl, rfl, rfl, rfl, trivial⟩)) ?_
  rw [hL]
  clear hL
  unfold w_X9_define at h
  refine zu_aload_n d_8221_0 rfl (zs_ra _) ?_
  obtain ⟨k1, h⟩ := h
  refine zg_8_373 rfl d_8221_1 k1 ?_
  refine zu_iload_n d_8221_4 rfl ?_
  refine zu_lload_n d_8221_5 rfl ?_
  obtain ⟨b2, e3, h⟩ := h
  refine zs_stk2 (zs_rfe e3) ?_
  obtain ⟨k4, h⟩ := h
  obtain ⟨k5, h⟩ := h
  refine zu_last (k := 3) d_8221_6 rfl rfl k5 k4 ?_
  generalize e7 : zs_sj S b2 p1.toNatClampNeg p2 = S6
  have h := h S6 e7.symm
  have K8 : ∀ b, zs_K S6 b = zs_K S b := zs_Kt e7 (zs_Ksj _ _ _ _) (fun _ => rfl)
  refine zu_aload_n d_8221_7 rfl (zs_ra _) ?_
  refine zg_8_376 rfl d_8221_8 ((K8 _).trans k1) ?_
  refine zu_iload_n d_8221_11 rfl ?_
  refine zu_iconst d_8221_12 zi_1 ?_
  obtain ⟨b9, e10, h⟩ := h
  refine zs_stk2 (zs_rfe e10) ?_
  obtain ⟨k11, h⟩ := h
  obtain ⟨k12, h⟩ := h
  refine zu_bast_bool (k := 2) d_8221_13 rfl rfl k12 (zs_Ak K8 k11) ?_
  generalize e14 : zs_si S6 b9 p1.toNatClampNeg (vp_nar .boolean (1 : Int32)) = S13
  have h := h S13 e14.symm
  have K15 : ∀ b, zs_K S13 b = zs_K S b := zs_Kt e14 (zs_Ksi _ _ _ _) K8
  refine zu_aload_n d_8221_14 rfl (zs_ra _) ?_
  refine zg_8_379 rfl d_8221_15 ((K15 _).trans k1) ?_
  refine zu_iload_n d_8221_18 rfl ?_
  refine zu_iload d_8221_19 rfl ?_
  obtain ⟨b16, e17, h⟩ := h
  refine zs_stk2 (zs_rfe e17) ?_
  obtain ⟨k18, h⟩ := h
  obtain ⟨k19, h⟩ := h
  refine zu_iast (k := 0) d_8221_21 rfl rfl k19 (zs_Ak K15 k18) ?_
  generalize e21 : zs_si S13 b16 p1.toNatClampNeg p4 = S20
  have h := h S20 e21.symm
  have K22 : ∀ b, zs_K S20 b = zs_K S b := zs_Kt e21 (zs_Ksi _ _ _ _) K15
  exact zu_vret d_8221_22 zr_8221 h
/-! SchemaPascalModel.giveText(IIIII)V -/
theorem zm_8222 {σ : Nat → Nat} {n0 : Nat} {bf : ab_B} : ab_code (zx σ n0 bf).1 8222 = prog_17_method_245_code := rfl
theorem zq_8222 {σ : Nat → Nat} {n0 : Nat} {bf : ab_B} : ab_maxL (zx σ n0 bf).1 8222 = 8 := rfl
theorem zr_8222 {σ : Nat → Nat} {n0 : Nat} {bf : ab_B} : ab_ret (zx σ n0 bf).1 8222 = (Option.none : Option Jvm.ClassFile.FieldType) := rfl
theorem d_8222_0 {σ : Nat → Nat} {n0 : Nat} {bf : ab_B} : decode (ab_code (zx σ n0 bf).1 8222) 0 = .ok (.aload_n 0, 1) := zd zm_8222 (by decide +kernel)
theorem d_8222_1 {σ : Nat → Nat} {n0 : Nat} {bf : ab_B} : decode (ab_code (zx σ n0 bf).1 8222) 1 = .ok (.invokevirtual 1368, 3) := zd zm_8222 (by decide +kernel)
theorem d_8222_4 {σ : Nat → Nat} {n0 : Nat} {bf : ab_B} : decode (ab_code (zx σ n0 bf).1 8222) 4 = .ok (.aload_n 0, 1) := zd zm_8222 (by decide +kernel)
theorem d_8222_5 {σ : Nat → Nat} {n0 : Nat} {bf : ab_B} : decode (ab_code (zx σ n0 bf).1 8222) 5 = .ok (.iload_n 1, 1) := zd zm_8222 (by decide +kernel)
theorem d_8222_6 {σ : Nat → Nat} {n0 : Nat} {bf : ab_B} : decode (ab_code (zx σ n0 bf).1 8222) 6 = .ok (.iload_n 2, 1) := zd zm_8222 (by decide +kernel)
theorem d_8222_7 {σ : Nat → Nat} {n0 : Nat} {bf : ab_B} : decode (ab_code (zx σ n0 bf).1 8222) 7 = .ok (.iload 5, 2) := zd zm_8222 (by decide +kernel)
theorem d_8222_9 {σ : Nat → Nat} {n0 : Nat} {bf : ab_B} : decode (ab_code (zx σ n0 bf).1 8222) 9 = .ok (.invokevirtual 1398, 3) := zd zm_8222 (by decide +kernel)
theorem d_8222_12 {σ : Nat → Nat} {n0 : Nat} {bf : ab_B} : decode (ab_code (zx σ n0 bf).1 8222) 12 = .ok (.ifCond .ne 4, 3) := zd zm_8222 (by decide +kernel)
theorem d_8222_15 {σ : Nat → Nat} {n0 : Nat} {bf : ab_B} : decode (ab_code (zx σ n0 bf).1 8222) 15 = .ok (.return_, 1) := zd zm_8222 (by decide +kernel)
theorem d_8222_16 {σ : Nat → Nat} {n0 : Nat} {bf : ab_B} : decode (ab_code (zx σ n0 bf).1 8222) 16 = .ok (.aload_n 0, 1) := zd zm_8222 (by decide +kernel)
theorem d_8222_17 {σ : Nat → Nat} {n0 : Nat} {bf : ab_B} : decode (ab_code (zx σ n0 bf).1 8222) 17 = .ok (.iload_n 3, 1) := zd zm_8222 (by decide +kernel)
theorem d_8222_18 {σ : Nat → Nat} {n0 : Nat} {bf : ab_B} : decode (ab_code (zx σ n0 bf).1 8222) 18 = .ok (.invokevirtual 1317, 3) := zd zm_8222 (by decide +kernel)
theorem d_8222_21 {σ : Nat → Nat} {n0 : Nat} {bf : ab_B} : decode (ab_code (zx σ n0 bf).1 8222) 21 = .ok (.istore 6, 2) := zd zm_8222 (by decide +kernel)
theorem d_8222_23 {σ : Nat → Nat} {n0 : Nat} {bf : ab_B} : decode (ab_code (zx σ n0 bf).1 8222) 23 = .ok (.iload 6, 2) := zd zm_8222 (by decide +kernel)
theorem d_8222_25 {σ : Nat → Nat} {n0 : Nat} {bf : ab_B} : decode (ab_code (zx σ n0 bf).1 8222) 25 = .ok (.i2l, 1) := zd zm_8222 (by decide +kernel)
theorem d_8222_26 {σ : Nat → Nat} {n0 : Nat} {bf : ab_B} : decode (ab_code (zx σ n0 bf).1 8222) 26 = .ok (.aload_n 0, 1) := zd zm_8222 (by decide +kernel)
theorem d_8222_27 {σ : Nat → Nat} {n0 : Nat} {bf : ab_B} : decode (ab_code (zx σ n0 bf).1 8222) 27 = .ok (.iload_n 2, 1) := zd zm_8222 (by decide +kernel)
theorem d_8222_28 {σ : Nat → Nat} {n0 : Nat} {bf : ab_B} : decode (ab_code (zx σ n0 bf).1 8222) 28 = .ok (.invokevirtual 795, 3) := zd zm_8222 (by decide +kernel)
theorem d_8222_31 {σ : Nat → Nat} {n0 : Nat} {bf : ab_B} : decode (ab_code (zx σ n0 bf).1 8222) 31 = .ok (.lcmp, 1) := zd zm_8222 (by decide +kernel)
theorem d_8222_32 {σ : Nat → Nat} {n0 : Nat} {bf : ab_B} : decode (ab_code (zx σ n0 bf).1 8222) 32 = .ok (.ifCond .le 11, 3) := zd zm_8222 (by decide +kernel)
theorem d_8222_35 {σ : Nat → Nat} {n0 : Nat} {bf : ab_B} : decode (ab_code (zx σ n0 bf).1 8222) 35 = .ok (.aload_n 0, 1) := zd zm_8222 (by decide +kernel)
theorem d_8222_36 {σ : Nat → Nat} {n0 : Nat} {bf : ab_B} : decode (ab_code (zx σ n0 bf).1 8222) 36 = .ok (.iconst 2, 1) := zd zm_8222 (by decide +kernel)
theorem d_8222_37 {σ : Nat → Nat} {n0 : Nat} {bf : ab_B} : decode (ab_code (zx σ n0 bf).1 8222) 37 = .ok (.iload 4, 2) := zd zm_8222 (by decide +kernel)
theorem d_8222_39 {σ : Nat → Nat} {n0 : Nat} {bf : ab_B} : decode (ab_code (zx σ n0 bf).1 8222) 39 = .ok (.invokevirtual 1297, 3) := zd zm_8222 (by decide +kernel)
theorem d_8222_42 {σ : Nat → Nat} {n0 : Nat} {bf : ab_B} : decode (ab_code (zx σ n0 bf).1 8222) 42 = .ok (.return_, 1) := zd zm_8222 (by decide +kernel)
theorem d_8222_43 {σ : Nat → Nat} {n0 : Nat} {bf : ab_B} : decode (ab_code (zx σ n0 bf).1 8222) 43 = .ok (.aload_n 0, 1) := zd zm_8222 (by decide +kernel)
theorem d_8222_44 {σ : Nat → Nat} {n0 : Nat} {bf : ab_B} : decode (ab_code (zx σ n0 bf).1 8222) 44 = .ok (.aload_n 0, 1) := zd zm_8222 (by decide +kernel)
theorem d_8222_45 {σ : Nat → Nat} {n0 : Nat} {bf : ab_B} : decode (ab_code (zx σ n0 bf).1 8222) 45 = .ok (.getfield 362, 3) := zd zm_8222 (by decide +kernel)
theorem d_8222_48 {σ : Nat → Nat} {n0 : Nat} {bf : ab_B} : decode (ab_code (zx σ n0 bf).1 8222) 48 = .ok (.iload_n 1, 1) := zd zm_8222 (by decide +kernel)
theorem d_8222_49 {σ : Nat → Nat} {n0 : Nat} {bf : ab_B} : decode (ab_code (zx σ n0 bf).1 8222) 49 = .ok (.iaload, 1) := zd zm_8222 (by decide +kernel)
theorem d_8222_50 {σ : Nat → Nat} {n0 : Nat} {bf : ab_B} : decode (ab_code (zx σ n0 bf).1 8222) 50 = .ok (.iload 6, 2) := zd zm_8222 (by decide +kernel)
theorem d_8222_52 {σ : Nat → Nat} {n0 : Nat} {bf : ab_B} : decode (ab_code (zx σ n0 bf).1 8222) 52 = .ok (.i2l, 1) := zd zm_8222 (by decide +kernel)
theorem d_8222_53 {σ : Nat → Nat} {n0 : Nat} {bf : ab_B} : decode (ab_code (zx σ n0 bf).1 8222) 53 = .ok (.ldc_w 1339, 3) := zd zm_8222 (by decide +kernel)
theorem d_8222_56 {σ : Nat → Nat} {n0 : Nat} {bf : ab_B} : decode (ab_code (zx σ n0 bf).1 8222) 56 = .ok (.invokevirtual 1341, 3) := zd zm_8222 (by decide +kernel)
theorem d_8222_59 {σ : Nat → Nat} {n0 : Nat} {bf : ab_B} : decode (ab_code (zx σ n0 bf).1 8222) 59 = .ok (.iconst 0, 1) := zd zm_8222 (by decide +kernel)
theorem d_8222_60 {σ : Nat → Nat} {n0 : Nat} {bf : ab_B} : decode (ab_code (zx σ n0 bf).1 8222) 60 = .ok (.istore 7, 2) := zd zm_8222 (by decide +kernel)
theorem d_8222_62 {σ : Nat → Nat} {n0 : Nat} {bf : ab_B} : decode (ab_code (zx σ n0 bf).1 8222) 62 = .ok (.iload 7, 2) := zd zm_8222 (by decide +kernel)
theorem d_8222_64 {σ : Nat → Nat} {n0 : Nat} {bf : ab_B} : decode (ab_code (zx σ n0 bf).1 8222) 64 = .ok (.iload 6, 2) := zd zm_8222 (by decide +kernel)
theorem d_8222_66 {σ : Nat → Nat} {n0 : Nat} {bf : ab_B} : decode (ab_code (zx σ n0 bf).1 8222) 66 = .ok (.if_icmp .ge 46, 3) := zd zm_8222 (by decide +kernel)
theorem d_8222_69 {σ : Nat → Nat} {n0 : Nat} {bf : ab_B} : decode (ab_code (zx σ n0 bf).1 8222) 69 = .ok (.aload_n 0, 1) := zd zm_8222 (by decide +kernel)
theorem d_8222_70 {σ : Nat → Nat} {n0 : Nat} {bf : ab_B} : decode (ab_code (zx σ n0 bf).1 8222) 70 = .ok (.aload_n 0, 1) := zd zm_8222 (by decide +kernel)
theorem d_8222_71 {σ : Nat → Nat} {n0 : Nat} {bf : ab_B} : decode (ab_code (zx σ n0 bf).1 8222) 71 = .ok (.getfield 362, 3) := zd zm_8222 (by decide +kernel)
theorem d_8222_74 {σ : Nat → Nat} {n0 : Nat} {bf : ab_B} : decode (ab_code (zx σ n0 bf).1 8222) 74 = .ok (.iload_n 1, 1) := zd zm_8222 (by decide +kernel)
theorem d_8222_75 {σ : Nat → Nat} {n0 : Nat} {bf : ab_B} : decode (ab_code (zx σ n0 bf).1 8222) 75 = .ok (.iaload, 1) := zd zm_8222 (by decide +kernel)
theorem d_8222_76 {σ : Nat → Nat} {n0 : Nat} {bf : ab_B} : decode (ab_code (zx σ n0 bf).1 8222) 76 = .ok (.iconst 1, 1) := zd zm_8222 (by decide +kernel)
theorem d_8222_77 {σ : Nat → Nat} {n0 : Nat} {bf : ab_B} : decode (ab_code (zx σ n0 bf).1 8222) 77 = .ok (.iadd, 1) := zd zm_8222 (by decide +kernel)
theorem d_8222_78 {σ : Nat → Nat} {n0 : Nat} {bf : ab_B} : decode (ab_code (zx σ n0 bf).1 8222) 78 = .ok (.iload 7, 2) := zd zm_8222 (by decide +kernel)
theorem d_8222_80 {σ : Nat → Nat} {n0 : Nat} {bf : ab_B} : decode (ab_code (zx σ n0 bf).1 8222) 80 = .ok (.iadd, 1) := zd zm_8222 (by decide +kernel)
theorem d_8222_81 {σ : Nat → Nat} {n0 : Nat} {bf : ab_B} : decode (ab_code (zx σ n0 bf).1 8222) 81 = .ok (.aload_n 0, 1) := zd zm_8222 (by decide +kernel)
theorem d_8222_82 {σ : Nat → Nat} {n0 : Nat} {bf : ab_B} : decode (ab_code (zx σ n0 bf).1 8222) 82 = .ok (.getfield 402, 3) := zd zm_8222 (by decide +kernel)
theorem d_8222_85 {σ : Nat → Nat} {n0 : Nat} {bf : ab_B} : decode (ab_code (zx σ n0 bf).1 8222) 85 = .ok (.aload_n 0, 1) := zd zm_8222 (by decide +kernel)
theorem d_8222_86 {σ : Nat → Nat} {n0 : Nat} {bf : ab_B} : decode (ab_code (zx σ n0 bf).1 8222) 86 = .ok (.getfield 405, 3) := zd zm_8222 (by decide +kernel)
theorem d_8222_89 {σ : Nat → Nat} {n0 : Nat} {bf : ab_B} : decode (ab_code (zx σ n0 bf).1 8222) 89 = .ok (.iload_n 3, 1) := zd zm_8222 (by decide +kernel)
theorem d_8222_90 {σ : Nat → Nat} {n0 : Nat} {bf : ab_B} : decode (ab_code (zx σ n0 bf).1 8222) 90 = .ok (.iaload, 1) := zd zm_8222 (by decide +kernel)
theorem d_8222_91 {σ : Nat → Nat} {n0 : Nat} {bf : ab_B} : decode (ab_code (zx σ n0 bf).1 8222) 91 = .ok (.iload 7, 2) := zd zm_8222 (by decide +kernel)
theorem d_8222_93 {σ : Nat → Nat} {n0 : Nat} {bf : ab_B} : decode (ab_code (zx σ n0 bf).1 8222) 93 = .ok (.iadd, 1) := zd zm_8222 (by decide +kernel)
theorem d_8222_94 {σ : Nat → Nat} {n0 : Nat} {bf : ab_B} : decode (ab_code (zx σ n0 bf).1 8222) 94 = .ok (.baload, 1) := zd zm_8222 (by decide +kernel)
theorem d_8222_95 {σ : Nat → Nat} {n0 : Nat} {bf : ab_B} : decode (ab_code (zx σ n0 bf).1 8222) 95 = .ok (.sipush 255, 3) := zd zm_8222 (by decide +kernel)
theorem d_8222_98 {σ : Nat → Nat} {n0 : Nat} {bf : ab_B} : decode (ab_code (zx σ n0 bf).1 8222) 98 = .ok (.iand, 1) := zd zm_8222 (by decide +kernel)
theorem d_8222_99 {σ : Nat → Nat} {n0 : Nat} {bf : ab_B} : decode (ab_code (zx σ n0 bf).1 8222) 99 = .ok (.i2l, 1) := zd zm_8222 (by decide +kernel)
theorem d_8222_100 {σ : Nat → Nat} {n0 : Nat} {bf : ab_B} : decode (ab_code (zx σ n0 bf).1 8222) 100 = .ok (.ldc_w 1340, 3) := zd zm_8222 (by decide +kernel)
theorem d_8222_103 {σ : Nat → Nat} {n0 : Nat} {bf : ab_B} : decode (ab_code (zx σ n0 bf).1 8222) 103 = .ok (.invokevirtual 1341, 3) := zd zm_8222 (by decide +kernel)
theorem d_8222_106 {σ : Nat → Nat} {n0 : Nat} {bf : ab_B} : decode (ab_code (zx σ n0 bf).1 8222) 106 = .ok (.iinc 7 1, 3) := zd zm_8222 (by decide +kernel)
theorem d_8222_109 {σ : Nat → Nat} {n0 : Nat} {bf : ab_B} : decode (ab_code (zx σ n0 bf).1 8222) 109 = .ok (.goto (-47), 3) := zd zm_8222 (by decide +kernel)
theorem d_8222_112 {σ : Nat → Nat} {n0 : Nat} {bf : ab_B} : decode (ab_code (zx σ n0 bf).1 8222) 112 = .ok (.return_, 1) := zd zm_8222 (by decide +kernel)
def w_X9_giveText_35 (X : zs_X) (d : Nat) (p0 : Nat) (p4 : Int32) (S : zs_T) (Q : zs_Q) : Prop :=
  (zs_K S p0 = some (.inl 8) ∧ zs_C X d 8208 [.ref p0, .int (2 : Int32), .int p4] S (zs_kV (fun S2 => (Q (.returned none) S2)) Q))
theorem u_X9_giveText_35 {σ : Nat → Nat} {n0 : Nat} {bf : ab_B} {d : Nat} {p0 : Nat} {p4 : Int32} {S : zs_T} {Q : zs_Q} (hB : zt_B bf) (h : w_X9_giveText_35 (zx σ n0 bf) d p0 p4 S Q) : zs_U (zx σ n0 bf) d 8222 35 [(0, .ref p0), (4, .int p4)] [] S Q := by
  unfold w_X9_giveText_35 at h
  refine zu_aload_n d_8222_35 rfl (zs_ra _) ?_
  refine zu_iconst d_8222_36 zi_2 ?_
  refine zu_iload d_8222_37 rfl ?_
  obtain ⟨k1, h⟩ := h
  refine zc_8_1297 (x0 := (2 : Int32)) (x1 := p4) hB rfl k1 d_8222_39 (Nat.le_of_ble_eq_true rfl) h (fun S2 h => ?_)
  exact zu_vret d_8222_42 zr_8222 h
def w_X9_giveText_43 (X : zs_X) (d : Nat) (p0 : Nat) (p1 : Int32) (p3 : Int32) (p6 : Int32) (S : zs_T) (Q : zs_Q) : Prop :=
  (zs_K S p0 = some (.inl 8) ∧ ∃ b2, (zs_R S 8167 p0) = some b2 ∧ zs_A S b2 0 p1 ∧ zs_C X d 8221 [.ref p0, .int (zs_i S b2 p1.toNatClampNeg), .long ((p6).toInt64), .int (300000 : Int32)] S (zs_kV (fun S5 => (zs_U X d 8222 62 [(0, .ref p0), (1, .int p1), (3, .int p3), (6, .int p6), (7, .int (0 : Int32))] [] S5 Q)) Q))
theorem u_X9_giveText_43 {σ : Nat → Nat} {n0 : Nat} {bf : ab_B} {d : Nat} {p0 : Nat} {p1 : Int32} {p3 : Int32} {p6 : Int32} {S : zs_T} {Q : zs_Q} (hB : zt_B bf) (h : w_X9_giveText_43 (zx σ n0 bf) d p0 p1 p3 p6 S Q) : zs_U (zx σ n0 bf) d 8222 43 [(0, .ref p0), (1, .int p1), (3, .int p3), (6, .int p6)] [] S Q := by
  unfold w_X9_giveText_43 at h
  refine zu_aload_n d_8222_43 rfl (zs_ra _) ?_
  refine zu_aload_n d_8222_44 rfl (zs_ra _) ?_
  obtain ⟨k1, h⟩ := h
  refine zg_8_362 rfl d_8222_45 k1 ?_
  refine zu_iload_n d_8222_48 rfl ?_
  obtain ⟨b2, e3, h⟩ := h
  refine zs_stk1 (zs_rfe e3) ?_
  obtain ⟨k4, h⟩ := h
  refine zu_iald (k := 0) d_8222_49 rfl rfl k4 ?_
  refine zu_iload d_8222_50 rfl ?_
  refine zu_stk d_8222_52 rfl rfl ?_
  refine zlw_8_1339 rfl d_8222_53 ?_
  refine zc_8_1341 (x0 := (zs_i S b2 p1.toNatClampNeg)) (x1 := ((p6).toInt64)) (x2 := (300000 : Int32)) hB rfl k1 d_8222_56 (Nat.le_of_ble_eq_true rfl) h (fun S5 h => ?_)
  refine zu_iconst d_8222_59 zi_0 ?_
  refine zu_istore d_8222_60 (zs_lt zq_8222 rfl) ?_
  exact h.weak ⟨rfl, rfl, rfl, rfl, rfl, trivial⟩
def w_X9_giveText_106 (X : zs_X) (d : Nat) (p0 : Nat) (p1 : Int32) (p3 : Int32) (p6 : Int32) (p7 : Int32) (S : zs_T) (Q : zs_Q) : Prop :=
  (zs_U X d 8222 62 [(0, .ref p0), (1, .int p1), (3, .int p3), (6, .int p6), (7, .int (p7 + (1 : Int32)))] [] S Q)
theorem u_X9_giveText_106 {σ : Nat → Nat} {n0 : Nat} {bf : ab_B} {d : Nat} {p0 : Nat} {p1 : Int32} {p3 : Int32} {p6 : Int32} {p7 : Int32} {S : zs_T} {Q : zs_Q} (hB : zt_B bf) (h : w_X9_giveText_106 (zx σ n0 bf) d p0 p1 p3 p6 p7 S Q) : zs_U (zx σ n0 bf) d 8222 106 [(0, .ref p0), (1, .int p1), (3, .int p3), (6, .int p6), (7, .int p7)] [] S Q := by
  unfold w_X9_giveText_106 at h
  refine zu_iinc d_8222_106 rfl zi_1 (zs_lt zq_8222 rfl) ?_
  refine zu_goto (t := 62) d_8222_109 rfl ?_
  exact h.weak ⟨rfl, rfl, rfl, rfl, rfl, trivial⟩
def w_X9_giveText_62 (X : zs_X) (d : Nat) (p0 : Nat) (p1 : Int32) (p3 : Int32) (p6 : Int32) (p7 : Int32) (S : zs_T) (Q : zs_Q) : Prop :=
  (((p6 ≤ p7 → (Q (.returned none) S)) ∧ (¬ (p6 ≤ p7) → (zs_K S p0 = some (.inl 8) ∧ ∃ b3, (zs_R S 8167 p0) = some b3 ∧ zs_A S b3 0 p1 ∧ ∃ b6, (zs_R S 8186 p0) = some b6 ∧ zs_A S b6 0 p3 ∧ ∃ b9, (zs_R S 8185 p0) = some b9 ∧ zs_A S b9 1 ((zs_i S b6 p3.toNatClampNeg) + p7) ∧ zs_C X d 8221 [.ref p0, .int (((zs_i S b3 p1.toNatClampNeg) + (1 : Int32)) + p7), .long ((((zs_i S b9 ((zs_i S b6 p3.toNatClampNeg) + p7).toNatClampNeg) &&& (255 : Int32))).toInt64), .int (300001 : Int32)] S (zs_kV (fun S12 => w_X9_giveText_106 X d p0 p1 p3 p6 p7 S12 Q) Q)))))
theorem u_X9_giveText_62 {σ : Nat → Nat} {n0 : Nat} {bf : ab_B} {d : Nat} {p0 : Nat} {p1 : Int32} {p3 : Int32} {p6 : Int32} {p7 : Int32} {S : zs_T} {Q : zs_Q} (hB : zt_B bf) (h : w_X9_giveText_62 (zx σ n0 bf) d p0 p1 p3 p6 p7 S Q) : zs_U (zx σ n0 bf) d 8222 62 [(0, .ref p0), (1, .int p1), (3, .int p3), (6, .int p6), (7, .int p7)] [] S Q := by
  unfold w_X9_giveText_62 at h
  refine zu_iload d_8222_62 rfl ?_
  refine zu_iload d_8222_64 rfl ?_
  refine zu_cmpge (t := 112) d_8222_66 rfl (fun c1 => ?_) (fun c1 => ?_)
  · have h := h.1 c1
    exact zu_vret d_8222_112 zr_8222 h
  · have h := h.2 c1
    refine zu_aload_n d_8222_69 rfl (zs_ra _) ?_
    refine zu_aload_n d_8222_70 rfl (zs_ra _) ?_
    obtain ⟨k2, h⟩ := h
    refine zg_8_362 rfl d_8222_71 k2 ?_
    refine zu_iload_n d_8222_74 rfl ?_
    obtain ⟨b3, e4, h⟩ := h
    refine zs_stk1 (zs_rfe e4) ?_
    obtain ⟨k5, h⟩ := h
    refine zu_iald (k := 0) d_8222_75 rfl rfl k5 ?_
    refine zu_iconst d_8222_76 zi_1 ?_
    refine zu_stk d_8222_77 rfl rfl ?_
    refine zu_iload d_8222_78 rfl ?_
    refine zu_stk d_8222_80 rfl rfl ?_
    refine zu_aload_n d_8222_81 rfl (zs_ra _) ?_
    refine zg_8_402 rfl d_8222_82 k2 ?_
    refine zu_aload_n d_8222_85 rfl (zs_ra _) ?_
    refine zg_8_405 rfl d_8222_86 k2 ?_
    refine zu_iload_n d_8222_89 rfl ?_
    obtain ⟨b6, e7, h⟩ := h
    refine zs_stk1 (zs_rfe e7) ?_
    obtain ⟨k8, h⟩ := h
    refine zu_iald (k := 0) d_8222_90 rfl rfl k8 ?_
    refine zu_iload d_8222_91 rfl ?_
    refine zu_stk d_8222_93 rfl rfl ?_
    obtain ⟨b9, e10, h⟩ := h
    refine zs_stk1 (zs_rfe e10) ?_
    obtain ⟨k11, h⟩ := h
    refine zu_bald (k := 1) d_8222_94 rfl (Or.inl rfl) k11 ?_
    refine zu_sipush d_8222_95 zh_255 ?_
    refine zu_stk d_8222_98 rfl rfl ?_
    refine zu_stk d_8222_99 rfl rfl ?_
    refine zlw_8_1340 rfl d_8222_100 ?_
    refine zc_8_1341 (x0 := (((zs_i S b3 p1.toNatClampNeg) + (1 : Int32)) + p7)) (x1 := ((((zs_i S b9 ((zs_i S b6 p3.toNatClampNeg) + p7).toNatClampNeg) &&& (255 : Int32))).toInt64)) (x2 := (300001 : Int32)) hB rfl k2 d_8222_103 (Nat.le_of_ble_eq_true rfl) h (fun S12 h => ?_)
    exact (u_X9_giveText_106 hB h).weak ⟨rfl, rfl, rfl, rfl, rfl, trivial⟩
def w_X9_giveText (X : zs_X) (d : Nat) (p0 : Nat) (p1 : Int32) (p2 : Int32) (p3 : Int32) (p4 : Int32) (p5 : Int32) (S : zs_T) (Q : zs_Q) : Prop :=
  (zs_K S p0 = some (.inl 8) ∧ zs_C X d 8214 [.ref p0] S (zs_kV (fun S2 => (zs_K S2 p0 = some (.inl 8) ∧ zs_C X d 8215 [.ref p0, .int p1, .int p2, .int p5] S2 (zs_kI (fun v6 S5 => (((¬ v6 = 0 → (zs_K S5 p0 = some (.inl 8) ∧ zs_C X d 8223 [.ref p0, .int p3] S5 (zs_kI (fun v10 S9 => (zs_K S9 p0 = some (.inl 8) ∧ zs_C X d 8122 [.ref p0, .int p2] S9 (zs_kJ (fun v13 S12 => (((((v10).toInt64) ≤ v13 → w_X9_giveText_43 X d p0 p1 p3 v10 S12 Q) ∧ (¬ (((v10).toInt64) ≤ v13) → w_X9_giveText_35 X d p0 p4 S12 Q)))) Q))) Q))) ∧ (¬ (¬ v6 = 0) → (Q (.returned none) S5))))) Q))) Q))
theorem u_X9_giveText {σ : Nat → Nat} {n0 : Nat} {bf : ab_B} {d : Nat} {p0 : Nat} {p1 : Int32} {p2 : Int32} {p3 : Int32} {p4 : Int32} {p5 : Int32} {S : zs_T} {Q : zs_Q} (hB : zt_B bf) (hd : 1 ≤ d) (h : w_X9_giveText (zx σ n0 bf) (d - 1) p0 p1 p2 p3 p4 p5 S Q) : zs_C (zx σ n0 bf) d 8222 [.ref p0, .int p1, .int p2, .int p3, .int p4, .int p5] S Q := by
  have hL : lv_args 0 [.ref p0, .int p1, .int p2, .int p3, .int p4, .int p5] = [(0, .ref p0), (1, .int p1), (2, .int p2), (3, .int p3), (4, .int p4), (5, .int p5)] := rfl
  refine zs_C.of1 (hB.2 8222 (by decide) (by decide)) hd (by rw [hL]; exact zs_sub_self _ (by exact ⟨rfl, rfl, rfl, rfl, rfl, rfl, trivial⟩)) ?_
  rw [hL]
  clear hL
  unfold w_X9_giveText at h
  refine zu_aload_n d_8222_0 rfl (zs_ra _) ?_
  obtain ⟨k1, h⟩ := h
  refine zc_8_1368  hB rfl k1 d_8222_1 (Nat.le_of_ble_eq_true rfl) h (fun S2 h => ?_)
  refine zu_aload_n d_8222_4 rfl (zs_ra _) ?_
  refine zu_iload_n d_8222_5 rfl ?_
  refine zu_iload_n d_8222_6 rfl ?_
  refine zu_iload d_8222_7 rfl ?_
  obtain ⟨k4, h⟩ := h
  refine zc_8_1398 (x0 := p1) (x1 := p2) (x2 := p5) hB rfl k4 d_8222_9 (Nat.le_of_ble_eq_true rfl) h (fun v6 S5 h => ?_)
  refine zu_ifne (t := 16) d_8222_12 rfl (fun c7 => ?_) (fun c7 => ?_)
  · have h := h.1 c7
    refine zu_aload_n d_8222_16 rfl (zs_ra _) ?_
    refine zu_iload_n d_8222_17 rfl ?_
    obtain ⟨k8, h⟩ := h
    refine zc_8_1317 (x0 := p3) hB rfl k8 d_8222_18 (Nat.le_of_ble_eq_true rfl) h (fun v10 S9 h => ?_)
    refine zu_istore d_8222_21 (zs_lt zq_8222 rfl) ?_
    refine zu_iload d_8222_23 rfl ?_
    refine zu_stk d_8222_25 rfl rfl ?_
    refine zu_aload_n d_8222_26 rfl (zs_ra _) ?_
    refine zu_iload_n d_8222_27 rfl ?_
    obtain ⟨k11, h⟩ := h
    refine zc_8_795 (x0 := p2) hB rfl k11 d_8222_28 (Nat.le_of_ble_eq_true rfl) h (fun v13 S12 h => ?_)
    refine zu_lle (t := 43) d_8222_31 d_8222_32 rfl (fun c14 => ?_) (fun c14 => ?_)
    · have h := h.1 c14
      exact (u_X9_giveText_43 hB h).weak ⟨rfl, rfl, rfl, rfl, trivial⟩
    · have h := h.2 c14
      exact (u_X9_giveText_35 hB h).weak ⟨rfl, rfl, trivial⟩
  · have h := h.2 c7
    exact zu_vret d_8222_15 zr_8222 h
/-! SchemaPascalModel.textLength(I)I -/
theorem zm_8223 {σ : Nat → Nat} {n0 : Nat} {bf : ab_B} : ab_code (zx σ n0 bf).1 8223 = prog_17_method_222_code := rfl
theorem zq_8223 {σ : Nat → Nat} {n0 : Nat} {bf : ab_B} : ab_maxL (zx σ n0 bf).1 8223 = 2 := rfl
theorem zr_8223 {σ : Nat → Nat} {n0 : Nat} {bf : ab_B} : ab_ret (zx σ n0 bf).1 8223 = (Option.some Jvm.ClassFile.FieldType.int) := rfl
theorem d_8223_0 {σ : Nat → Nat} {n0 : Nat} {bf : ab_B} : decode (ab_code (zx σ n0 bf).1 8223) 0 = .ok (.iload_n 1, 1) := zd zm_8223 (by decide +kernel)
theorem d_8223_1 {σ : Nat → Nat} {n0 : Nat} {bf : ab_B} : decode (ab_code (zx σ n0 bf).1 8223) 1 = .ok (.iconst 1, 1) := zd zm_8223 (by decide +kernel)
theorem d_8223_2 {σ : Nat → Nat} {n0 : Nat} {bf : ab_B} : decode (ab_code (zx σ n0 bf).1 8223) 2 = .ok (.iadd, 1) := zd zm_8223 (by decide +kernel)
theorem d_8223_3 {σ : Nat → Nat} {n0 : Nat} {bf : ab_B} : decode (ab_code (zx σ n0 bf).1 8223) 3 = .ok (.aload_n 0, 1) := zd zm_8223 (by decide +kernel)
theorem d_8223_4 {σ : Nat → Nat} {n0 : Nat} {bf : ab_B} : decode (ab_code (zx σ n0 bf).1 8223) 4 = .ok (.getfield 1264, 3) := zd zm_8223 (by decide +kernel)
theorem d_8223_7 {σ : Nat → Nat} {n0 : Nat} {bf : ab_B} : decode (ab_code (zx σ n0 bf).1 8223) 7 = .ok (.if_icmp .ge 14, 3) := zd zm_8223 (by decide +kernel)
theorem d_8223_10 {σ : Nat → Nat} {n0 : Nat} {bf : ab_B} : decode (ab_code (zx σ n0 bf).1 8223) 10 = .ok (.aload_n 0, 1) := zd zm_8223 (by decide +kernel)
theorem d_8223_11 {σ : Nat → Nat} {n0 : Nat} {bf : ab_B} : decode (ab_code (zx σ n0 bf).1 8223) 11 = .ok (.getfield 405, 3) := zd zm_8223 (by decide +kernel)
theorem d_8223_14 {σ : Nat → Nat} {n0 : Nat} {bf : ab_B} : decode (ab_code (zx σ n0 bf).1 8223) 14 = .ok (.iload_n 1, 1) := zd zm_8223 (by decide +kernel)
theorem d_8223_15 {σ : Nat → Nat} {n0 : Nat} {bf : ab_B} : decode (ab_code (zx σ n0 bf).1 8223) 15 = .ok (.iconst 1, 1) := zd zm_8223 (by decide +kernel)
theorem d_8223_16 {σ : Nat → Nat} {n0 : Nat} {bf : ab_B} : decode (ab_code (zx σ n0 bf).1 8223) 16 = .ok (.iadd, 1) := zd zm_8223 (by decide +kernel)
theorem d_8223_17 {σ : Nat → Nat} {n0 : Nat} {bf : ab_B} : decode (ab_code (zx σ n0 bf).1 8223) 17 = .ok (.iaload, 1) := zd zm_8223 (by decide +kernel)
theorem d_8223_18 {σ : Nat → Nat} {n0 : Nat} {bf : ab_B} : decode (ab_code (zx σ n0 bf).1 8223) 18 = .ok (.goto 7, 3) := zd zm_8223 (by decide +kernel)
theorem d_8223_21 {σ : Nat → Nat} {n0 : Nat} {bf : ab_B} : decode (ab_code (zx σ n0 bf).1 8223) 21 = .ok (.aload_n 0, 1) := zd zm_8223 (by decide +kernel)
theorem d_8223_22 {σ : Nat → Nat} {n0 : Nat} {bf : ab_B} : decode (ab_code (zx σ n0 bf).1 8223) 22 = .ok (.getfield 1267, 3) := zd zm_8223 (by decide +kernel)
theorem d_8223_25 {σ : Nat → Nat} {n0 : Nat} {bf : ab_B} : decode (ab_code (zx σ n0 bf).1 8223) 25 = .ok (.aload_n 0, 1) := zd zm_8223 (by decide +kernel)
theorem d_8223_26 {σ : Nat → Nat} {n0 : Nat} {bf : ab_B} : decode (ab_code (zx σ n0 bf).1 8223) 26 = .ok (.getfield 405, 3) := zd zm_8223 (by decide +kernel)
theorem d_8223_29 {σ : Nat → Nat} {n0 : Nat} {bf : ab_B} : decode (ab_code (zx σ n0 bf).1 8223) 29 = .ok (.iload_n 1, 1) := zd zm_8223 (by decide +kernel)
theorem d_8223_30 {σ : Nat → Nat} {n0 : Nat} {bf : ab_B} : decode (ab_code (zx σ n0 bf).1 8223) 30 = .ok (.iaload, 1) := zd zm_8223 (by decide +kernel)
theorem d_8223_31 {σ : Nat → Nat} {n0 : Nat} {bf : ab_B} : decode (ab_code (zx σ n0 bf).1 8223) 31 = .ok (.isub, 1) := zd zm_8223 (by decide +kernel)
theorem d_8223_32 {σ : Nat → Nat} {n0 : Nat} {bf : ab_B} : decode (ab_code (zx σ n0 bf).1 8223) 32 = .ok (.ireturn, 1) := zd zm_8223 (by decide +kernel)
def w_X9_textLength_25 (X : zs_X) (d : Nat) (p0 : Nat) (p1 : Int32) (q0 : Int32) (S : zs_T) (Q : zs_Q) : Prop :=
  (zs_K S p0 = some (.inl 8) ∧ ∃ b2, (zs_R S 8186 p0) = some b2 ∧ zs_A S b2 0 p1 ∧ Q (.returned (some (.int (q0 - (zs_i S b2 p1.toNatClampNeg))))) S)
theorem u_X9_textLength_25 {σ : Nat → Nat} {n0 : Nat} {bf : ab_B} {d : Nat} {p0 : Nat} {p1 : Int32} {q0 : Int32} {S : zs_T} {Q : zs_Q} (hB : zt_B bf) (h : w_X9_textLength_25 (zx σ n0 bf) d p0 p1 q0 S Q) : zs_U (zx σ n0 bf) d 8223 25 [(0, .ref p0), (1, .int p1)] [.int q0] S Q := by
  unfold w_X9_textLength_25 at h
  refine zu_aload_n d_8223_25 rfl (zs_ra _) ?_
  obtain ⟨k1, h⟩ := h
  refine zg_8_405 rfl d_8223_26 k1 ?_
  refine zu_iload_n d_8223_29 rfl ?_
  obtain ⟨b2, e3, h⟩ := h
  refine zs_stk1 (zs_rfe e3) ?_
  obtain ⟨k4, h⟩ := h
  refine zu_iald (k := 0) d_8223_30 rfl rfl k4 ?_
  refine zu_stk d_8223_31 rfl rfl ?_
  exact zu_iret d_8223_32 zr_8223 rfl h
def w_X9_textLength (X : zs_X) (d : Nat) (p0 : Nat) (p1 : Int32) (S : zs_T) (Q : zs_Q) : Prop :=
  (zs_K S p0 = some (.inl 8) ∧ (((zs_I S 8187 p0) ≤ (p1 + (1 : Int32)) → (w_X9_textLength_25 X d p0 p1 (zs_I S 8188 p0) S Q)) ∧ (¬ ((zs_I S 8187 p0) ≤ (p1 + (1 : Int32))) → (∃ b3, (zs_R S 8186 p0) = some b3 ∧ zs_A S b3 0 (p1 + (1 : Int32)) ∧ w_X9_textLength_25 X d p0 p1 (zs_i S b3 (p1 + (1 : Int32)).toNatClampNeg) S Q))))
theorem u_X9_textLength {σ : Nat → Nat} {n0 : Nat} {bf : ab_B} {d : Nat} {p0 : Nat} {p1 : Int32} {S : zs_T} {Q : zs_Q} (hB : zt_B bf) (hd : 1 ≤ d) (h : w_X9_textLength (zx σ n0 bf) (d - 1) p0 p1 S Q) : zs_C (zx σ n0 bf) d 8223 [.ref p0, .int p1] S Q := by
  have hL : lv_args 0 [.ref p0, .int p1] = [(0, .ref p0), (1, .int p1)] := rfl
  refine zs_C.of1 (hB.2 8223 (by decide) (by decide)) hd (by rw [hL]; exact zs_sub_self _ (by exact ⟨rfl, rfl, trivial⟩)) ?_
  rw [hL]
  clear hL
  unfold w_X9_textLength at h
  refine zu_iload_n d_8223_0 rfl ?_
  refine zu_iconst d_8223_1 zi_1 ?_
  refine zu_stk d_8223_2 rfl rfl ?_
  refine zu_aload_n d_8223_3 rfl (zs_ra _) ?_
  obtain ⟨k1, h⟩ := h
  refine zg_8_1264 rfl d_8223_4 k1 ?_
  refine zu_cmpge (t := 21) d_8223_7 rfl (fun c2 => ?_) (fun c2 => ?_)
  · have h := h.1 c2
    refine zu_aload_n d_8223_21 rfl (zs_ra _) ?_
    refine zg_8_1267 rfl d_8223_22 k1 ?_
    exact (u_X9_textLength_25 hB h).weak ⟨rfl, rfl, trivial⟩
  · have h := h.2 c2
    refine zu_aload_n d_8223_10 rfl (zs_ra _) ?_
    refine zg_8_405 rfl d_8223_11 k1 ?_
    refine zu_iload_n d_8223_14 rfl ?_
    refine zu_iconst d_8223_15 zi_1 ?_
    refine zu_stk d_8223_16 rfl rfl ?_
    obtain ⟨b3, e4, h⟩ := h
    refine zs_stk1 (zs_rfe e4) ?_
    obtain ⟨k5, h⟩ := h
    refine zu_iald (k := 0) d_8223_17 rfl rfl k5 ?_
    refine zu_goto (t := 25) d_8223_18 rfl ?_
    exact (u_X9_textLength_25 hB h).weak ⟨rfl, rfl, trivial⟩
/-! SchemaPascalModel.giveOther(IIIZII)V -/
theorem zm_8224 {σ : Nat → Nat} {n0 : Nat} {bf : ab_B} : ab_code (zx σ n0 bf).1 8224 = prog_17_method_246_code := rfl
theorem zq_8224 {σ : Nat → Nat} {n0 : Nat} {bf : ab_B} : ab_maxL (zx σ n0 bf).1 8224 = 10 := rfl
theorem zr_8224 {σ : Nat → Nat} {n0 : Nat} {bf : ab_B} : ab_ret (zx σ n0 bf).1 8224 = (Option.none : Option Jvm.ClassFile.FieldType) := rfl
theorem d_8224_0 {σ : Nat → Nat} {n0 : Nat} {bf : ab_B} : decode (ab_code (zx σ n0 bf).1 8224) 0 = .ok (.aload_n 0, 1) := zd zm_8224 (by decide +kernel)
theorem d_8224_1 {σ : Nat → Nat} {n0 : Nat} {bf : ab_B} : decode (ab_code (zx σ n0 bf).1 8224) 1 = .ok (.iload_n 2, 1) := zd zm_8224 (by decide +kernel)
theorem d_8224_2 {σ : Nat → Nat} {n0 : Nat} {bf : ab_B} : decode (ab_code (zx σ n0 bf).1 8224) 2 = .ok (.invokevirtual 727, 3) := zd zm_8224 (by decide +kernel)
theorem d_8224_5 {σ : Nat → Nat} {n0 : Nat} {bf : ab_B} : decode (ab_code (zx σ n0 bf).1 8224) 5 = .ok (.istore 7, 2) := zd zm_8224 (by decide +kernel)
theorem d_8224_7 {σ : Nat → Nat} {n0 : Nat} {bf : ab_B} : decode (ab_code (zx σ n0 bf).1 8224) 7 = .ok (.aload_n 0, 1) := zd zm_8224 (by decide +kernel)
theorem d_8224_8 {σ : Nat → Nat} {n0 : Nat} {bf : ab_B} : decode (ab_code (zx σ n0 bf).1 8224) 8 = .ok (.getfield 90, 3) := zd zm_8224 (by decide +kernel)
theorem d_8224_11 {σ : Nat → Nat} {n0 : Nat} {bf : ab_B} : decode (ab_code (zx σ n0 bf).1 8224) 11 = .ok (.iload_n 2, 1) := zd zm_8224 (by decide +kernel)
theorem d_8224_12 {σ : Nat → Nat} {n0 : Nat} {bf : ab_B} : decode (ab_code (zx σ n0 bf).1 8224) 12 = .ok (.baload, 1) := zd zm_8224 (by decide +kernel)
theorem d_8224_13 {σ : Nat → Nat} {n0 : Nat} {bf : ab_B} : decode (ab_code (zx σ n0 bf).1 8224) 13 = .ok (.bipush 11, 2) := zd zm_8224 (by decide +kernel)
theorem d_8224_15 {σ : Nat → Nat} {n0 : Nat} {bf : ab_B} : decode (ab_code (zx σ n0 bf).1 8224) 15 = .ok (.if_icmp .ne 11, 3) := zd zm_8224 (by decide +kernel)
theorem d_8224_18 {σ : Nat → Nat} {n0 : Nat} {bf : ab_B} : decode (ab_code (zx σ n0 bf).1 8224) 18 = .ok (.aload_n 0, 1) := zd zm_8224 (by decide +kernel)
theorem d_8224_19 {σ : Nat → Nat} {n0 : Nat} {bf : ab_B} : decode (ab_code (zx σ n0 bf).1 8224) 19 = .ok (.iload_n 2, 1) := zd zm_8224 (by decide +kernel)
theorem d_8224_20 {σ : Nat → Nat} {n0 : Nat} {bf : ab_B} : decode (ab_code (zx σ n0 bf).1 8224) 20 = .ok (.invokevirtual 1395, 3) := zd zm_8224 (by decide +kernel)
theorem d_8224_23 {σ : Nat → Nat} {n0 : Nat} {bf : ab_B} : decode (ab_code (zx σ n0 bf).1 8224) 23 = .ok (.goto 8, 3) := zd zm_8224 (by decide +kernel)
theorem d_8224_26 {σ : Nat → Nat} {n0 : Nat} {bf : ab_B} : decode (ab_code (zx σ n0 bf).1 8224) 26 = .ok (.aload_n 0, 1) := zd zm_8224 (by decide +kernel)
theorem d_8224_27 {σ : Nat → Nat} {n0 : Nat} {bf : ab_B} : decode (ab_code (zx σ n0 bf).1 8224) 27 = .ok (.iload_n 3, 1) := zd zm_8224 (by decide +kernel)
theorem d_8224_28 {σ : Nat → Nat} {n0 : Nat} {bf : ab_B} : decode (ab_code (zx σ n0 bf).1 8224) 28 = .ok (.invokevirtual 1291, 3) := zd zm_8224 (by decide +kernel)
theorem d_8224_31 {σ : Nat → Nat} {n0 : Nat} {bf : ab_B} : decode (ab_code (zx σ n0 bf).1 8224) 31 = .ok (.iload 4, 2) := zd zm_8224 (by decide +kernel)
theorem d_8224_33 {σ : Nat → Nat} {n0 : Nat} {bf : ab_B} : decode (ab_code (zx σ n0 bf).1 8224) 33 = .ok (.ifCond .eq 35, 3) := zd zm_8224 (by decide +kernel)
theorem d_8224_36 {σ : Nat → Nat} {n0 : Nat} {bf : ab_B} : decode (ab_code (zx σ n0 bf).1 8224) 36 = .ok (.aload_n 0, 1) := zd zm_8224 (by decide +kernel)
theorem d_8224_37 {σ : Nat → Nat} {n0 : Nat} {bf : ab_B} : decode (ab_code (zx σ n0 bf).1 8224) 37 = .ok (.iload_n 1, 1) := zd zm_8224 (by decide +kernel)
theorem d_8224_38 {σ : Nat → Nat} {n0 : Nat} {bf : ab_B} : decode (ab_code (zx σ n0 bf).1 8224) 38 = .ok (.aload_n 0, 1) := zd zm_8224 (by decide +kernel)
theorem d_8224_39 {σ : Nat → Nat} {n0 : Nat} {bf : ab_B} : decode (ab_code (zx σ n0 bf).1 8224) 39 = .ok (.getfield 90, 3) := zd zm_8224 (by decide +kernel)
theorem d_8224_42 {σ : Nat → Nat} {n0 : Nat} {bf : ab_B} : decode (ab_code (zx σ n0 bf).1 8224) 42 = .ok (.iload_n 2, 1) := zd zm_8224 (by decide +kernel)
theorem d_8224_43 {σ : Nat → Nat} {n0 : Nat} {bf : ab_B} : decode (ab_code (zx σ n0 bf).1 8224) 43 = .ok (.baload, 1) := zd zm_8224 (by decide +kernel)
theorem d_8224_44 {σ : Nat → Nat} {n0 : Nat} {bf : ab_B} : decode (ab_code (zx σ n0 bf).1 8224) 44 = .ok (.bipush 15, 2) := zd zm_8224 (by decide +kernel)
theorem d_8224_46 {σ : Nat → Nat} {n0 : Nat} {bf : ab_B} : decode (ab_code (zx σ n0 bf).1 8224) 46 = .ok (.if_icmp .ne 12, 3) := zd zm_8224 (by decide +kernel)
theorem d_8224_49 {σ : Nat → Nat} {n0 : Nat} {bf : ab_B} : decode (ab_code (zx σ n0 bf).1 8224) 49 = .ok (.aload_n 0, 1) := zd zm_8224 (by decide +kernel)
theorem d_8224_50 {σ : Nat → Nat} {n0 : Nat} {bf : ab_B} : decode (ab_code (zx σ n0 bf).1 8224) 50 = .ok (.getfield 412, 3) := zd zm_8224 (by decide +kernel)
theorem d_8224_53 {σ : Nat → Nat} {n0 : Nat} {bf : ab_B} : decode (ab_code (zx σ n0 bf).1 8224) 53 = .ok (.iload_n 3, 1) := zd zm_8224 (by decide +kernel)
theorem d_8224_54 {σ : Nat → Nat} {n0 : Nat} {bf : ab_B} : decode (ab_code (zx σ n0 bf).1 8224) 54 = .ok (.iaload, 1) := zd zm_8224 (by decide +kernel)
theorem d_8224_55 {σ : Nat → Nat} {n0 : Nat} {bf : ab_B} : decode (ab_code (zx σ n0 bf).1 8224) 55 = .ok (.goto 4, 3) := zd zm_8224 (by decide +kernel)
theorem d_8224_58 {σ : Nat → Nat} {n0 : Nat} {bf : ab_B} : decode (ab_code (zx σ n0 bf).1 8224) 58 = .ok (.iload_n 2, 1) := zd zm_8224 (by decide +kernel)
theorem d_8224_59 {σ : Nat → Nat} {n0 : Nat} {bf : ab_B} : decode (ab_code (zx σ n0 bf).1 8224) 59 = .ok (.iload 6, 2) := zd zm_8224 (by decide +kernel)
theorem d_8224_61 {σ : Nat → Nat} {n0 : Nat} {bf : ab_B} : decode (ab_code (zx σ n0 bf).1 8224) 61 = .ok (.invokevirtual 1398, 3) := zd zm_8224 (by decide +kernel)
theorem d_8224_64 {σ : Nat → Nat} {n0 : Nat} {bf : ab_B} : decode (ab_code (zx σ n0 bf).1 8224) 64 = .ok (.ifCond .ne 4, 3) := zd zm_8224 (by decide +kernel)
theorem d_8224_67 {σ : Nat → Nat} {n0 : Nat} {bf : ab_B} : decode (ab_code (zx σ n0 bf).1 8224) 67 = .ok (.return_, 1) := zd zm_8224 (by decide +kernel)
theorem d_8224_68 {σ : Nat → Nat} {n0 : Nat} {bf : ab_B} : decode (ab_code (zx σ n0 bf).1 8224) 68 = .ok (.aload_n 0, 1) := zd zm_8224 (by decide +kernel)
theorem d_8224_69 {σ : Nat → Nat} {n0 : Nat} {bf : ab_B} : decode (ab_code (zx σ n0 bf).1 8224) 69 = .ok (.getfield 90, 3) := zd zm_8224 (by decide +kernel)
theorem d_8224_72 {σ : Nat → Nat} {n0 : Nat} {bf : ab_B} : decode (ab_code (zx σ n0 bf).1 8224) 72 = .ok (.iload_n 2, 1) := zd zm_8224 (by decide +kernel)
theorem d_8224_73 {σ : Nat → Nat} {n0 : Nat} {bf : ab_B} : decode (ab_code (zx σ n0 bf).1 8224) 73 = .ok (.baload, 1) := zd zm_8224 (by decide +kernel)
theorem d_8224_74 {σ : Nat → Nat} {n0 : Nat} {bf : ab_B} : decode (ab_code (zx σ n0 bf).1 8224) 74 = .ok (.bipush 11, 2) := zd zm_8224 (by decide +kernel)
theorem d_8224_76 {σ : Nat → Nat} {n0 : Nat} {bf : ab_B} : decode (ab_code (zx σ n0 bf).1 8224) 76 = .ok (.if_icmp .ne 79, 3) := zd zm_8224 (by decide +kernel)
theorem d_8224_79 {σ : Nat → Nat} {n0 : Nat} {bf : ab_B} : decode (ab_code (zx σ n0 bf).1 8224) 79 = .ok (.aload_n 0, 1) := zd zm_8224 (by decide +kernel)
theorem d_8224_80 {σ : Nat → Nat} {n0 : Nat} {bf : ab_B} : decode (ab_code (zx σ n0 bf).1 8224) 80 = .ok (.iload_n 2, 1) := zd zm_8224 (by decide +kernel)
theorem d_8224_81 {σ : Nat → Nat} {n0 : Nat} {bf : ab_B} : decode (ab_code (zx σ n0 bf).1 8224) 81 = .ok (.invokevirtual 1395, 3) := zd zm_8224 (by decide +kernel)
theorem d_8224_84 {σ : Nat → Nat} {n0 : Nat} {bf : ab_B} : decode (ab_code (zx σ n0 bf).1 8224) 84 = .ok (.iconst 1, 1) := zd zm_8224 (by decide +kernel)
theorem d_8224_85 {σ : Nat → Nat} {n0 : Nat} {bf : ab_B} : decode (ab_code (zx σ n0 bf).1 8224) 85 = .ok (.istore 8, 2) := zd zm_8224 (by decide +kernel)
theorem d_8224_87 {σ : Nat → Nat} {n0 : Nat} {bf : ab_B} : decode (ab_code (zx σ n0 bf).1 8224) 87 = .ok (.iconst 0, 1) := zd zm_8224 (by decide +kernel)
theorem d_8224_88 {σ : Nat → Nat} {n0 : Nat} {bf : ab_B} : decode (ab_code (zx σ n0 bf).1 8224) 88 = .ok (.istore 9, 2) := zd zm_8224 (by decide +kernel)
theorem d_8224_90 {σ : Nat → Nat} {n0 : Nat} {bf : ab_B} : decode (ab_code (zx σ n0 bf).1 8224) 90 = .ok (.iload 9, 2) := zd zm_8224 (by decide +kernel)
theorem d_8224_92 {σ : Nat → Nat} {n0 : Nat} {bf : ab_B} : decode (ab_code (zx σ n0 bf).1 8224) 92 = .ok (.aload_n 0, 1) := zd zm_8224 (by decide +kernel)
theorem d_8224_93 {σ : Nat → Nat} {n0 : Nat} {bf : ab_B} : decode (ab_code (zx σ n0 bf).1 8224) 93 = .ok (.getfield 127, 3) := zd zm_8224 (by decide +kernel)
theorem d_8224_96 {σ : Nat → Nat} {n0 : Nat} {bf : ab_B} : decode (ab_code (zx σ n0 bf).1 8224) 96 = .ok (.iload 7, 2) := zd zm_8224 (by decide +kernel)
theorem d_8224_98 {σ : Nat → Nat} {n0 : Nat} {bf : ab_B} : decode (ab_code (zx σ n0 bf).1 8224) 98 = .ok (.baload, 1) := zd zm_8224 (by decide +kernel)
theorem d_8224_99 {σ : Nat → Nat} {n0 : Nat} {bf : ab_B} : decode (ab_code (zx σ n0 bf).1 8224) 99 = .ok (.if_icmp .ge 42, 3) := zd zm_8224 (by decide +kernel)
theorem d_8224_102 {σ : Nat → Nat} {n0 : Nat} {bf : ab_B} : decode (ab_code (zx σ n0 bf).1 8224) 102 = .ok (.iload 8, 2) := zd zm_8224 (by decide +kernel)
theorem d_8224_104 {σ : Nat → Nat} {n0 : Nat} {bf : ab_B} : decode (ab_code (zx σ n0 bf).1 8224) 104 = .ok (.ifCond .eq 28, 3) := zd zm_8224 (by decide +kernel)
theorem d_8224_107 {σ : Nat → Nat} {n0 : Nat} {bf : ab_B} : decode (ab_code (zx σ n0 bf).1 8224) 107 = .ok (.aload_n 0, 1) := zd zm_8224 (by decide +kernel)
theorem d_8224_108 {σ : Nat → Nat} {n0 : Nat} {bf : ab_B} : decode (ab_code (zx σ n0 bf).1 8224) 108 = .ok (.iload 9, 2) := zd zm_8224 (by decide +kernel)
theorem d_8224_110 {σ : Nat → Nat} {n0 : Nat} {bf : ab_B} : decode (ab_code (zx σ n0 bf).1 8224) 110 = .ok (.invokevirtual 627, 3) := zd zm_8224 (by decide +kernel)
theorem d_8224_113 {σ : Nat → Nat} {n0 : Nat} {bf : ab_B} : decode (ab_code (zx σ n0 bf).1 8224) 113 = .ok (.aload_n 0, 1) := zd zm_8224 (by decide +kernel)
theorem d_8224_114 {σ : Nat → Nat} {n0 : Nat} {bf : ab_B} : decode (ab_code (zx σ n0 bf).1 8224) 114 = .ok (.getfield 416, 3) := zd zm_8224 (by decide +kernel)
theorem d_8224_117 {σ : Nat → Nat} {n0 : Nat} {bf : ab_B} : decode (ab_code (zx σ n0 bf).1 8224) 117 = .ok (.iconst 4, 1) := zd zm_8224 (by decide +kernel)
theorem d_8224_118 {σ : Nat → Nat} {n0 : Nat} {bf : ab_B} : decode (ab_code (zx σ n0 bf).1 8224) 118 = .ok (.iload_n 3, 1) := zd zm_8224 (by decide +kernel)
theorem d_8224_119 {σ : Nat → Nat} {n0 : Nat} {bf : ab_B} : decode (ab_code (zx σ n0 bf).1 8224) 119 = .ok (.imul, 1) := zd zm_8224 (by decide +kernel)
theorem d_8224_120 {σ : Nat → Nat} {n0 : Nat} {bf : ab_B} : decode (ab_code (zx σ n0 bf).1 8224) 120 = .ok (.iload 9, 2) := zd zm_8224 (by decide +kernel)
theorem d_8224_122 {σ : Nat → Nat} {n0 : Nat} {bf : ab_B} : decode (ab_code (zx σ n0 bf).1 8224) 122 = .ok (.iadd, 1) := zd zm_8224 (by decide +kernel)
theorem d_8224_123 {σ : Nat → Nat} {n0 : Nat} {bf : ab_B} : decode (ab_code (zx σ n0 bf).1 8224) 123 = .ok (.laload, 1) := zd zm_8224 (by decide +kernel)
theorem d_8224_124 {σ : Nat → Nat} {n0 : Nat} {bf : ab_B} : decode (ab_code (zx σ n0 bf).1 8224) 124 = .ok (.lcmp, 1) := zd zm_8224 (by decide +kernel)
theorem d_8224_125 {σ : Nat → Nat} {n0 : Nat} {bf : ab_B} : decode (ab_code (zx σ n0 bf).1 8224) 125 = .ok (.ifCond .ne 7, 3) := zd zm_8224 (by decide +kernel)
theorem d_8224_128 {σ : Nat → Nat} {n0 : Nat} {bf : ab_B} : decode (ab_code (zx σ n0 bf).1 8224) 128 = .ok (.iconst 1, 1) := zd zm_8224 (by decide +kernel)
theorem d_8224_129 {σ : Nat → Nat} {n0 : Nat} {bf : ab_B} : decode (ab_code (zx σ n0 bf).1 8224) 129 = .ok (.goto 4, 3) := zd zm_8224 (by decide +kernel)
theorem d_8224_132 {σ : Nat → Nat} {n0 : Nat} {bf : ab_B} : decode (ab_code (zx σ n0 bf).1 8224) 132 = .ok (.iconst 0, 1) := zd zm_8224 (by decide +kernel)
theorem d_8224_133 {σ : Nat → Nat} {n0 : Nat} {bf : ab_B} : decode (ab_code (zx σ n0 bf).1 8224) 133 = .ok (.istore 8, 2) := zd zm_8224 (by decide +kernel)
theorem d_8224_135 {σ : Nat → Nat} {n0 : Nat} {bf : ab_B} : decode (ab_code (zx σ n0 bf).1 8224) 135 = .ok (.iinc 9 1, 3) := zd zm_8224 (by decide +kernel)
theorem d_8224_138 {σ : Nat → Nat} {n0 : Nat} {bf : ab_B} : decode (ab_code (zx σ n0 bf).1 8224) 138 = .ok (.goto (-48), 3) := zd zm_8224 (by decide +kernel)
theorem d_8224_141 {σ : Nat → Nat} {n0 : Nat} {bf : ab_B} : decode (ab_code (zx σ n0 bf).1 8224) 141 = .ok (.iload 8, 2) := zd zm_8224 (by decide +kernel)
theorem d_8224_143 {σ : Nat → Nat} {n0 : Nat} {bf : ab_B} : decode (ab_code (zx σ n0 bf).1 8224) 143 = .ok (.ifCond .ne 12, 3) := zd zm_8224 (by decide +kernel)
theorem d_8224_146 {σ : Nat → Nat} {n0 : Nat} {bf : ab_B} : decode (ab_code (zx σ n0 bf).1 8224) 146 = .ok (.aload_n 0, 1) := zd zm_8224 (by decide +kernel)
theorem d_8224_147 {σ : Nat → Nat} {n0 : Nat} {bf : ab_B} : decode (ab_code (zx σ n0 bf).1 8224) 147 = .ok (.bipush 9, 2) := zd zm_8224 (by decide +kernel)
theorem d_8224_149 {σ : Nat → Nat} {n0 : Nat} {bf : ab_B} : decode (ab_code (zx σ n0 bf).1 8224) 149 = .ok (.iload 5, 2) := zd zm_8224 (by decide +kernel)
theorem d_8224_151 {σ : Nat → Nat} {n0 : Nat} {bf : ab_B} : decode (ab_code (zx σ n0 bf).1 8224) 151 = .ok (.invokevirtual 1297, 3) := zd zm_8224 (by decide +kernel)
theorem d_8224_154 {σ : Nat → Nat} {n0 : Nat} {bf : ab_B} : decode (ab_code (zx σ n0 bf).1 8224) 154 = .ok (.return_, 1) := zd zm_8224 (by decide +kernel)
theorem d_8224_155 {σ : Nat → Nat} {n0 : Nat} {bf : ab_B} : decode (ab_code (zx σ n0 bf).1 8224) 155 = .ok (.aload_n 0, 1) := zd zm_8224 (by decide +kernel)
theorem d_8224_156 {σ : Nat → Nat} {n0 : Nat} {bf : ab_B} : decode (ab_code (zx σ n0 bf).1 8224) 156 = .ok (.iload_n 3, 1) := zd zm_8224 (by decide +kernel)
theorem d_8224_157 {σ : Nat → Nat} {n0 : Nat} {bf : ab_B} : decode (ab_code (zx σ n0 bf).1 8224) 157 = .ok (.invokevirtual 1291, 3) := zd zm_8224 (by decide +kernel)
theorem d_8224_160 {σ : Nat → Nat} {n0 : Nat} {bf : ab_B} : decode (ab_code (zx σ n0 bf).1 8224) 160 = .ok (.iload 4, 2) := zd zm_8224 (by decide +kernel)
theorem d_8224_162 {σ : Nat → Nat} {n0 : Nat} {bf : ab_B} : decode (ab_code (zx σ n0 bf).1 8224) 162 = .ok (.ifCond .eq 32, 3) := zd zm_8224 (by decide +kernel)
theorem d_8224_165 {σ : Nat → Nat} {n0 : Nat} {bf : ab_B} : decode (ab_code (zx σ n0 bf).1 8224) 165 = .ok (.aload_n 0, 1) := zd zm_8224 (by decide +kernel)
theorem d_8224_166 {σ : Nat → Nat} {n0 : Nat} {bf : ab_B} : decode (ab_code (zx σ n0 bf).1 8224) 166 = .ok (.aload_n 0, 1) := zd zm_8224 (by decide +kernel)
theorem d_8224_167 {σ : Nat → Nat} {n0 : Nat} {bf : ab_B} : decode (ab_code (zx σ n0 bf).1 8224) 167 = .ok (.getfield 409, 3) := zd zm_8224 (by decide +kernel)
theorem d_8224_170 {σ : Nat → Nat} {n0 : Nat} {bf : ab_B} : decode (ab_code (zx σ n0 bf).1 8224) 170 = .ok (.iload_n 3, 1) := zd zm_8224 (by decide +kernel)
theorem d_8224_171 {σ : Nat → Nat} {n0 : Nat} {bf : ab_B} : decode (ab_code (zx σ n0 bf).1 8224) 171 = .ok (.iaload, 1) := zd zm_8224 (by decide +kernel)
theorem d_8224_172 {σ : Nat → Nat} {n0 : Nat} {bf : ab_B} : decode (ab_code (zx σ n0 bf).1 8224) 172 = .ok (.aload_n 0, 1) := zd zm_8224 (by decide +kernel)
theorem d_8224_173 {σ : Nat → Nat} {n0 : Nat} {bf : ab_B} : decode (ab_code (zx σ n0 bf).1 8224) 173 = .ok (.getfield 362, 3) := zd zm_8224 (by decide +kernel)
theorem d_8224_176 {σ : Nat → Nat} {n0 : Nat} {bf : ab_B} : decode (ab_code (zx σ n0 bf).1 8224) 176 = .ok (.iload_n 1, 1) := zd zm_8224 (by decide +kernel)
theorem d_8224_177 {σ : Nat → Nat} {n0 : Nat} {bf : ab_B} : decode (ab_code (zx σ n0 bf).1 8224) 177 = .ok (.iaload, 1) := zd zm_8224 (by decide +kernel)
theorem d_8224_178 {σ : Nat → Nat} {n0 : Nat} {bf : ab_B} : decode (ab_code (zx σ n0 bf).1 8224) 178 = .ok (.aload_n 0, 1) := zd zm_8224 (by decide +kernel)
theorem d_8224_179 {σ : Nat → Nat} {n0 : Nat} {bf : ab_B} : decode (ab_code (zx σ n0 bf).1 8224) 179 = .ok (.aload_n 0, 1) := zd zm_8224 (by decide +kernel)
theorem d_8224_180 {σ : Nat → Nat} {n0 : Nat} {bf : ab_B} : decode (ab_code (zx σ n0 bf).1 8224) 180 = .ok (.getfield 412, 3) := zd zm_8224 (by decide +kernel)
theorem d_8224_183 {σ : Nat → Nat} {n0 : Nat} {bf : ab_B} : decode (ab_code (zx σ n0 bf).1 8224) 183 = .ok (.iload_n 3, 1) := zd zm_8224 (by decide +kernel)
theorem d_8224_184 {σ : Nat → Nat} {n0 : Nat} {bf : ab_B} : decode (ab_code (zx σ n0 bf).1 8224) 184 = .ok (.iaload, 1) := zd zm_8224 (by decide +kernel)
theorem d_8224_185 {σ : Nat → Nat} {n0 : Nat} {bf : ab_B} : decode (ab_code (zx σ n0 bf).1 8224) 185 = .ok (.invokevirtual 1356, 3) := zd zm_8224 (by decide +kernel)
theorem d_8224_188 {σ : Nat → Nat} {n0 : Nat} {bf : ab_B} : decode (ab_code (zx σ n0 bf).1 8224) 188 = .ok (.invokevirtual 1359, 3) := zd zm_8224 (by decide +kernel)
theorem d_8224_191 {σ : Nat → Nat} {n0 : Nat} {bf : ab_B} : decode (ab_code (zx σ n0 bf).1 8224) 191 = .ok (.goto 20, 3) := zd zm_8224 (by decide +kernel)
theorem d_8224_194 {σ : Nat → Nat} {n0 : Nat} {bf : ab_B} : decode (ab_code (zx σ n0 bf).1 8224) 194 = .ok (.aload_n 0, 1) := zd zm_8224 (by decide +kernel)
theorem d_8224_195 {σ : Nat → Nat} {n0 : Nat} {bf : ab_B} : decode (ab_code (zx σ n0 bf).1 8224) 195 = .ok (.iload_n 1, 1) := zd zm_8224 (by decide +kernel)
theorem d_8224_196 {σ : Nat → Nat} {n0 : Nat} {bf : ab_B} : decode (ab_code (zx σ n0 bf).1 8224) 196 = .ok (.aload_n 0, 1) := zd zm_8224 (by decide +kernel)
theorem d_8224_197 {σ : Nat → Nat} {n0 : Nat} {bf : ab_B} : decode (ab_code (zx σ n0 bf).1 8224) 197 = .ok (.getfield 409, 3) := zd zm_8224 (by decide +kernel)
theorem d_8224_200 {σ : Nat → Nat} {n0 : Nat} {bf : ab_B} : decode (ab_code (zx σ n0 bf).1 8224) 200 = .ok (.iload_n 3, 1) := zd zm_8224 (by decide +kernel)
theorem d_8224_201 {σ : Nat → Nat} {n0 : Nat} {bf : ab_B} : decode (ab_code (zx σ n0 bf).1 8224) 201 = .ok (.iaload, 1) := zd zm_8224 (by decide +kernel)
theorem d_8224_202 {σ : Nat → Nat} {n0 : Nat} {bf : ab_B} : decode (ab_code (zx σ n0 bf).1 8224) 202 = .ok (.aload_n 0, 1) := zd zm_8224 (by decide +kernel)
theorem d_8224_203 {σ : Nat → Nat} {n0 : Nat} {bf : ab_B} : decode (ab_code (zx σ n0 bf).1 8224) 203 = .ok (.getfield 412, 3) := zd zm_8224 (by decide +kernel)
theorem d_8224_206 {σ : Nat → Nat} {n0 : Nat} {bf : ab_B} : decode (ab_code (zx σ n0 bf).1 8224) 206 = .ok (.iload_n 3, 1) := zd zm_8224 (by decide +kernel)
theorem d_8224_207 {σ : Nat → Nat} {n0 : Nat} {bf : ab_B} : decode (ab_code (zx σ n0 bf).1 8224) 207 = .ok (.iaload, 1) := zd zm_8224 (by decide +kernel)
theorem d_8224_208 {σ : Nat → Nat} {n0 : Nat} {bf : ab_B} : decode (ab_code (zx σ n0 bf).1 8224) 208 = .ok (.invokevirtual 1365, 3) := zd zm_8224 (by decide +kernel)
theorem d_8224_211 {σ : Nat → Nat} {n0 : Nat} {bf : ab_B} : decode (ab_code (zx σ n0 bf).1 8224) 211 = .ok (.return_, 1) := zd zm_8224 (by decide +kernel)
def w_X9_giveOther_211 (X : zs_X) (d : Nat)  (S : zs_T) (Q : zs_Q) : Prop :=
  (Q (.returned none) S)
theorem u_X9_giveOther_211 {σ : Nat → Nat} {n0 : Nat} {bf : ab_B} {d : Nat}  {S : zs_T} {Q : zs_Q} (hB : zt_B bf) (h : w_X9_giveOther_211 (zx σ n0 bf) d  S Q) : zs_U (zx σ n0 bf) d 8224 211 [] [] S Q := by
  unfold w_X9_giveOther_211 at h
  exact zu_vret d_8224_211 zr_8224 h
def w_X9_giveOther_191 (X : zs_X) (d : Nat)  (S : zs_T) (Q : zs_Q) : Prop :=
  (w_X9_giveOther_211 X d  S Q)
theorem u_X9_giveOther_191 {σ : Nat → Nat} {n0 : Nat} {bf : ab_B} {d : Nat}  {S : zs_T} {Q : zs_Q} (hB : zt_B bf) (h : w_X9_giveOther_191 (zx σ n0 bf) d  S Q) : zs_U (zx σ n0 bf) d 8224 191 [] [] S Q := by
  unfold w_X9_giveOther_191 at h
  refine zu_goto (t := 211) d_8224_191 rfl ?_
  exact (u_X9_giveOther_211 hB h).weak trivial
def w_X9_giveOther_155 (X : zs_X) (d : Nat) (p0 : Nat) (p1 : Int32) (p3 : Int32) (p4 : Int32) (S : zs_T) (Q : zs_Q) : Prop :=
  (zs_K S p0 = some (.inl 8) ∧ zs_C X d 8226 [.ref p0, .int p3] S (zs_kV (fun S2 => (((p4 = 0 → (zs_K S2 p0 = some (.inl 8) ∧ ∃ b6, (zs_R S2 8189 p0) = some b6 ∧ zs_A S2 b6 0 p3 ∧ ∃ b9, (zs_R S2 8190 p0) = some b9 ∧ zs_A S2 b9 0 p3 ∧ zs_C X d 8217 [.ref p0, .int p1, .int (zs_i S2 b6 p3.toNatClampNeg), .int (zs_i S2 b9 p3.toNatClampNeg)] S2 (zs_kV (fun S12 => w_X9_giveOther_211 X d  S12 Q) Q))) ∧ (¬ (p4 = 0) → (zs_K S2 p0 = some (.inl 8) ∧ ∃ b15, (zs_R S2 8189 p0) = some b15 ∧ zs_A S2 b15 0 p3 ∧ ∃ b18, (zs_R S2 8167 p0) = some b18 ∧ zs_A S2 b18 0 p1 ∧ ∃ b21, (zs_R S2 8190 p0) = some b21 ∧ zs_A S2 b21 0 p3 ∧ zs_C X d 8216 [.ref p0, .int (zs_i S2 b21 p3.toNatClampNeg)] S2 (zs_kI (fun v25 S24 => (zs_K S24 p0 = some (.inl 8) ∧ zs_C X d 8227 [.ref p0, .int (zs_i S2 b15 p3.toNatClampNeg), .int (zs_i S2 b18 p1.toNatClampNeg), .int v25] S24 (zs_kV (fun S27 => w_X9_giveOther_191 X d  S27 Q) Q))) Q)))))) Q))
theorem u_X9_giveOther_155 {σ : Nat → Nat} {n0 : Nat} {bf : ab_B} {d : Nat} {p0 : Nat} {p1 : Int32} {p3 : Int32} {p4 : Int32} {S : zs_T} {Q : zs_Q} (hB : zt_B bf) (h : w_X9_giveOther_155 (zx σ n0 bf) d p0 p1 p3 p4 S Q) : zs_U (zx σ n0 bf) d 8224 155 [(0, .ref p0), (1, .int p1), (3, .int p3), (4, .int p4)] [] S Q := by
  unfold w_X9_giveOther_155 at h
  refine zu_aload_n d_8224_155 rfl (zs_ra _) ?_
  refine zu_iload_n d_8224_156 rfl ?_
  obtain ⟨k1, h⟩ := h
  refine zc_8_1291 (x0 := p3) hB rfl k1 d_8224_157 (Nat.le_of_ble_eq_true rfl) h (fun S2 h => ?_)
  refine zu_iload d_8224_160 rfl ?_
  refine zu_ifeq (t := 194) d_8224_162 rfl (fun c4 => ?_) (fun c4 => ?_)
  · have h := h.1 c4
    refine zu_aload_n d_8224_194 rfl (zs_ra _) ?_
    refine zu_iload_n d_8224_195 rfl ?_
    refine zu_aload_n d_8224_196 rfl (zs_ra _) ?_
    obtain ⟨k5, h⟩ := h
    refine zg_8_409 rfl d_8224_197 k5 ?_
    refine zu_iload_n d_8224_200 rfl ?_
    obtain ⟨b6, e7, h⟩ := h
    refine zs_stk1 (zs_rfe e7) ?_
    obtain ⟨k8, h⟩ := h
    refine zu_iald (k := 0) d_8224_201 rfl rfl k8 ?_
    refine zu_aload_n d_8224_202 rfl (zs_ra _) ?_
    refine zg_8_412 rfl d_8224_203 k5 ?_
    refine zu_iload_n d_8224_206 rfl ?_
    obtain ⟨b9, e10, h⟩ := h
    refine zs_stk1 (zs_rfe e10) ?_
    obtain ⟨k11, h⟩ := h
    refine zu_iald (k := 0) d_8224_207 rfl rfl k11 ?_
    refine zc_8_1365 (x0 := p1) (x1 := (zs_i S2 b6 p3.toNatClampNeg)) (x2 := (zs_i S2 b9 p3.toNatClampNeg)) hB rfl k5 d_8224_208 (Nat.le_of_ble_eq_true rfl) h (fun S12 h => ?_)
    exact (u_X9_giveOther_211 hB h).weak trivial
  · have h := h.2 c4
    refine zu_aload_n d_8224_165 rfl (zs_ra _) ?_
    refine zu_aload_n d_8224_166 rfl (zs_ra _) ?_
    obtain ⟨k14, h⟩ := h
    refine zg_8_409 rfl d_8224_167 k14 ?_
    refine zu_iload_n d_8224_170 rfl ?_
    obtain ⟨b15, e16, h⟩ := h
    refine zs_stk1 (zs_rfe e16) ?_
    obtain ⟨k17, h⟩ := h
    refine zu_iald (k := 0) d_8224_171 rfl rfl k17 ?_
    refine zu_aload_n d_8224_172 rfl (zs_ra _) ?_
    refine zg_8_362 rfl d_8224_173 k14 ?_
    refine zu_iload_n d_8224_176 rfl ?_
    obtain ⟨b18, e19, h⟩ := h
    refine zs_stk1 (zs_rfe e19) ?_
    obtain ⟨k20, h⟩ := h
    refine zu_iald (k := 0) d_8224_177 rfl rfl k20 ?_
    refine zu_aload_n d_8224_178 rfl (zs_ra _) ?_
    refine zu_aload_n d_8224_179 rfl (zs_ra _) ?_
    refine zg_8_412 rfl d_8224_180 k14 ?_
    refine zu_iload_n d_8224_183 rfl ?_
    obtain ⟨b21, e22, h⟩ := h
    refine zs_stk1 (zs_rfe e22) ?_
    obtain ⟨k23, h⟩ := h
    refine zu_iald (k := 0) d_8224_184 rfl rfl k23 ?_
    refine zc_8_1356 (x0 := (zs_i S2 b21 p3.toNatClampNeg)) hB rfl k14 d_8224_185 (Nat.le_of_ble_eq_true rfl) h (fun v25 S24 h => ?_)
    obtain ⟨k26, h⟩ := h
    refine zc_8_1359 (x0 := (zs_i S2 b15 p3.toNatClampNeg)) (x1 := (zs_i S2 b18 p1.toNatClampNeg)) (x2 := v25) hB rfl k26 d_8224_188 (Nat.le_of_ble_eq_true rfl) h (fun S27 h => ?_)
    exact (u_X9_giveOther_191 hB h).weak trivial
def w_X9_giveOther_68 (X : zs_X) (d : Nat) (p0 : Nat) (p1 : Int32) (p2 : Int32) (p3 : Int32) (p4 : Int32) (p5 : Int32) (p7 : Int32) (S : zs_T) (Q : zs_Q) : Prop :=
  (zs_K S p0 = some (.inl 8) ∧ ∃ b2, (zs_R S 8044 p0) = some b2 ∧ zs_A S b2 1 p2 ∧ ((¬ (zs_i S b2 p2.toNatClampNeg) = (11 : Int32) → w_X9_giveOther_155 X d p0 p1 p3 p4 S Q) ∧ (¬ (¬ (zs_i S b2 p2.toNatClampNeg) = (11 : Int32)) → (zs_C X d 8225 [.ref p0, .int p2] S (zs_kV (fun S6 => (zs_U X d 8224 90 [(0, .ref p0), (1, .int p1), (3, .int p3), (4, .int p4), (5, .int p5), (7, .int p7), (8, .int (1 : Int32)), (9, .int (0 : Int32))] [] S6 Q)) Q)))))
theorem u_X9_giveOther_68 {σ : Nat → Nat} {n0 : Nat} {bf : ab_B} {d : Nat} {p0 : Nat} {p1 : Int32} {p2 : Int32} {p3 : Int32} {p4 : Int32} {p5 : Int32} {p7 : Int32} {S : zs_T} {Q : zs_Q} (hB : zt_B bf) (h : w_X9_giveOther_68 (zx σ n0 bf) d p0 p1 p2 p3 p4 p5 p7 S Q) : zs_U (zx σ n0 bf) d 8224 68 [(0, .ref p0), (1, .int p1), (2, .int p2), (3, .int p3), (4, .int p4), (5, .int p5), (7, .int p7)] [] S Q := by
  unfold w_X9_giveOther_68 at h
  refine zu_aload_n d_8224_68 rfl (zs_ra _) ?_
  obtain ⟨k1, h⟩ := h
  refine zg_8_90 rfl d_8224_69 k1 ?_
  refine zu_iload_n d_8224_72 rfl ?_
  obtain ⟨b2, e3, h⟩ := h
  refine zs_stk1 (zs_rfe e3) ?_
  obtain ⟨k4, h⟩ := h
  refine zu_bald (k := 1) d_8224_73 rfl (Or.inl rfl) k4 ?_
  refine zu_bipush d_8224_74 zj_11 ?_
  refine zu_cmpne (t := 155) d_8224_76 rfl (fun c5 => ?_) (fun c5 => ?_)
  · have h := h.1 c5
    exact (u_X9_giveOther_155 hB h).weak ⟨rfl, rfl, rfl, rfl, trivial⟩
  · have h := h.2 c5
    refine zu_aload_n d_8224_79 rfl (zs_ra _) ?_
    refine zu_iload_n d_8224_80 rfl ?_
    refine zc_8_1395 (x0 := p2) hB rfl k1 d_8224_81 (Nat.le_of_ble_eq_true rfl) h (fun S6 h => ?_)
    refine zu_iconst d_8224_84 zi_1 ?_
    refine zu_istore d_8224_85 (zs_lt zq_8224 rfl) ?_
    refine zu_iconst d_8224_87 zi_0 ?_
    refine zu_istore d_8224_88 (zs_lt zq_8224 rfl) ?_
    exact h.weak ⟨rfl, rfl, rfl, rfl, rfl, rfl, rfl, rfl, trivial⟩
def w_X9_giveOther_59 (X : zs_X) (d : Nat) (p0 : Nat) (p1 : Int32) (p2 : Int32) (p3 : Int32) (p4 : Int32) (p5 : Int32) (p6 : Int32) (p7 : Int32) (q0 : Option Nat) (q1 : Int32) (q2 : Int32) (S : zs_T) (Q : zs_Q) : Prop :=
  (∃ b1, q0 = some b1 ∧ zs_K S b1 = some (.inl 8) ∧ zs_C X d 8215 [.ref b1, .int q1, .int q2, .int p6] S (zs_kI (fun v5 S4 => (((¬ v5 = 0 → w_X9_giveOther_68 X d p0 p1 p2 p3 p4 p5 p7 S4 Q) ∧ (¬ (¬ v5 = 0) → (Q (.returned none) S4))))) Q))
theorem u_X9_giveOther_59 {σ : Nat → Nat} {n0 : Nat} {bf : ab_B} {d : Nat} {p0 : Nat} {p1 : Int32} {p2 : Int32} {p3 : Int32} {p4 : Int32} {p5 : Int32} {p6 : Int32} {p7 : Int32} {q0 : Option Nat} {q1 : Int32} {q2 : Int32} {S : zs_T} {Q : zs_Q} (hB : zt_B bf) (h : w_X9_giveOther_59 (zx σ n0 bf) d p0 p1 p2 p3 p4 p5 p6 p7 q0 q1 q2 S Q) : zs_U (zx σ n0 bf) d 8224 59 [(0, .ref p0), (1, .int p1), (2, .int p2), (3, .int p3), (4, .int p4), (5, .int p5), (6, .int p6), (7, .int p7)] [.int q2, .int q1, va_rf q0] S Q := by
  unfold w_X9_giveOther_59 at h
  refine zu_iload d_8224_59 rfl ?_
  obtain ⟨b1, e2, h⟩ := h
  refine zs_stk3 (zs_rfe e2) ?_
  obtain ⟨k3, h⟩ := h
  refine zc_8_1398 (x0 := q1) (x1 := q2) (x2 := p6) hB rfl k3 d_8224_61 (Nat.le_of_ble_eq_true rfl) h (fun v5 S4 h => ?_)
  refine zu_ifne (t := 68) d_8224_64 rfl (fun c6 => ?_) (fun c6 => ?_)
  · have h := h.1 c6
    exact (u_X9_giveOther_68 hB h).weak ⟨rfl, rfl, rfl, rfl, rfl, rfl, rfl, trivial⟩
  · have h := h.2 c6
    exact zu_vret d_8224_67 zr_8224 h
def w_X9_giveOther_31 (X : zs_X) (d : Nat) (p0 : Nat) (p1 : Int32) (p2 : Int32) (p3 : Int32) (p4 : Int32) (p5 : Int32) (p6 : Int32) (p7 : Int32) (S : zs_T) (Q : zs_Q) : Prop :=
  (((p4 = 0 → w_X9_giveOther_68 X d p0 p1 p2 p3 p4 p5 p7 S Q) ∧ (¬ (p4 = 0) → (zs_K S p0 = some (.inl 8) ∧ ∃ b3, (zs_R S 8044 p0) = some b3 ∧ zs_A S b3 1 p2 ∧ ((¬ (zs_i S b3 p2.toNatClampNeg) = (15 : Int32) → (w_X9_giveOther_59 X d p0 p1 p2 p3 p4 p5 p6 p7 (some p0) p1 p2 S Q)) ∧ (¬ (¬ (zs_i S b3 p2.toNatClampNeg) = (15 : Int32)) → (∃ b7, (zs_R S 8190 p0) = some b7 ∧ zs_A S b7 0 p3 ∧ w_X9_giveOther_59 X d p0 p1 p2 p3 p4 p5 p6 p7 (some p0) p1 (zs_i S b7 p3.toNatClampNeg) S Q)))))))
theorem u_X9_giveOther_31 {σ : Nat → Nat} {n0 : Nat} {bf : ab_B} {d : Nat} {p0 : Nat} {p1 : Int32} {p2 : Int32} {p3 : Int32} {p4 : Int32} {p5 : Int32} {p6 : Int32} {p7 : Int32} {S : zs_T} {Q : zs_Q} (hB : zt_B bf) (h : w_X9_giveOther_31 (zx σ n0 bf) d p0 p1 p2 p3 p4 p5 p6 p7 S Q) : zs_U (zx σ n0 bf) d 8224 31 [(0, .ref p0), (1, .int p1), (2, .int p2), (3, .int p3), (4, .int p4), (5, .int p5), (6, .int p6), (7, .int p7)] [] S Q := by
  unfold w_X9_giveOther_31 at h
  refine zu_iload d_8224_31 rfl ?_
  refine zu_ifeq (t := 68) d_8224_33 rfl (fun c1 => ?_) (fun c1 => ?_)
  · have h := h.1 c1
    exact (u_X9_giveOther_68 hB h).weak ⟨rfl, rfl, rfl, rfl, rfl, rfl, rfl, trivial⟩
  · have h := h.2 c1
    refine zu_aload_n d_8224_36 rfl (zs_ra _) ?_
    refine zu_iload_n d_8224_37 rfl ?_
    refine zu_aload_n d_8224_38 rfl (zs_ra _) ?_
    obtain ⟨k2, h⟩ := h
    refine zg_8_90 rfl d_8224_39 k2 ?_
    refine zu_iload_n d_8224_42 rfl ?_
    obtain ⟨b3, e4, h⟩ := h
    refine zs_stk1 (zs_rfe e4) ?_
    obtain ⟨k5, h⟩ := h
    refine zu_bald (k := 1) d_8224_43 rfl (Or.inl rfl) k5 ?_
    refine zu_bipush d_8224_44 zj_15 ?_
    refine zu_cmpne (t := 58) d_8224_46 rfl (fun c6 => ?_) (fun c6 => ?_)
    · have h := h.1 c6
      refine zu_iload_n d_8224_58 rfl ?_
      exact (u_X9_giveOther_59 hB h).weak ⟨rfl, rfl, rfl, rfl, rfl, rfl, rfl, rfl, trivial⟩
    · have h := h.2 c6
      refine zu_aload_n d_8224_49 rfl (zs_ra _) ?_
      refine zg_8_412 rfl d_8224_50 k2 ?_
      refine zu_iload_n d_8224_53 rfl ?_
      obtain ⟨b7, e8, h⟩ := h
      refine zs_stk1 (zs_rfe e8) ?_
      obtain ⟨k9, h⟩ := h
      refine zu_iald (k := 0) d_8224_54 rfl rfl k9 ?_
      refine zu_goto (t := 59) d_8224_55 rfl ?_
      exact (u_X9_giveOther_59 hB h).weak ⟨rfl, rfl, rfl, rfl, rfl, rfl, rfl, rfl, trivial⟩
def w_X9_giveOther_132 (X : zs_X) (d : Nat) (p0 : Nat) (p1 : Int32) (p3 : Int32) (p4 : Int32) (p5 : Int32) (p7 : Int32) (p9 : Int32) (S : zs_T) (Q : zs_Q) : Prop :=
  (zs_U X d 8224 90 [(0, .ref p0), (1, .int p1), (3, .int p3), (4, .int p4), (5, .int p5), (7, .int p7), (8, .int (0 : Int32)), (9, .int (p9 + (1 : Int32)))] [] S Q)
theorem u_X9_giveOther_132 {σ : Nat → Nat} {n0 : Nat} {bf : ab_B} {d : Nat} {p0 : Nat} {p1 : Int32} {p3 : Int32} {p4 : Int32} {p5 : Int32} {p7 : Int32} {p9 : Int32} {S : zs_T} {Q : zs_Q} (hB : zt_B bf) (h : w_X9_giveOther_132 (zx σ n0 bf) d p0 p1 p3 p4 p5 p7 p9 S Q) : zs_U (zx σ n0 bf) d 8224 132 [(0, .ref p0), (1, .int p1), (3, .int p3), (4, .int p4), (5, .int p5), (7, .int p7), (9, .int p9)] [] S Q := by
  unfold w_X9_giveOther_132 at h
  refine zu_iconst d_8224_132 zi_0 ?_
  refine zu_istore d_8224_133 (zs_lt zq_8224 rfl) ?_
  refine zu_iinc d_8224_135 rfl zi_1 (zs_lt zq_8224 rfl) ?_
  refine zu_goto (t := 90) d_8224_138 rfl ?_
  exact h.weak ⟨rfl, rfl, rfl, rfl, rfl, rfl, rfl, rfl, trivial⟩
def w_X9_giveOther_128 (X : zs_X) (d : Nat) (p0 : Nat) (p1 : Int32) (p3 : Int32) (p4 : Int32) (p5 : Int32) (p7 : Int32) (p9 : Int32) (S : zs_T) (Q : zs_Q) : Prop :=
  (zs_U X d 8224 90 [(0, .ref p0), (1, .int p1), (3, .int p3), (4, .int p4), (5, .int p5), (7, .int p7), (8, .int (1 : Int32)), (9, .int (p9 + (1 : Int32)))] [] S Q)
theorem u_X9_giveOther_128 {σ : Nat → Nat} {n0 : Nat} {bf : ab_B} {d : Nat} {p0 : Nat} {p1 : Int32} {p3 : Int32} {p4 : Int32} {p5 : Int32} {p7 : Int32} {p9 : Int32} {S : zs_T} {Q : zs_Q} (hB : zt_B bf) (h : w_X9_giveOther_128 (zx σ n0 bf) d p0 p1 p3 p4 p5 p7 p9 S Q) : zs_U (zx σ n0 bf) d 8224 128 [(0, .ref p0), (1, .int p1), (3, .int p3), (4, .int p4), (5, .int p5), (7, .int p7), (9, .int p9)] [] S Q := by
  unfold w_X9_giveOther_128 at h
  refine zu_iconst d_8224_128 zi_1 ?_
  refine zu_goto (t := 133) d_8224_129 rfl ?_
  refine zu_istore d_8224_133 (zs_lt zq_8224 rfl) ?_
  refine zu_iinc d_8224_135 rfl zi_1 (zs_lt zq_8224 rfl) ?_
  refine zu_goto (t := 90) d_8224_138 rfl ?_
  exact h.weak ⟨rfl, rfl, rfl, rfl, rfl, rfl, rfl, rfl, trivial⟩
def w_X9_giveOther_90 (X : zs_X) (d : Nat) (p0 : Nat) (p1 : Int32) (p3 : Int32) (p4 : Int32) (p5 : Int32) (p7 : Int32) (p8 : Int32) (p9 : Int32) (S : zs_T) (Q : zs_Q) : Prop :=
  (zs_K S p0 = some (.inl 8) ∧ ∃ b2, (zs_R S 8058 p0) = some b2 ∧ zs_A S b2 1 p7 ∧ (((zs_i S b2 p7.toNatClampNeg) ≤ p9 → (((¬ p8 = 0 → w_X9_giveOther_155 X d p0 p1 p3 p4 S Q) ∧ (¬ (¬ p8 = 0) → (zs_C X d 8208 [.ref p0, .int (9 : Int32), .int p5] S (zs_kV (fun S7 => (Q (.returned none) S7)) Q)))))) ∧ (¬ ((zs_i S b2 p7.toNatClampNeg) ≤ p9) → (((p8 = 0 → w_X9_giveOther_132 X d p0 p1 p3 p4 p5 p7 p9 S Q) ∧ (¬ (p8 = 0) → (zs_C X d 8105 [.ref p0, .int p9] S (zs_kJ (fun v11 S10 => (zs_K S10 p0 = some (.inl 8) ∧ ∃ b13, (zs_R S10 8191 p0) = some b13 ∧ zs_A S10 b13 3 (((4 : Int32) * p3) + p9) ∧ ((¬ v11 = (zs_j S10 b13 (((4 : Int32) * p3) + p9).toNatClampNeg) → w_X9_giveOther_132 X d p0 p1 p3 p4 p5 p7 p9 S10 Q) ∧ (¬ (¬ v11 = (zs_j S10 b13 (((4 : Int32) * p3) + p9).toNatClampNeg)) → w_X9_giveOther_128 X d p0 p1 p3 p4 p5 p7 p9 S10 Q)))) Q))))))))
theorem u_X9_giveOther_90 {σ : Nat → Nat} {n0 : Nat} {bf : ab_B} {d : Nat} {p0 : Nat} {p1 : Int32} {p3 : Int32} {p4 : Int32} {p5 : Int32} {p7 : Int32} {p8 : Int32} {p9 : Int32} {S : zs_T} {Q : zs_Q} (hB : zt_B bf) (h : w_X9_giveOther_90 (zx σ n0 bf) d p0 p1 p3 p4 p5 p7 p8 p9 S Q) : zs_U (zx σ n0 bf) d 8224 90 [(0, .ref p0), (1, .int p1), (3, .int p3), (4, .int p4), (5, .int p5), (7, .int p7), (8, .int p8), (9, .int p9)] [] S Q := by
  unfold w_X9_giveOther_90 at h
  refine zu_iload d_8224_90 rfl ?_
  refine zu_aload_n d_8224_92 rfl (zs_ra _) ?_
  obtain ⟨k1, h⟩ := h
  refine zg_8_127 rfl d_8224_93 k1 ?_
  refine zu_iload d_8224_96 rfl ?_
  obtain ⟨b2, e3, h⟩ := h
  refine zs_stk1 (zs_rfe e3) ?_
  obtain ⟨k4, h⟩ := h
  refine zu_bald (k := 1) d_8224_98 rfl (Or.inl rfl) k4 ?_
  refine zu_cmpge (t := 141) d_8224_99 rfl (fun c5 => ?_) (fun c5 => ?_)
  · have h := h.1 c5
    refine zu_iload d_8224_141 rfl ?_
    refine zu_ifne (t := 155) d_8224_143 rfl (fun c6 => ?_) (fun c6 => ?_)
    · have h := h.1 c6
      exact (u_X9_giveOther_155 hB h).weak ⟨rfl, rfl, rfl, rfl, trivial⟩
    · have h := h.2 c6
      refine zu_aload_n d_8224_146 rfl (zs_ra _) ?_
      refine zu_bipush d_8224_147 zj_9 ?_
      refine zu_iload d_8224_149 rfl ?_
      refine zc_8_1297 (x0 := (9 : Int32)) (x1 := p5) hB rfl k1 d_8224_151 (Nat.le_of_ble_eq_true rfl) h (fun S7 h => ?_)
      exact zu_vret d_8224_154 zr_8224 h
  · have h := h.2 c5
    refine zu_iload d_8224_102 rfl ?_
    refine zu_ifeq (t := 132) d_8224_104 rfl (fun c9 => ?_) (fun c9 => ?_)
    · have h := h.1 c9
      exact (u_X9_giveOther_132 hB h).weak ⟨rfl, rfl, rfl, rfl, rfl, rfl, rfl, trivial⟩
    · have h := h.2 c9
      refine zu_aload_n d_8224_107 rfl (zs_ra _) ?_
      refine zu_iload d_8224_108 rfl ?_
      refine zc_8_627 (x0 := p9) hB rfl k1 d_8224_110 (Nat.le_of_ble_eq_true rfl) h (fun v11 S10 h => ?_)
      refine zu_aload_n d_8224_113 rfl (zs_ra _) ?_
      obtain ⟨k12, h⟩ := h
      refine zg_8_416 rfl d_8224_114 k12 ?_
      refine zu_iconst d_8224_117 zi_4 ?_
      refine zu_iload_n d_8224_118 rfl ?_
      refine zu_stk d_8224_119 rfl rfl ?_
      refine zu_iload d_8224_120 rfl ?_
      refine zu_stk d_8224_122 rfl rfl ?_
      obtain ⟨b13, e14, h⟩ := h
      refine zs_stk1 (zs_rfe e14) ?_
      obtain ⟨k15, h⟩ := h
      refine zu_lald (k := 3) d_8224_123 rfl rfl k15 ?_
      refine zu_lne (t := 132) d_8224_124 d_8224_125 rfl (fun c16 => ?_) (fun c16 => ?_)
      · have h := h.1 c16
        exact (u_X9_giveOther_132 hB h).weak ⟨rfl, rfl, rfl, rfl, rfl, rfl, rfl, trivial⟩
      · have h := h.2 c16
        exact (u_X9_giveOther_128 hB h).weak ⟨rfl, rfl, rfl, rfl, rfl, rfl, rfl, trivial⟩
def w_X9_giveOther (X : zs_X) (d : Nat) (p0 : Nat) (p1 : Int32) (p2 : Int32) (p3 : Int32) (p4 : Int32) (p5 : Int32) (p6 : Int32) (S : zs_T) (Q : zs_Q) : Prop :=
  (zs_K S p0 = some (.inl 8) ∧ zs_C X d 8074 [.ref p0, .int p2] S (zs_kI (fun v3 S2 => (zs_K S2 p0 = some (.inl 8) ∧ ∃ b5, (zs_R S2 8044 p0) = some b5 ∧ zs_A S2 b5 1 p2 ∧ ((¬ (zs_i S2 b5 p2.toNatClampNeg) = (11 : Int32) → (zs_C X d 8226 [.ref p0, .int p3] S2 (zs_kV (fun S9 => w_X9_giveOther_31 X d p0 p1 p2 p3 p4 p5 p6 v3 S9 Q) Q))) ∧ (¬ (¬ (zs_i S2 b5 p2.toNatClampNeg) = (11 : Int32)) → (zs_C X d 8225 [.ref p0, .int p2] S2 (zs_kV (fun S11 => (w_X9_giveOther_31 X d p0 p1 p2 p3 p4 p5 p6 v3 S11 Q)) Q)))))) Q))
theorem u_X9_giveOther {σ : Nat → Nat} {n0 : Nat} {bf : ab_B} {d : Nat} {p0 : Nat} {p1 : Int32} {p2 : Int32} {p3 : Int32} {p4 : Int32} {p5 : Int32} {p6 : Int32} {S : zs_T} {Q : zs_Q} (hB : zt_B bf) (hd : 1 ≤ d) (h : w_X9_giveOther (zx σ n0 bf) (d - 1) p0 p1 p2 p3 p4 p5 p6 S Q) : zs_C (zx σ n0 bf) d 8224 [.ref p0, .int p1, .int p2, .int p3, .int p4, .int p5, .int p6] S Q := by
  have hL : lv_args 0 [.ref p0, .int p1, .int p2, .int p3, .int p4, .int p5, .int p6] = [(0, .ref p0), (1, .int p1), (2, .int p2), (3, .int p3), (4, .int p4), (5, .int p5), (6, .int p6)] := rfl
  refine zs_C.of1 (hB.2 8224 (by decide) (by decide)) hd (by rw [hL]; exact zs_sub_self _ (by exact ⟨rfl, rfl, rfl, rfl, rfl, rfl, rfl, trivial⟩)) ?_
  rw [hL]
  clear hL
  unfold w_X9_giveOther at h
  refine zu_aload_n d_8224_0 rfl (zs_ra _) ?_
  refine zu_iload_n d_8224_1 rfl ?_
  obtain ⟨k1, h⟩ := h
  refine zc_8_727 (x0 := p2) hB rfl k1 d_8224_2 (Nat.le_of_ble_eq_true rfl) h (fun v3 S2 h => ?_)
  refine zu_istore d_8224_5 (zs_lt zq_8224 rfl) ?_
  refine zu_aload_n d_8224_7 rfl (zs_ra _) ?_
  obtain ⟨k4, h⟩ := h
  refine zg_8_90 rfl d_8224_8 k4 ?_
  refine zu_iload_n d_8224_11 rfl ?_
  obtain ⟨b5, e6, h⟩ := h
  refine zs_stk1 (zs_rfe e6) ?_
  obtain ⟨k7, h⟩ := h
  refine zu_bald (k := 1) d_8224_12 rfl (Or.inl rfl) k7 ?_
  refine zu_bipush d_8224_13 zj_11 ?_
  refine zu_cmpne (t := 26) d_8224_15 rfl (fun c8 => ?_) (fun c8 => ?_)
  · have h := h.1 c8
    refine zu_aload_n d_8224_26 rfl (zs_ra _) ?_
    refine zu_iload_n d_8224_27 rfl ?_
    refine zc_8_1291 (x0 := p3) hB rfl k4 d_8224_28 (Nat.le_of_ble_eq_true rfl) h (fun S9 h => ?_)
    exact (u_X9_giveOther_31 hB h).weak ⟨rfl, rfl, rfl, rfl, rfl, rfl, rfl, rfl, trivial⟩
  · have h := h.2 c8
    refine zu_aload_n d_8224_18 rfl (zs_ra _) ?_
    refine zu_iload_n d_8224_19 rfl ?_
    refine zc_8_1395 (x0 := p2) hB rfl k4 d_8224_20 (Nat.le_of_ble_eq_true rfl) h (fun S11 h => ?_)
    refine zu_goto (t := 31) d_8224_23 rfl ?_
    exact (u_X9_giveOther_31 hB h).weak ⟨rfl, rfl, rfl, rfl, rfl, rfl, rfl, rfl, trivial⟩
/-! SchemaPascalModel.discOf(I)V -/
theorem zm_8225 {σ : Nat → Nat} {n0 : Nat} {bf : ab_B} : ab_code (zx σ n0 bf).1 8225 = prog_17_method_240_code := rfl
theorem zq_8225 {σ : Nat → Nat} {n0 : Nat} {bf : ab_B} : ab_maxL (zx σ n0 bf).1 8225 = 3 := rfl
theorem zr_8225 {σ : Nat → Nat} {n0 : Nat} {bf : ab_B} : ab_ret (zx σ n0 bf).1 8225 = (Option.none : Option Jvm.ClassFile.FieldType) := rfl
theorem d_8225_0 {σ : Nat → Nat} {n0 : Nat} {bf : ab_B} : decode (ab_code (zx σ n0 bf).1 8225) 0 = .ok (.aload_n 0, 1) := zd zm_8225 (by decide +kernel)
theorem d_8225_1 {σ : Nat → Nat} {n0 : Nat} {bf : ab_B} : decode (ab_code (zx σ n0 bf).1 8225) 1 = .ok (.invokevirtual 1368, 3) := zd zm_8225 (by decide +kernel)
theorem d_8225_4 {σ : Nat → Nat} {n0 : Nat} {bf : ab_B} : decode (ab_code (zx σ n0 bf).1 8225) 4 = .ok (.aload_n 0, 1) := zd zm_8225 (by decide +kernel)
theorem d_8225_5 {σ : Nat → Nat} {n0 : Nat} {bf : ab_B} : decode (ab_code (zx σ n0 bf).1 8225) 5 = .ok (.getfield 90, 3) := zd zm_8225 (by decide +kernel)
theorem d_8225_8 {σ : Nat → Nat} {n0 : Nat} {bf : ab_B} : decode (ab_code (zx σ n0 bf).1 8225) 8 = .ok (.iload_n 1, 1) := zd zm_8225 (by decide +kernel)
theorem d_8225_9 {σ : Nat → Nat} {n0 : Nat} {bf : ab_B} : decode (ab_code (zx σ n0 bf).1 8225) 9 = .ok (.baload, 1) := zd zm_8225 (by decide +kernel)
theorem d_8225_10 {σ : Nat → Nat} {n0 : Nat} {bf : ab_B} : decode (ab_code (zx σ n0 bf).1 8225) 10 = .ok (.bipush 11, 2) := zd zm_8225 (by decide +kernel)
theorem d_8225_12 {σ : Nat → Nat} {n0 : Nat} {bf : ab_B} : decode (ab_code (zx σ n0 bf).1 8225) 12 = .ok (.if_icmp .ne 9, 3) := zd zm_8225 (by decide +kernel)
theorem d_8225_15 {σ : Nat → Nat} {n0 : Nat} {bf : ab_B} : decode (ab_code (zx σ n0 bf).1 8225) 15 = .ok (.aload_n 0, 1) := zd zm_8225 (by decide +kernel)
theorem d_8225_16 {σ : Nat → Nat} {n0 : Nat} {bf : ab_B} : decode (ab_code (zx σ n0 bf).1 8225) 16 = .ok (.iload_n 1, 1) := zd zm_8225 (by decide +kernel)
theorem d_8225_17 {σ : Nat → Nat} {n0 : Nat} {bf : ab_B} : decode (ab_code (zx σ n0 bf).1 8225) 17 = .ok (.invokevirtual 825, 3) := zd zm_8225 (by decide +kernel)
theorem d_8225_20 {σ : Nat → Nat} {n0 : Nat} {bf : ab_B} : decode (ab_code (zx σ n0 bf).1 8225) 20 = .ok (.istore_n 2, 1) := zd zm_8225 (by decide +kernel)
theorem d_8225_21 {σ : Nat → Nat} {n0 : Nat} {bf : ab_B} : decode (ab_code (zx σ n0 bf).1 8225) 21 = .ok (.return_, 1) := zd zm_8225 (by decide +kernel)
def w_X9_discOf (X : zs_X) (d : Nat) (p0 : Nat) (p1 : Int32) (S : zs_T) (Q : zs_Q) : Prop :=
  (zs_K S p0 = some (.inl 8) ∧ zs_C X d 8214 [.ref p0] S (zs_kV (fun S2 => (zs_K S2 p0 = some (.inl 8) ∧ ∃ b5, (zs_R S2 8044 p0) = some b5 ∧ zs_A S2 b5 1 p1 ∧ ((¬ (zs_i S2 b5 p1.toNatClampNeg) = (11 : Int32) → (Q (.returned none) S2)) ∧ (¬ (¬ (zs_i S2 b5 p1.toNatClampNeg) = (11 : Int32)) → (zs_C X d 8125 [.ref p0, .int p1] S2 (zs_kI (fun v10 S9 => (Q (.returned none) S9)) Q)))))) Q))
theorem u_X9_discOf {σ : Nat → Nat} {n0 : Nat} {bf : ab_B} {d : Nat} {p0 : Nat} {p1 : Int32} {S : zs_T} {Q : zs_Q} (hB : zt_B bf) (hd : 1 ≤ d) (h : w_X9_discOf (zx σ n0 bf) (d - 1) p0 p1 S Q) : zs_C (zx σ n0 bf) d 8225 [.ref p0, .int p1] S Q := by
  have hL : lv_args 0 [.ref p0, .int p1] = [(0, .ref p0), (1, .int p1)] := rfl
  refine zs_C.of1 (hB.2 8225 (by decide) (by decide)) hd (by rw [hL]; exact zs_sub_self _ (by exact ⟨rfl, rfl, trivial⟩)) ?_
  rw [hL]
  clear hL
  unfold w_X9_discOf at h
  refine zu_aload_n d_8225_0 rfl (zs_ra _) ?_
  obtain ⟨k1, h⟩ := h
  refine zc_8_1368  hB rfl k1 d_8225_1 (Nat.le_of_ble_eq_true rfl) h (fun S2 h => ?_)
  refine zu_aload_n d_8225_4 rfl (zs_ra _) ?_
  obtain ⟨k4, h⟩ := h
  refine zg_8_90 rfl d_8225_5 k4 ?_
  refine zu_iload_n d_8225_8 rfl ?_
  obtain ⟨b5, e6, h⟩ := h
  refine zs_stk1 (zs_rfe e6) ?_
  obtain ⟨k7, h⟩ := h
  refine zu_bald (k := 1) d_8225_9 rfl (Or.inl rfl) k7 ?_
  refine zu_bipush d_8225_10 zj_11 ?_
  refine zu_cmpne (t := 21) d_8225_12 rfl (fun c8 => ?_) (fun c8 => ?_)
  · have h := h.1 c8
    exact zu_vret d_8225_21 zr_8225 h
  · have h := h.2 c8
    refine zu_aload_n d_8225_15 rfl (zs_ra _) ?_
    refine zu_iload_n d_8225_16 rfl ?_
    refine zc_8_825 (x0 := p1) hB rfl k4 d_8225_17 (Nat.le_of_ble_eq_true rfl) h (fun v10 S9 h => ?_)
    refine zu_istore_n d_8225_20 (zs_lt zq_8225 rfl) ?_
    exact zu_vret d_8225_21 zr_8225 h
/-! SchemaPascalModel.handDisc(I)V -/
theorem zm_8226 {σ : Nat → Nat} {n0 : Nat} {bf : ab_B} : ab_code (zx σ n0 bf).1 8226 = prog_17_method_207_code := rfl
theorem zq_8226 {σ : Nat → Nat} {n0 : Nat} {bf : ab_B} : ab_maxL (zx σ n0 bf).1 8226 = 2 := rfl
theorem zr_8226 {σ : Nat → Nat} {n0 : Nat} {bf : ab_B} : ab_ret (zx σ n0 bf).1 8226 = (Option.none : Option Jvm.ClassFile.FieldType) := rfl
theorem d_8226_0 {σ : Nat → Nat} {n0 : Nat} {bf : ab_B} : decode (ab_code (zx σ n0 bf).1 8226) 0 = .ok (.aload_n 0, 1) := zd zm_8226 (by decide +kernel)
theorem d_8226_1 {σ : Nat → Nat} {n0 : Nat} {bf : ab_B} : decode (ab_code (zx σ n0 bf).1 8226) 1 = .ok (.aload_n 0, 1) := zd zm_8226 (by decide +kernel)
theorem d_8226_2 {σ : Nat → Nat} {n0 : Nat} {bf : ab_B} : decode (ab_code (zx σ n0 bf).1 8226) 2 = .ok (.getfield 416, 3) := zd zm_8226 (by decide +kernel)
theorem d_8226_5 {σ : Nat → Nat} {n0 : Nat} {bf : ab_B} : decode (ab_code (zx σ n0 bf).1 8226) 5 = .ok (.iconst 4, 1) := zd zm_8226 (by decide +kernel)
theorem d_8226_6 {σ : Nat → Nat} {n0 : Nat} {bf : ab_B} : decode (ab_code (zx σ n0 bf).1 8226) 6 = .ok (.iload_n 1, 1) := zd zm_8226 (by decide +kernel)
theorem d_8226_7 {σ : Nat → Nat} {n0 : Nat} {bf : ab_B} : decode (ab_code (zx σ n0 bf).1 8226) 7 = .ok (.imul, 1) := zd zm_8226 (by decide +kernel)
theorem d_8226_8 {σ : Nat → Nat} {n0 : Nat} {bf : ab_B} : decode (ab_code (zx σ n0 bf).1 8226) 8 = .ok (.laload, 1) := zd zm_8226 (by decide +kernel)
theorem d_8226_9 {σ : Nat → Nat} {n0 : Nat} {bf : ab_B} : decode (ab_code (zx σ n0 bf).1 8226) 9 = .ok (.putfield 610, 3) := zd zm_8226 (by decide +kernel)
theorem d_8226_12 {σ : Nat → Nat} {n0 : Nat} {bf : ab_B} : decode (ab_code (zx σ n0 bf).1 8226) 12 = .ok (.aload_n 0, 1) := zd zm_8226 (by decide +kernel)
theorem d_8226_13 {σ : Nat → Nat} {n0 : Nat} {bf : ab_B} : decode (ab_code (zx σ n0 bf).1 8226) 13 = .ok (.aload_n 0, 1) := zd zm_8226 (by decide +kernel)
theorem d_8226_14 {σ : Nat → Nat} {n0 : Nat} {bf : ab_B} : decode (ab_code (zx σ n0 bf).1 8226) 14 = .ok (.getfield 416, 3) := zd zm_8226 (by decide +kernel)
theorem d_8226_17 {σ : Nat → Nat} {n0 : Nat} {bf : ab_B} : decode (ab_code (zx σ n0 bf).1 8226) 17 = .ok (.iconst 4, 1) := zd zm_8226 (by decide +kernel)
theorem d_8226_18 {σ : Nat → Nat} {n0 : Nat} {bf : ab_B} : decode (ab_code (zx σ n0 bf).1 8226) 18 = .ok (.iload_n 1, 1) := zd zm_8226 (by decide +kernel)
theorem d_8226_19 {σ : Nat → Nat} {n0 : Nat} {bf : ab_B} : decode (ab_code (zx σ n0 bf).1 8226) 19 = .ok (.imul, 1) := zd zm_8226 (by decide +kernel)
theorem d_8226_20 {σ : Nat → Nat} {n0 : Nat} {bf : ab_B} : decode (ab_code (zx σ n0 bf).1 8226) 20 = .ok (.iconst 1, 1) := zd zm_8226 (by decide +kernel)
theorem d_8226_21 {σ : Nat → Nat} {n0 : Nat} {bf : ab_B} : decode (ab_code (zx σ n0 bf).1 8226) 21 = .ok (.iadd, 1) := zd zm_8226 (by decide +kernel)
theorem d_8226_22 {σ : Nat → Nat} {n0 : Nat} {bf : ab_B} : decode (ab_code (zx σ n0 bf).1 8226) 22 = .ok (.laload, 1) := zd zm_8226 (by decide +kernel)
theorem d_8226_23 {σ : Nat → Nat} {n0 : Nat} {bf : ab_B} : decode (ab_code (zx σ n0 bf).1 8226) 23 = .ok (.putfield 614, 3) := zd zm_8226 (by decide +kernel)
theorem d_8226_26 {σ : Nat → Nat} {n0 : Nat} {bf : ab_B} : decode (ab_code (zx σ n0 bf).1 8226) 26 = .ok (.aload_n 0, 1) := zd zm_8226 (by decide +kernel)
theorem d_8226_27 {σ : Nat → Nat} {n0 : Nat} {bf : ab_B} : decode (ab_code (zx σ n0 bf).1 8226) 27 = .ok (.aload_n 0, 1) := zd zm_8226 (by decide +kernel)
theorem d_8226_28 {σ : Nat → Nat} {n0 : Nat} {bf : ab_B} : decode (ab_code (zx σ n0 bf).1 8226) 28 = .ok (.getfield 416, 3) := zd zm_8226 (by decide +kernel)
theorem d_8226_31 {σ : Nat → Nat} {n0 : Nat} {bf : ab_B} : decode (ab_code (zx σ n0 bf).1 8226) 31 = .ok (.iconst 4, 1) := zd zm_8226 (by decide +kernel)
theorem d_8226_32 {σ : Nat → Nat} {n0 : Nat} {bf : ab_B} : decode (ab_code (zx σ n0 bf).1 8226) 32 = .ok (.iload_n 1, 1) := zd zm_8226 (by decide +kernel)
theorem d_8226_33 {σ : Nat → Nat} {n0 : Nat} {bf : ab_B} : decode (ab_code (zx σ n0 bf).1 8226) 33 = .ok (.imul, 1) := zd zm_8226 (by decide +kernel)
theorem d_8226_34 {σ : Nat → Nat} {n0 : Nat} {bf : ab_B} : decode (ab_code (zx σ n0 bf).1 8226) 34 = .ok (.iconst 2, 1) := zd zm_8226 (by decide +kernel)
theorem d_8226_35 {σ : Nat → Nat} {n0 : Nat} {bf : ab_B} : decode (ab_code (zx σ n0 bf).1 8226) 35 = .ok (.iadd, 1) := zd zm_8226 (by decide +kernel)
theorem d_8226_36 {σ : Nat → Nat} {n0 : Nat} {bf : ab_B} : decode (ab_code (zx σ n0 bf).1 8226) 36 = .ok (.laload, 1) := zd zm_8226 (by decide +kernel)
theorem d_8226_37 {σ : Nat → Nat} {n0 : Nat} {bf : ab_B} : decode (ab_code (zx σ n0 bf).1 8226) 37 = .ok (.putfield 617, 3) := zd zm_8226 (by decide +kernel)
theorem d_8226_40 {σ : Nat → Nat} {n0 : Nat} {bf : ab_B} : decode (ab_code (zx σ n0 bf).1 8226) 40 = .ok (.aload_n 0, 1) := zd zm_8226 (by decide +kernel)
theorem d_8226_41 {σ : Nat → Nat} {n0 : Nat} {bf : ab_B} : decode (ab_code (zx σ n0 bf).1 8226) 41 = .ok (.aload_n 0, 1) := zd zm_8226 (by decide +kernel)
theorem d_8226_42 {σ : Nat → Nat} {n0 : Nat} {bf : ab_B} : decode (ab_code (zx σ n0 bf).1 8226) 42 = .ok (.getfield 416, 3) := zd zm_8226 (by decide +kernel)
theorem d_8226_45 {σ : Nat → Nat} {n0 : Nat} {bf : ab_B} : decode (ab_code (zx σ n0 bf).1 8226) 45 = .ok (.iconst 4, 1) := zd zm_8226 (by decide +kernel)
theorem d_8226_46 {σ : Nat → Nat} {n0 : Nat} {bf : ab_B} : decode (ab_code (zx σ n0 bf).1 8226) 46 = .ok (.iload_n 1, 1) := zd zm_8226 (by decide +kernel)
theorem d_8226_47 {σ : Nat → Nat} {n0 : Nat} {bf : ab_B} : decode (ab_code (zx σ n0 bf).1 8226) 47 = .ok (.imul, 1) := zd zm_8226 (by decide +kernel)
theorem d_8226_48 {σ : Nat → Nat} {n0 : Nat} {bf : ab_B} : decode (ab_code (zx σ n0 bf).1 8226) 48 = .ok (.iconst 3, 1) := zd zm_8226 (by decide +kernel)
theorem d_8226_49 {σ : Nat → Nat} {n0 : Nat} {bf : ab_B} : decode (ab_code (zx σ n0 bf).1 8226) 49 = .ok (.iadd, 1) := zd zm_8226 (by decide +kernel)
theorem d_8226_50 {σ : Nat → Nat} {n0 : Nat} {bf : ab_B} : decode (ab_code (zx σ n0 bf).1 8226) 50 = .ok (.laload, 1) := zd zm_8226 (by decide +kernel)
theorem d_8226_51 {σ : Nat → Nat} {n0 : Nat} {bf : ab_B} : decode (ab_code (zx σ n0 bf).1 8226) 51 = .ok (.putfield 620, 3) := zd zm_8226 (by decide +kernel)
theorem d_8226_54 {σ : Nat → Nat} {n0 : Nat} {bf : ab_B} : decode (ab_code (zx σ n0 bf).1 8226) 54 = .ok (.return_, 1) := zd zm_8226 (by decide +kernel)
def w_X9_handDisc_54 (X : zs_X) (d : Nat)  (S : zs_T) (Q : zs_Q) : Prop :=
  (Q (.returned none) S)
theorem u_X9_handDisc_54 {σ : Nat → Nat} {n0 : Nat} {bf : ab_B} {d : Nat}  {S : zs_T} {Q : zs_Q} (hB : zt_B bf) (h : w_X9_handDisc_54 (zx σ n0 bf) d  S Q) : zs_U (zx σ n0 bf) d 8226 54 [] [] S Q := by
  unfold w_X9_handDisc_54 at h
  exact zu_vret d_8226_54 zr_8226 h
def w_X9_handDisc_26 (X : zs_X) (d : Nat) (p0 : Nat) (p1 : Int32) (S : zs_T) (Q : zs_Q) : Prop :=
  (zs_K S p0 = some (.inl 8) ∧ ∃ b2, (zs_R S 8191 p0) = some b2 ∧ zs_A S b2 3 (((4 : Int32) * p1) + (2 : Int32)) ∧ ab_n0 X.1 ≤ p0 ∧ ∀ S6, S6 = zs_sJ S 8083 p0 (zs_j S b2 (((4 : Int32) * p1) + (2 : Int32)).toNatClampNeg) → ∃ b9, (zs_R S6 8191 p0) = some b9 ∧ zs_A S b9 3 (((4 : Int32) * p1) + (3 : Int32)) ∧ ∀ S12, S12 = zs_sJ S6 8084 p0 (zs_j S6 b9 (((4 : Int32) * p1) + (3 : Int32)).toNatClampNeg) → w_X9_handDisc_54 X d  S12 Q)
theorem u_X9_handDisc_26 {σ : Nat → Nat} {n0 : Nat} {bf : ab_B} {d : Nat} {p0 : Nat} {p1 : Int32} {S : zs_T} {Q : zs_Q} (hB : zt_B bf) (h : w_X9_handDisc_26 (zx σ n0 bf) d p0 p1 S Q) : zs_U (zx σ n0 bf) d 8226 26 [(0, .ref p0), (1, .int p1)] [] S Q := by
  unfold w_X9_handDisc_26 at h
  refine zu_aload_n d_8226_26 rfl (zs_ra _) ?_
  refine zu_aload_n d_8226_27 rfl (zs_ra _) ?_
  obtain ⟨k1, h⟩ := h
  refine zg_8_416 rfl d_8226_28 k1 ?_
  refine zu_iconst d_8226_31 zi_4 ?_
  refine zu_iload_n d_8226_32 rfl ?_
  refine zu_stk d_8226_33 rfl rfl ?_
  refine zu_iconst d_8226_34 zi_2 ?_
  refine zu_stk d_8226_35 rfl rfl ?_
  obtain ⟨b2, e3, h⟩ := h
  refine zs_stk1 (zs_rfe e3) ?_
  obtain ⟨k4, h⟩ := h
  refine zu_lald (k := 3) d_8226_36 rfl rfl k4 ?_
  obtain ⟨k5, h⟩ := h
  refine zp_8_617 (v := (zs_j S b2 (((4 : Int32) * p1) + (2 : Int32)).toNatClampNeg)) rfl d_8226_37 k1 k5 ?_
  generalize e7 : zs_sJ S 8083 p0 (zs_j S b2 (((4 : Int32) * p1) + (2 : Int32)).toNatClampNeg) = S6
  have h := h S6 e7.symm
  have K8 : ∀ b, zs_K S6 b = zs_K S b := zs_Kt e7 (zs_KsJ _ _ _ _) (fun _ => rfl)
  refine zu_aload_n d_8226_40 rfl (zs_ra _) ?_
  refine zu_aload_n d_8226_41 rfl (zs_ra _) ?_
  refine zg_8_416 rfl d_8226_42 ((K8 _).trans k1) ?_
  refine zu_iconst d_8226_45 zi_4 ?_
  refine zu_iload_n d_8226_46 rfl ?_
  refine zu_stk d_8226_47 rfl rfl ?_
  refine zu_iconst d_8226_48 zi_3 ?_
  refine zu_stk d_8226_49 rfl rfl ?_
  obtain ⟨b9, e10, h⟩ := h
  refine zs_stk1 (zs_rfe e10) ?_
  obtain ⟨k11, h⟩ := h
  refine zu_lald (k := 3) d_8226_50 rfl rfl (zs_Ak K8 k11) ?_
  refine zp_8_620 (v := (zs_j S6 b9 (((4 : Int32) * p1) + (3 : Int32)).toNatClampNeg)) rfl d_8226_51 ((K8 _).trans k1) k5 ?_
  generalize e13 : zs_sJ S6 8084 p0 (zs_j S6 b9 (((4 : Int32) * p1) + (3 : Int32)).toNatClampNeg) = S12
  have h := h S12 e13.symm
  have K14 : ∀ b, zs_K S12 b = zs_K S b := zs_Kt e13 (zs_KsJ _ _ _ _) K8
  exact (u_X9_handDisc_54 hB h).weak trivial
def w_X9_handDisc (X : zs_X) (d : Nat) (p0 : Nat) (p1 : Int32) (S : zs_T) (Q : zs_Q) : Prop :=
  (zs_K S p0 = some (.inl 8) ∧ ∃ b2, (zs_R S 8191 p0) = some b2 ∧ zs_A S b2 3 ((4 : Int32) * p1) ∧ ab_n0 X.1 ≤ p0 ∧ ∀ S6, S6 = zs_sJ S 8081 p0 (zs_j S b2 ((4 : Int32) * p1).toNatClampNeg) → ∃ b9, (zs_R S6 8191 p0) = some b9 ∧ zs_A S b9 3 (((4 : Int32) * p1) + (1 : Int32)) ∧ ∀ S12, S12 = zs_sJ S6 8082 p0 (zs_j S6 b9 (((4 : Int32) * p1) + (1 : Int32)).toNatClampNeg) → w_X9_handDisc_26 X d p0 p1 S12 Q)
theorem u_X9_handDisc {σ : Nat → Nat} {n0 : Nat} {bf : ab_B} {d : Nat} {p0 : Nat} {p1 : Int32} {S : zs_T} {Q : zs_Q} (hB : zt_B bf) (hd : 1 ≤ d) (h : w_X9_handDisc (zx σ n0 bf) (d - 1) p0 p1 S Q) : zs_C (zx σ n0 bf) d 8226 [.ref p0, .int p1] S Q := by
  have hL : lv_args 0 [.ref p0, .int p1] = [(0, .ref p0), (1, .int p1)] := rfl
  refine zs_C.of1 (hB.2 8226 (by decide) (by decide)) hd (by rw [hL]; exact zs_sub_self _ (by exact ⟨rfl, rfl, trivial⟩)) ?_
  rw [hL]
  clear hL
  unfold w_X9_handDisc at h
  refine zu_aload_n d_8226_0 rfl (zs_ra _) ?_
  refine zu_aload_n d_8226_1 rfl (zs_ra _) ?_
  obtain ⟨k1, h⟩ := h
  refine zg_8_416 rfl d_8226_2 k1 ?_
  refine zu_iconst d_8226_5 zi_4 ?_
  refine zu_iload_n d_8226_6 rfl ?_
  refine zu_stk d_8226_7 rfl rfl ?_
  obtain ⟨b2, e3, h⟩ := h
  refine zs_stk1 (zs_rfe e3) ?_
  obtain ⟨k4, h⟩ := h
  refine zu_lald (k := 3) d_8226_8 rfl rfl k4 ?_
  obtain ⟨k5, h⟩ := h
  refine zp_8_610 (v := (zs_j S b2 ((4 : Int32) * p1).toNatClampNeg)) rfl d_8226_9 k1 k5 ?_
  generalize e7 : zs_sJ S 8081 p0 (zs_j S b2 ((4 : Int32) * p1).toNatClampNeg) = S6
  have h := h S6 e7.symm
  have K8 : ∀ b, zs_K S6 b = zs_K S b := zs_Kt e7 (zs_KsJ _ _ _ _) (fun _ => rfl)
  refine zu_aload_n d_8226_12 rfl (zs_ra _) ?_
  refine zu_aload_n d_8226_13 rfl (zs_ra _) ?_
  refine zg_8_416 rfl d_8226_14 ((K8 _).trans k1) ?_
  refine zu_iconst d_8226_17 zi_4 ?_
  refine zu_iload_n d_8226_18 rfl ?_
  refine zu_stk d_8226_19 rfl rfl ?_
  refine zu_iconst d_8226_20 zi_1 ?_
  refine zu_stk d_8226_21 rfl rfl ?_
  obtain ⟨b9, e10, h⟩ := h
  refine zs_stk1 (zs_rfe e10) ?_
  obtain ⟨k11, h⟩ := h
  refine zu_lald (k := 3) d_8226_22 rfl rfl (zs_Ak K8 k11) ?_
  refine zp_8_614 (v := (zs_j S6 b9 (((4 : Int32) * p1) + (1 : Int32)).toNatClampNeg)) rfl d_8226_23 ((K8 _).trans k1) k5 ?_
  generalize e13 : zs_sJ S6 8082 p0 (zs_j S6 b9 (((4 : Int32) * p1) + (1 : Int32)).toNatClampNeg) = S12
  have h := h S12 e13.symm
  have K14 : ∀ b, zs_K S12 b = zs_K S b := zs_Kt e13 (zs_KsJ _ _ _ _) K8
  exact (u_X9_handDisc_26 hB h).weak ⟨rfl, rfl, trivial⟩
/-! SchemaPascalModel.copyCells(III)V -/
theorem zm_8227 {σ : Nat → Nat} {n0 : Nat} {bf : ab_B} : ab_code (zx σ n0 bf).1 8227 = prog_17_method_236_code := rfl
theorem zq_8227 {σ : Nat → Nat} {n0 : Nat} {bf : ab_B} : ab_maxL (zx σ n0 bf).1 8227 = 5 := rfl
theorem zr_8227 {σ : Nat → Nat} {n0 : Nat} {bf : ab_B} : ab_ret (zx σ n0 bf).1 8227 = (Option.none : Option Jvm.ClassFile.FieldType) := rfl
theorem d_8227_0 {σ : Nat → Nat} {n0 : Nat} {bf : ab_B} : decode (ab_code (zx σ n0 bf).1 8227) 0 = .ok (.iconst 0, 1) := zd zm_8227 (by decide +kernel)
theorem d_8227_1 {σ : Nat → Nat} {n0 : Nat} {bf : ab_B} : decode (ab_code (zx σ n0 bf).1 8227) 1 = .ok (.istore 4, 2) := zd zm_8227 (by decide +kernel)
theorem d_8227_3 {σ : Nat → Nat} {n0 : Nat} {bf : ab_B} : decode (ab_code (zx σ n0 bf).1 8227) 3 = .ok (.iload 4, 2) := zd zm_8227 (by decide +kernel)
theorem d_8227_5 {σ : Nat → Nat} {n0 : Nat} {bf : ab_B} : decode (ab_code (zx σ n0 bf).1 8227) 5 = .ok (.iload_n 3, 1) := zd zm_8227 (by decide +kernel)
theorem d_8227_6 {σ : Nat → Nat} {n0 : Nat} {bf : ab_B} : decode (ab_code (zx σ n0 bf).1 8227) 6 = .ok (.if_icmp .ge 63, 3) := zd zm_8227 (by decide +kernel)
theorem d_8227_9 {σ : Nat → Nat} {n0 : Nat} {bf : ab_B} : decode (ab_code (zx σ n0 bf).1 8227) 9 = .ok (.aload_n 0, 1) := zd zm_8227 (by decide +kernel)
theorem d_8227_10 {σ : Nat → Nat} {n0 : Nat} {bf : ab_B} : decode (ab_code (zx σ n0 bf).1 8227) 10 = .ok (.getfield 373, 3) := zd zm_8227 (by decide +kernel)
theorem d_8227_13 {σ : Nat → Nat} {n0 : Nat} {bf : ab_B} : decode (ab_code (zx σ n0 bf).1 8227) 13 = .ok (.iload_n 2, 1) := zd zm_8227 (by decide +kernel)
theorem d_8227_14 {σ : Nat → Nat} {n0 : Nat} {bf : ab_B} : decode (ab_code (zx σ n0 bf).1 8227) 14 = .ok (.iload 4, 2) := zd zm_8227 (by decide +kernel)
theorem d_8227_16 {σ : Nat → Nat} {n0 : Nat} {bf : ab_B} : decode (ab_code (zx σ n0 bf).1 8227) 16 = .ok (.iadd, 1) := zd zm_8227 (by decide +kernel)
theorem d_8227_17 {σ : Nat → Nat} {n0 : Nat} {bf : ab_B} : decode (ab_code (zx σ n0 bf).1 8227) 17 = .ok (.aload_n 0, 1) := zd zm_8227 (by decide +kernel)
theorem d_8227_18 {σ : Nat → Nat} {n0 : Nat} {bf : ab_B} : decode (ab_code (zx σ n0 bf).1 8227) 18 = .ok (.getfield 373, 3) := zd zm_8227 (by decide +kernel)
theorem d_8227_21 {σ : Nat → Nat} {n0 : Nat} {bf : ab_B} : decode (ab_code (zx σ n0 bf).1 8227) 21 = .ok (.iload_n 1, 1) := zd zm_8227 (by decide +kernel)
theorem d_8227_22 {σ : Nat → Nat} {n0 : Nat} {bf : ab_B} : decode (ab_code (zx σ n0 bf).1 8227) 22 = .ok (.iload 4, 2) := zd zm_8227 (by decide +kernel)
theorem d_8227_24 {σ : Nat → Nat} {n0 : Nat} {bf : ab_B} : decode (ab_code (zx σ n0 bf).1 8227) 24 = .ok (.iadd, 1) := zd zm_8227 (by decide +kernel)
theorem d_8227_25 {σ : Nat → Nat} {n0 : Nat} {bf : ab_B} : decode (ab_code (zx σ n0 bf).1 8227) 25 = .ok (.laload, 1) := zd zm_8227 (by decide +kernel)
theorem d_8227_26 {σ : Nat → Nat} {n0 : Nat} {bf : ab_B} : decode (ab_code (zx σ n0 bf).1 8227) 26 = .ok (.lastore, 1) := zd zm_8227 (by decide +kernel)
theorem d_8227_27 {σ : Nat → Nat} {n0 : Nat} {bf : ab_B} : decode (ab_code (zx σ n0 bf).1 8227) 27 = .ok (.aload_n 0, 1) := zd zm_8227 (by decide +kernel)
theorem d_8227_28 {σ : Nat → Nat} {n0 : Nat} {bf : ab_B} : decode (ab_code (zx σ n0 bf).1 8227) 28 = .ok (.getfield 376, 3) := zd zm_8227 (by decide +kernel)
theorem d_8227_31 {σ : Nat → Nat} {n0 : Nat} {bf : ab_B} : decode (ab_code (zx σ n0 bf).1 8227) 31 = .ok (.iload_n 2, 1) := zd zm_8227 (by decide +kernel)
theorem d_8227_32 {σ : Nat → Nat} {n0 : Nat} {bf : ab_B} : decode (ab_code (zx σ n0 bf).1 8227) 32 = .ok (.iload 4, 2) := zd zm_8227 (by decide +kernel)
theorem d_8227_34 {σ : Nat → Nat} {n0 : Nat} {bf : ab_B} : decode (ab_code (zx σ n0 bf).1 8227) 34 = .ok (.iadd, 1) := zd zm_8227 (by decide +kernel)
theorem d_8227_35 {σ : Nat → Nat} {n0 : Nat} {bf : ab_B} : decode (ab_code (zx σ n0 bf).1 8227) 35 = .ok (.aload_n 0, 1) := zd zm_8227 (by decide +kernel)
theorem d_8227_36 {σ : Nat → Nat} {n0 : Nat} {bf : ab_B} : decode (ab_code (zx σ n0 bf).1 8227) 36 = .ok (.getfield 376, 3) := zd zm_8227 (by decide +kernel)
theorem d_8227_39 {σ : Nat → Nat} {n0 : Nat} {bf : ab_B} : decode (ab_code (zx σ n0 bf).1 8227) 39 = .ok (.iload_n 1, 1) := zd zm_8227 (by decide +kernel)
theorem d_8227_40 {σ : Nat → Nat} {n0 : Nat} {bf : ab_B} : decode (ab_code (zx σ n0 bf).1 8227) 40 = .ok (.iload 4, 2) := zd zm_8227 (by decide +kernel)
theorem d_8227_42 {σ : Nat → Nat} {n0 : Nat} {bf : ab_B} : decode (ab_code (zx σ n0 bf).1 8227) 42 = .ok (.iadd, 1) := zd zm_8227 (by decide +kernel)
theorem d_8227_43 {σ : Nat → Nat} {n0 : Nat} {bf : ab_B} : decode (ab_code (zx σ n0 bf).1 8227) 43 = .ok (.baload, 1) := zd zm_8227 (by decide +kernel)
theorem d_8227_44 {σ : Nat → Nat} {n0 : Nat} {bf : ab_B} : decode (ab_code (zx σ n0 bf).1 8227) 44 = .ok (.bastore, 1) := zd zm_8227 (by decide +kernel)
theorem d_8227_45 {σ : Nat → Nat} {n0 : Nat} {bf : ab_B} : decode (ab_code (zx σ n0 bf).1 8227) 45 = .ok (.aload_n 0, 1) := zd zm_8227 (by decide +kernel)
theorem d_8227_46 {σ : Nat → Nat} {n0 : Nat} {bf : ab_B} : decode (ab_code (zx σ n0 bf).1 8227) 46 = .ok (.getfield 379, 3) := zd zm_8227 (by decide +kernel)
theorem d_8227_49 {σ : Nat → Nat} {n0 : Nat} {bf : ab_B} : decode (ab_code (zx σ n0 bf).1 8227) 49 = .ok (.iload_n 2, 1) := zd zm_8227 (by decide +kernel)
theorem d_8227_50 {σ : Nat → Nat} {n0 : Nat} {bf : ab_B} : decode (ab_code (zx σ n0 bf).1 8227) 50 = .ok (.iload 4, 2) := zd zm_8227 (by decide +kernel)
theorem d_8227_52 {σ : Nat → Nat} {n0 : Nat} {bf : ab_B} : decode (ab_code (zx σ n0 bf).1 8227) 52 = .ok (.iadd, 1) := zd zm_8227 (by decide +kernel)
theorem d_8227_53 {σ : Nat → Nat} {n0 : Nat} {bf : ab_B} : decode (ab_code (zx σ n0 bf).1 8227) 53 = .ok (.aload_n 0, 1) := zd zm_8227 (by decide +kernel)
theorem d_8227_54 {σ : Nat → Nat} {n0 : Nat} {bf : ab_B} : decode (ab_code (zx σ n0 bf).1 8227) 54 = .ok (.getfield 379, 3) := zd zm_8227 (by decide +kernel)
theorem d_8227_57 {σ : Nat → Nat} {n0 : Nat} {bf : ab_B} : decode (ab_code (zx σ n0 bf).1 8227) 57 = .ok (.iload_n 1, 1) := zd zm_8227 (by decide +kernel)
theorem d_8227_58 {σ : Nat → Nat} {n0 : Nat} {bf : ab_B} : decode (ab_code (zx σ n0 bf).1 8227) 58 = .ok (.iload 4, 2) := zd zm_8227 (by decide +kernel)
theorem d_8227_60 {σ : Nat → Nat} {n0 : Nat} {bf : ab_B} : decode (ab_code (zx σ n0 bf).1 8227) 60 = .ok (.iadd, 1) := zd zm_8227 (by decide +kernel)
theorem d_8227_61 {σ : Nat → Nat} {n0 : Nat} {bf : ab_B} : decode (ab_code (zx σ n0 bf).1 8227) 61 = .ok (.iaload, 1) := zd zm_8227 (by decide +kernel)
theorem d_8227_62 {σ : Nat → Nat} {n0 : Nat} {bf : ab_B} : decode (ab_code (zx σ n0 bf).1 8227) 62 = .ok (.iastore, 1) := zd zm_8227 (by decide +kernel)
theorem d_8227_63 {σ : Nat → Nat} {n0 : Nat} {bf : ab_B} : decode (ab_code (zx σ n0 bf).1 8227) 63 = .ok (.iinc 4 1, 3) := zd zm_8227 (by decide +kernel)
theorem d_8227_66 {σ : Nat → Nat} {n0 : Nat} {bf : ab_B} : decode (ab_code (zx σ n0 bf).1 8227) 66 = .ok (.goto (-63), 3) := zd zm_8227 (by decide +kernel)
theorem d_8227_69 {σ : Nat → Nat} {n0 : Nat} {bf : ab_B} : decode (ab_code (zx σ n0 bf).1 8227) 69 = .ok (.return_, 1) := zd zm_8227 (by decide +kernel)
def w_X9_copyCells_45 (X : zs_X) (d : Nat) (p0 : Nat) (p1 : Int32) (p2 : Int32) (p3 : Int32) (p4 : Int32) (S : zs_T) (Q : zs_Q) : Prop :=
  (zs_K S p0 = some (.inl 8) ∧ ∃ b2, (zs_R S 8172 p0) = some b2 ∧ zs_A S b2 0 (p1 + p4) ∧ zs_A S b2 0 (p2 + p4) ∧ ab_n0 X.1 ≤ b2 ∧ ∀ S7, S7 = zs_si S b2 (p2 + p4).toNatClampNeg (zs_i S b2 (p1 + p4).toNatClampNeg) → zs_U X d 8227 3 [(0, .ref p0), (1, .int p1), (2, .int p2), (3, .int p3), (4, .int (p4 + (1 : Int32)))] [] S7 Q)
theorem u_X9_copyCells_45 {σ : Nat → Nat} {n0 : Nat} {bf : ab_B} {d : Nat} {p0 : Nat} {p1 : Int32} {p2 : Int32} {p3 : Int32} {p4 : Int32} {S : zs_T} {Q : zs_Q} (hB : zt_B bf) (h : w_X9_copyCells_45 (zx σ n0 bf) d p0 p1 p2 p3 p4 S Q) : zs_U (zx σ n0 bf) d 8227 45 [(0, .ref p0), (1, .int p1), (2, .int p2), (3, .int p3), (4, .int p4)] [] S Q := by
  unfold w_X9_copyCells_45 at h
  refine zu_aload_n d_8227_45 rfl (zs_ra _) ?_
  obtain ⟨k1, h⟩ := h
  refine zg_8_379 rfl d_8227_46 k1 ?_
  refine zu_iload_n d_8227_49 rfl ?_
  refine zu_iload d_8227_50 rfl ?_
  refine zu_stk d_8227_52 rfl rfl ?_
  refine zu_aload_n d_8227_53 rfl (zs_ra _) ?_
  refine zg_8_379 rfl d_8227_54 k1 ?_
  refine zu_iload_n d_8227_57 rfl ?_
  refine zu_iload d_8227_58 rfl ?_
  refine zu_stk d_8227_60 rfl rfl ?_
  obtain ⟨b2, e3, h⟩ := h
  refine zs_stk1 (zs_rfe e3) ?_
  obtain ⟨k4, h⟩ := h
  refine zu_iald (k := 0) d_8227_61 rfl rfl k4 ?_
  refine zs_stk2 (zs_rfe e3) ?_
  obtain ⟨k5, h⟩ := h
  obtain ⟨k6, h⟩ := h
  refine zu_iast (k := 0) d_8227_62 rfl rfl k6 k5 ?_
  generalize e8 : zs_si S b2 (p2 + p4).toNatClampNeg (zs_i S b2 (p1 + p4).toNatClampNeg) = S7
  have h := h S7 e8.symm
  have K9 : ∀ b, zs_K S7 b = zs_K S b := zs_Kt e8 (zs_Ksi _ _ _ _) (fun _ => rfl)
  refine zu_iinc d_8227_63 rfl zi_1 (zs_lt zq_8227 rfl) ?_
  refine zu_goto (t := 3) d_8227_66 rfl ?_
  exact h.weak ⟨rfl, rfl, rfl, rfl, rfl, trivial⟩
def w_X9_copyCells_3 (X : zs_X) (d : Nat) (p0 : Nat) (p1 : Int32) (p2 : Int32) (p3 : Int32) (p4 : Int32) (S : zs_T) (Q : zs_Q) : Prop :=
  (((p3 ≤ p4 → (Q (.returned none) S)) ∧ (¬ (p3 ≤ p4) → (zs_K S p0 = some (.inl 8) ∧ ∃ b3, (zs_R S 8170 p0) = some b3 ∧ zs_A S b3 3 (p1 + p4) ∧ zs_A S b3 3 (p2 + p4) ∧ ab_n0 X.1 ≤ b3 ∧ ∀ S8, S8 = zs_sj S b3 (p2 + p4).toNatClampNeg (zs_j S b3 (p1 + p4).toNatClampNeg) → ∃ b11, (zs_R S8 8171 p0) = some b11 ∧ zs_A S b11 2 (p1 + p4) ∧ zs_A S b11 2 (p2 + p4) ∧ ab_n0 X.1 ≤ b11 ∧ ∀ S16, S16 = zs_si S8 b11 (p2 + p4).toNatClampNeg (vp_nar .boolean (zs_i S8 b11 (p1 + p4).toNatClampNeg)) → w_X9_copyCells_45 X d p0 p1 p2 p3 p4 S16 Q))))
theorem u_X9_copyCells_3 {σ : Nat → Nat} {n0 : Nat} {bf : ab_B} {d : Nat} {p0 : Nat} {p1 : Int32} {p2 : Int32} {p3 : Int32} {p4 : Int32} {S : zs_T} {Q : zs_Q} (hB : zt_B bf) (h : w_X9_copyCells_3 (zx σ n0 bf) d p0 p1 p2 p3 p4 S Q) : zs_U (zx σ n0 bf) d 8227 3 [(0, .ref p0), (1, .int p1), (2, .int p2), (3, .int p3), (4, .int p4)] [] S Q := by
  unfold w_X9_copyCells_3 at h
  refine zu_iload d_8227_3 rfl ?_
  refine zu_iload_n d_8227_5 rfl ?_
  refine zu_cmpge (t := 69) d_8227_6 rfl (fun c1 => ?_) (fun c1 => ?_)
  · have h := h.1 c1
    exact zu_vret d_8227_69 zr_8227 h
  · have h := h.2 c1
    refine zu_aload_n d_8227_9 rfl (zs_ra _) ?_
    obtain ⟨k2, h⟩ := h
    refine zg_8_373 rfl d_8227_10 k2 ?_
    refine zu_iload_n d_8227_13 rfl ?_
    refine zu_iload d_8227_14 rfl ?_
    refine zu_stk d_8227_16 rfl rfl ?_
    refine zu_aload_n d_8227_17 rfl (zs_ra _) ?_
    refine zg_8_373 rfl d_8227_18 k2 ?_
    refine zu_iload_n d_8227_21 rfl ?_
    refine zu_iload d_8227_22 rfl ?_
    refine zu_stk d_8227_24 rfl rfl ?_
    obtain ⟨b3, e4, h⟩ := h
    refine zs_stk1 (zs_rfe e4) ?_
    obtain ⟨k5, h⟩ := h
    refine zu_lald (k := 3) d_8227_25 rfl rfl k5 ?_
    refine zs_stk2 (zs_rfe e4) ?_
    obtain ⟨k6, h⟩ := h
    obtain ⟨k7, h⟩ := h
    refine zu_last (k := 3) d_8227_26 rfl rfl k7 k6 ?_
    generalize e9 : zs_sj S b3 (p2 + p4).toNatClampNeg (zs_j S b3 (p1 + p4).toNatClampNeg) = S8
    have h := h S8 e9.symm
    have K10 : ∀ b, zs_K S8 b = zs_K S b := zs_Kt e9 (zs_Ksj _ _ _ _) (fun _ => rfl)
    refine zu_aload_n d_8227_27 rfl (zs_ra _) ?_
    refine zg_8_376 rfl d_8227_28 ((K10 _).trans k2) ?_
    refine zu_iload_n d_8227_31 rfl ?_
    refine zu_iload d_8227_32 rfl ?_
    refine zu_stk d_8227_34 rfl rfl ?_
    refine zu_aload_n d_8227_35 rfl (zs_ra _) ?_
    refine zg_8_376 rfl d_8227_36 ((K10 _).trans k2) ?_
    refine zu_iload_n d_8227_39 rfl ?_
    refine zu_iload d_8227_40 rfl ?_
    refine zu_stk d_8227_42 rfl rfl ?_
    obtain ⟨b11, e12, h⟩ := h
    refine zs_stk1 (zs_rfe e12) ?_
    obtain ⟨k13, h⟩ := h
    refine zu_bald (k := 2) d_8227_43 rfl (Or.inr rfl) (zs_Ak K10 k13) ?_
    refine zs_stk2 (zs_rfe e12) ?_
    obtain ⟨k14, h⟩ := h
    obtain ⟨k15, h⟩ := h
    refine zu_bast_bool (k := 2) d_8227_44 rfl rfl k15 (zs_Ak K10 k14) ?_
    generalize e17 : zs_si S8 b11 (p2 + p4).toNatClampNeg (vp_nar .boolean (zs_i S8 b11 (p1 + p4).toNatClampNeg)) = S16
    have h := h S16 e17.symm
    have K18 : ∀ b, zs_K S16 b = zs_K S b := zs_Kt e17 (zs_Ksi _ _ _ _) K10
    exact (u_X9_copyCells_45 hB h).weak ⟨rfl, rfl, rfl, rfl, rfl, trivial⟩
def w_X9_copyCells (X : zs_X) (d : Nat) (p0 : Nat) (p1 : Int32) (p2 : Int32) (p3 : Int32) (S : zs_T) (Q : zs_Q) : Prop :=
  (zs_U X d 8227 3 [(0, .ref p0), (1, .int p1), (2, .int p2), (3, .int p3), (4, .int (0 : Int32))] [] S Q)
theorem u_X9_copyCells {σ : Nat → Nat} {n0 : Nat} {bf : ab_B} {d : Nat} {p0 : Nat} {p1 : Int32} {p2 : Int32} {p3 : Int32} {S : zs_T} {Q : zs_Q} (hB : zt_B bf) (hd : 1 ≤ d) (h : w_X9_copyCells (zx σ n0 bf) (d - 1) p0 p1 p2 p3 S Q) : zs_C (zx σ n0 bf) d 8227 [.ref p0, .int p1, .int p2, .int p3] S Q := by
  have hL : lv_args 0 [.ref p0, .int p1, .int p2, .int p3] = [(0, .ref p0), (1, .int p1), (2, .int p2), (3, .int p3)] := rfl
  refine zs_C.of1 (hB.2 8227 (by decide) (by decide)) hd (by rw [hL]; exact zs_sub_self _ (by exact ⟨rfl, rfl, rfl, rfl, trivial⟩)) ?_
  rw [hL]
  clear hL
  unfold w_X9_copyCells at h
  refine zu_iconst d_8227_0 zi_0 ?_
  refine zu_istore d_8227_1 (zs_lt zq_8227 rfl) ?_
  exact h.weak ⟨rfl, rfl, rfl, rfl, rfl, trivial⟩
/-! SchemaPascalModel.dropText()V -/
theorem zm_8228 {σ : Nat → Nat} {n0 : Nat} {bf : ab_B} : ab_code (zx σ n0 bf).1 8228 = prog_17_method_223_code := rfl
theorem zq_8228 {σ : Nat → Nat} {n0 : Nat} {bf : ab_B} : ab_maxL (zx σ n0 bf).1 8228 = 1 := rfl
theorem zr_8228 {σ : Nat → Nat} {n0 : Nat} {bf : ab_B} : ab_ret (zx σ n0 bf).1 8228 = (Option.none : Option Jvm.ClassFile.FieldType) := rfl
theorem d_8228_0 {σ : Nat → Nat} {n0 : Nat} {bf : ab_B} : decode (ab_code (zx σ n0 bf).1 8228) 0 = .ok (.aload_n 0, 1) := zd zm_8228 (by decide +kernel)
theorem d_8228_1 {σ : Nat → Nat} {n0 : Nat} {bf : ab_B} : decode (ab_code (zx σ n0 bf).1 8228) 1 = .ok (.dup, 1) := zd zm_8228 (by decide +kernel)
theorem d_8228_2 {σ : Nat → Nat} {n0 : Nat} {bf : ab_B} : decode (ab_code (zx σ n0 bf).1 8228) 2 = .ok (.getfield 1264, 3) := zd zm_8228 (by decide +kernel)
theorem d_8228_5 {σ : Nat → Nat} {n0 : Nat} {bf : ab_B} : decode (ab_code (zx σ n0 bf).1 8228) 5 = .ok (.iconst 1, 1) := zd zm_8228 (by decide +kernel)
theorem d_8228_6 {σ : Nat → Nat} {n0 : Nat} {bf : ab_B} : decode (ab_code (zx σ n0 bf).1 8228) 6 = .ok (.isub, 1) := zd zm_8228 (by decide +kernel)
theorem d_8228_7 {σ : Nat → Nat} {n0 : Nat} {bf : ab_B} : decode (ab_code (zx σ n0 bf).1 8228) 7 = .ok (.putfield 1264, 3) := zd zm_8228 (by decide +kernel)
theorem d_8228_10 {σ : Nat → Nat} {n0 : Nat} {bf : ab_B} : decode (ab_code (zx σ n0 bf).1 8228) 10 = .ok (.aload_n 0, 1) := zd zm_8228 (by decide +kernel)
theorem d_8228_11 {σ : Nat → Nat} {n0 : Nat} {bf : ab_B} : decode (ab_code (zx σ n0 bf).1 8228) 11 = .ok (.aload_n 0, 1) := zd zm_8228 (by decide +kernel)
theorem d_8228_12 {σ : Nat → Nat} {n0 : Nat} {bf : ab_B} : decode (ab_code (zx σ n0 bf).1 8228) 12 = .ok (.getfield 405, 3) := zd zm_8228 (by decide +kernel)
theorem d_8228_15 {σ : Nat → Nat} {n0 : Nat} {bf : ab_B} : decode (ab_code (zx σ n0 bf).1 8228) 15 = .ok (.aload_n 0, 1) := zd zm_8228 (by decide +kernel)
theorem d_8228_16 {σ : Nat → Nat} {n0 : Nat} {bf : ab_B} : decode (ab_code (zx σ n0 bf).1 8228) 16 = .ok (.getfield 1264, 3) := zd zm_8228 (by decide +kernel)
theorem d_8228_19 {σ : Nat → Nat} {n0 : Nat} {bf : ab_B} : decode (ab_code (zx σ n0 bf).1 8228) 19 = .ok (.iaload, 1) := zd zm_8228 (by decide +kernel)
theorem d_8228_20 {σ : Nat → Nat} {n0 : Nat} {bf : ab_B} : decode (ab_code (zx σ n0 bf).1 8228) 20 = .ok (.putfield 1267, 3) := zd zm_8228 (by decide +kernel)
theorem d_8228_23 {σ : Nat → Nat} {n0 : Nat} {bf : ab_B} : decode (ab_code (zx σ n0 bf).1 8228) 23 = .ok (.return_, 1) := zd zm_8228 (by decide +kernel)
def w_X9_dropText (X : zs_X) (d : Nat) (p0 : Nat) (S : zs_T) (Q : zs_Q) : Prop :=
  (zs_K S p0 = some (.inl 8) ∧ ab_n0 X.1 ≤ p0 ∧ ∀ S3, S3 = zs_sI S 8187 p0 ((zs_I S 8187 p0) - (1 : Int32)) → ∃ b6, (zs_R S3 8186 p0) = some b6 ∧ zs_A S b6 0 (zs_I S3 8187 p0) ∧ ∀ S9, S9 = zs_sI S3 8188 p0 (zs_i S3 b6 (zs_I S3 8187 p0).toNatClampNeg) → Q (.returned none) S9)
theorem u_X9_dropText {σ : Nat → Nat} {n0 : Nat} {bf : ab_B} {d : Nat} {p0 : Nat} {S : zs_T} {Q : zs_Q} (hB : zt_B bf) (hd : 1 ≤ d) (h : w_X9_dropText (zx σ n0 bf) (d - 1) p0 S Q) : zs_C (zx σ n0 bf) d 8228 [.ref p0] S Q := by
  have hL : lv_args 0 [.ref p0] = [(0, .ref p0)] := rfl
  refine zs_C.of1 (hB.2 8228 (by decide) (by decide)) hd (by rw [hL]; exact zs_sub_self _ (by exact ⟨rfl, trivial⟩)) ?_
  rw [hL]
  clear hL
  unfold w_X9_dropText at h
  refine zu_aload_n d_8228_0 rfl (zs_ra _) ?_
  refine zu_dup d_8228_1 rfl ?_
  obtain ⟨k1, h⟩ := h
  refine zg_8_1264 rfl d_8228_2 k1 ?_
  refine zu_iconst d_8228_5 zi_1 ?_
  refine zu_stk d_8228_6 rfl rfl ?_
  obtain ⟨k2, h⟩ := h
  refine zp_8_1264 (v := ((zs_I S 8187 p0) - (1 : Int32))) rfl d_8228_7 k1 k2 ?_
  generalize e4 : zs_sI S 8187 p0 ((zs_I S 8187 p0) - (1 : Int32)) = S3
  have h := h S3 e4.symm
  have K5 : ∀ b, zs_K S3 b = zs_K S b := zs_Kt e4 (zs_KsI _ _ _ _) (fun _ => rfl)
  refine zu_aload_n d_8228_10 rfl (zs_ra _) ?_
  refine zu_aload_n d_8228_11 rfl (zs_ra _) ?_
  refine zg_8_405 rfl d_8228_12 ((K5 _).trans k1) ?_
  refine zu_aload_n d_8228_15 rfl (zs_ra _) ?_
  refine zg_8_1264 rfl d_8228_16 ((K5 _).trans k1) ?_
  obtain ⟨b6, e7, h⟩ := h
  refine zs_stk1 (zs_rfe e7) ?_
  obtain ⟨k8, h⟩ := h
  refine zu_iald (k := 0) d_8228_19 rfl rfl (zs_Ak K5 k8) ?_
  refine zp_8_1267 (v := (zs_i S3 b6 (zs_I S3 8187 p0).toNatClampNeg)) rfl d_8228_20 ((K5 _).trans k1) k2 ?_
  generalize e10 : zs_sI S3 8188 p0 (zs_i S3 b6 (zs_I S3 8187 p0).toNatClampNeg) = S9
  have h := h S9 e10.symm
  have K11 : ∀ b, zs_K S9 b = zs_K S b := zs_Kt e10 (zs_KsI _ _ _ _) K5
  exact zu_vret d_8228_23 zr_8228 h
/-! SchemaPascalModel.go(I)V -/
theorem zm_8229 {σ : Nat → Nat} {n0 : Nat} {bf : ab_B} : ab_code (zx σ n0 bf).1 8229 = prog_17_method_271_code := rfl
theorem zq_8229 {σ : Nat → Nat} {n0 : Nat} {bf : ab_B} : ab_maxL (zx σ n0 bf).1 8229 = 5 := rfl
theorem zr_8229 {σ : Nat → Nat} {n0 : Nat} {bf : ab_B} : ab_ret (zx σ n0 bf).1 8229 = (Option.none : Option Jvm.ClassFile.FieldType) := rfl
theorem d_8229_0 {σ : Nat → Nat} {n0 : Nat} {bf : ab_B} : decode (ab_code (zx σ n0 bf).1 8229) 0 = .ok (.iload_n 1, 1) := zd zm_8229 (by decide +kernel)
theorem d_8229_1 {σ : Nat → Nat} {n0 : Nat} {bf : ab_B} : decode (ab_code (zx σ n0 bf).1 8229) 1 = .ok (.istore_n 2, 1) := zd zm_8229 (by decide +kernel)
theorem d_8229_2 {σ : Nat → Nat} {n0 : Nat} {bf : ab_B} : decode (ab_code (zx σ n0 bf).1 8229) 2 = .ok (.aload_n 0, 1) := zd zm_8229 (by decide +kernel)
theorem d_8229_3 {σ : Nat → Nat} {n0 : Nat} {bf : ab_B} : decode (ab_code (zx σ n0 bf).1 8229) 3 = .ok (.getfield 1282, 3) := zd zm_8229 (by decide +kernel)
theorem d_8229_6 {σ : Nat → Nat} {n0 : Nat} {bf : ab_B} : decode (ab_code (zx σ n0 bf).1 8229) 6 = .ok (.ifCond .ne 239, 3) := zd zm_8229 (by decide +kernel)
theorem d_8229_9 {σ : Nat → Nat} {n0 : Nat} {bf : ab_B} : decode (ab_code (zx σ n0 bf).1 8229) 9 = .ok (.aload_n 0, 1) := zd zm_8229 (by decide +kernel)
theorem d_8229_10 {σ : Nat → Nat} {n0 : Nat} {bf : ab_B} : decode (ab_code (zx σ n0 bf).1 8229) 10 = .ok (.getfield 72, 3) := zd zm_8229 (by decide +kernel)
theorem d_8229_13 {σ : Nat → Nat} {n0 : Nat} {bf : ab_B} : decode (ab_code (zx σ n0 bf).1 8229) 13 = .ok (.aload_n 0, 1) := zd zm_8229 (by decide +kernel)
theorem d_8229_14 {σ : Nat → Nat} {n0 : Nat} {bf : ab_B} : decode (ab_code (zx σ n0 bf).1 8229) 14 = .ok (.getfield 1377, 3) := zd zm_8229 (by decide +kernel)
theorem d_8229_17 {σ : Nat → Nat} {n0 : Nat} {bf : ab_B} : decode (ab_code (zx σ n0 bf).1 8229) 17 = .ok (.iaload, 1) := zd zm_8229 (by decide +kernel)
theorem d_8229_18 {σ : Nat → Nat} {n0 : Nat} {bf : ab_B} : decode (ab_code (zx σ n0 bf).1 8229) 18 = .ok (.istore_n 3, 1) := zd zm_8229 (by decide +kernel)
theorem d_8229_19 {σ : Nat → Nat} {n0 : Nat} {bf : ab_B} : decode (ab_code (zx σ n0 bf).1 8229) 19 = .ok (.iload_n 3, 1) := zd zm_8229 (by decide +kernel)
theorem d_8229_20 {σ : Nat → Nat} {n0 : Nat} {bf : ab_B} : decode (ab_code (zx σ n0 bf).1 8229) 20 = .ok (.bipush 82, 2) := zd zm_8229 (by decide +kernel)
theorem d_8229_22 {σ : Nat → Nat} {n0 : Nat} {bf : ab_B} : decode (ab_code (zx σ n0 bf).1 8229) 22 = .ok (.if_icmp .ne 54, 3) := zd zm_8229 (by decide +kernel)
theorem d_8229_25 {σ : Nat → Nat} {n0 : Nat} {bf : ab_B} : decode (ab_code (zx σ n0 bf).1 8229) 25 = .ok (.iload_n 2, 1) := zd zm_8229 (by decide +kernel)
theorem d_8229_26 {σ : Nat → Nat} {n0 : Nat} {bf : ab_B} : decode (ab_code (zx σ n0 bf).1 8229) 26 = .ok (.ifCond .ne 4, 3) := zd zm_8229 (by decide +kernel)
theorem d_8229_29 {σ : Nat → Nat} {n0 : Nat} {bf : ab_B} : decode (ab_code (zx σ n0 bf).1 8229) 29 = .ok (.return_, 1) := zd zm_8229 (by decide +kernel)
theorem d_8229_30 {σ : Nat → Nat} {n0 : Nat} {bf : ab_B} : decode (ab_code (zx σ n0 bf).1 8229) 30 = .ok (.iinc 2 (-1), 3) := zd zm_8229 (by decide +kernel)
theorem d_8229_33 {σ : Nat → Nat} {n0 : Nat} {bf : ab_B} : decode (ab_code (zx σ n0 bf).1 8229) 33 = .ok (.aload_n 0, 1) := zd zm_8229 (by decide +kernel)
theorem d_8229_34 {σ : Nat → Nat} {n0 : Nat} {bf : ab_B} : decode (ab_code (zx σ n0 bf).1 8229) 34 = .ok (.dup, 1) := zd zm_8229 (by decide +kernel)
theorem d_8229_35 {σ : Nat → Nat} {n0 : Nat} {bf : ab_B} : decode (ab_code (zx σ n0 bf).1 8229) 35 = .ok (.getfield 1276, 3) := zd zm_8229 (by decide +kernel)
theorem d_8229_38 {σ : Nat → Nat} {n0 : Nat} {bf : ab_B} : decode (ab_code (zx σ n0 bf).1 8229) 38 = .ok (.iconst 1, 1) := zd zm_8229 (by decide +kernel)
theorem d_8229_39 {σ : Nat → Nat} {n0 : Nat} {bf : ab_B} : decode (ab_code (zx σ n0 bf).1 8229) 39 = .ok (.iadd, 1) := zd zm_8229 (by decide +kernel)
theorem d_8229_40 {σ : Nat → Nat} {n0 : Nat} {bf : ab_B} : decode (ab_code (zx σ n0 bf).1 8229) 40 = .ok (.putfield 1276, 3) := zd zm_8229 (by decide +kernel)
theorem d_8229_43 {σ : Nat → Nat} {n0 : Nat} {bf : ab_B} : decode (ab_code (zx σ n0 bf).1 8229) 43 = .ok (.aload_n 0, 1) := zd zm_8229 (by decide +kernel)
theorem d_8229_44 {σ : Nat → Nat} {n0 : Nat} {bf : ab_B} : decode (ab_code (zx σ n0 bf).1 8229) 44 = .ok (.getfield 359, 3) := zd zm_8229 (by decide +kernel)
theorem d_8229_47 {σ : Nat → Nat} {n0 : Nat} {bf : ab_B} : decode (ab_code (zx σ n0 bf).1 8229) 47 = .ok (.aload_n 0, 1) := zd zm_8229 (by decide +kernel)
theorem d_8229_48 {σ : Nat → Nat} {n0 : Nat} {bf : ab_B} : decode (ab_code (zx σ n0 bf).1 8229) 48 = .ok (.getfield 1240, 3) := zd zm_8229 (by decide +kernel)
theorem d_8229_51 {σ : Nat → Nat} {n0 : Nat} {bf : ab_B} : decode (ab_code (zx σ n0 bf).1 8229) 51 = .ok (.iconst 1, 1) := zd zm_8229 (by decide +kernel)
theorem d_8229_52 {σ : Nat → Nat} {n0 : Nat} {bf : ab_B} : decode (ab_code (zx σ n0 bf).1 8229) 52 = .ok (.isub, 1) := zd zm_8229 (by decide +kernel)
theorem d_8229_53 {σ : Nat → Nat} {n0 : Nat} {bf : ab_B} : decode (ab_code (zx σ n0 bf).1 8229) 53 = .ok (.aload_n 0, 1) := zd zm_8229 (by decide +kernel)
theorem d_8229_54 {σ : Nat → Nat} {n0 : Nat} {bf : ab_B} : decode (ab_code (zx σ n0 bf).1 8229) 54 = .ok (.getfield 81, 3) := zd zm_8229 (by decide +kernel)
theorem d_8229_57 {σ : Nat → Nat} {n0 : Nat} {bf : ab_B} : decode (ab_code (zx σ n0 bf).1 8229) 57 = .ok (.aload_n 0, 1) := zd zm_8229 (by decide +kernel)
theorem d_8229_58 {σ : Nat → Nat} {n0 : Nat} {bf : ab_B} : decode (ab_code (zx σ n0 bf).1 8229) 58 = .ok (.getfield 1377, 3) := zd zm_8229 (by decide +kernel)
theorem d_8229_61 {σ : Nat → Nat} {n0 : Nat} {bf : ab_B} : decode (ab_code (zx σ n0 bf).1 8229) 61 = .ok (.iaload, 1) := zd zm_8229 (by decide +kernel)
theorem d_8229_62 {σ : Nat → Nat} {n0 : Nat} {bf : ab_B} : decode (ab_code (zx σ n0 bf).1 8229) 62 = .ok (.iastore, 1) := zd zm_8229 (by decide +kernel)
theorem d_8229_63 {σ : Nat → Nat} {n0 : Nat} {bf : ab_B} : decode (ab_code (zx σ n0 bf).1 8229) 63 = .ok (.aload_n 0, 1) := zd zm_8229 (by decide +kernel)
theorem d_8229_64 {σ : Nat → Nat} {n0 : Nat} {bf : ab_B} : decode (ab_code (zx σ n0 bf).1 8229) 64 = .ok (.dup, 1) := zd zm_8229 (by decide +kernel)
theorem d_8229_65 {σ : Nat → Nat} {n0 : Nat} {bf : ab_B} : decode (ab_code (zx σ n0 bf).1 8229) 65 = .ok (.getfield 1377, 3) := zd zm_8229 (by decide +kernel)
theorem d_8229_68 {σ : Nat → Nat} {n0 : Nat} {bf : ab_B} : decode (ab_code (zx σ n0 bf).1 8229) 68 = .ok (.iconst 1, 1) := zd zm_8229 (by decide +kernel)
theorem d_8229_69 {σ : Nat → Nat} {n0 : Nat} {bf : ab_B} : decode (ab_code (zx σ n0 bf).1 8229) 69 = .ok (.iadd, 1) := zd zm_8229 (by decide +kernel)
theorem d_8229_70 {σ : Nat → Nat} {n0 : Nat} {bf : ab_B} : decode (ab_code (zx σ n0 bf).1 8229) 70 = .ok (.putfield 1377, 3) := zd zm_8229 (by decide +kernel)
theorem d_8229_73 {σ : Nat → Nat} {n0 : Nat} {bf : ab_B} : decode (ab_code (zx σ n0 bf).1 8229) 73 = .ok (.goto 169, 3) := zd zm_8229 (by decide +kernel)
theorem d_8229_76 {σ : Nat → Nat} {n0 : Nat} {bf : ab_B} : decode (ab_code (zx σ n0 bf).1 8229) 76 = .ok (.aload_n 0, 1) := zd zm_8229 (by decide +kernel)
theorem d_8229_77 {σ : Nat → Nat} {n0 : Nat} {bf : ab_B} : decode (ab_code (zx σ n0 bf).1 8229) 77 = .ok (.getfield 1377, 3) := zd zm_8229 (by decide +kernel)
theorem d_8229_80 {σ : Nat → Nat} {n0 : Nat} {bf : ab_B} : decode (ab_code (zx σ n0 bf).1 8229) 80 = .ok (.istore 4, 2) := zd zm_8229 (by decide +kernel)
theorem d_8229_82 {σ : Nat → Nat} {n0 : Nat} {bf : ab_B} : decode (ab_code (zx σ n0 bf).1 8229) 82 = .ok (.aload_n 0, 1) := zd zm_8229 (by decide +kernel)
theorem d_8229_83 {σ : Nat → Nat} {n0 : Nat} {bf : ab_B} : decode (ab_code (zx σ n0 bf).1 8229) 83 = .ok (.dup, 1) := zd zm_8229 (by decide +kernel)
theorem d_8229_84 {σ : Nat → Nat} {n0 : Nat} {bf : ab_B} : decode (ab_code (zx σ n0 bf).1 8229) 84 = .ok (.getfield 1377, 3) := zd zm_8229 (by decide +kernel)
theorem d_8229_87 {σ : Nat → Nat} {n0 : Nat} {bf : ab_B} : decode (ab_code (zx σ n0 bf).1 8229) 87 = .ok (.iconst 1, 1) := zd zm_8229 (by decide +kernel)
theorem d_8229_88 {σ : Nat → Nat} {n0 : Nat} {bf : ab_B} : decode (ab_code (zx σ n0 bf).1 8229) 88 = .ok (.iadd, 1) := zd zm_8229 (by decide +kernel)
theorem d_8229_89 {σ : Nat → Nat} {n0 : Nat} {bf : ab_B} : decode (ab_code (zx σ n0 bf).1 8229) 89 = .ok (.putfield 1377, 3) := zd zm_8229 (by decide +kernel)
theorem d_8229_92 {σ : Nat → Nat} {n0 : Nat} {bf : ab_B} : decode (ab_code (zx σ n0 bf).1 8229) 92 = .ok (.iload_n 3, 1) := zd zm_8229 (by decide +kernel)
theorem d_8229_93 {σ : Nat → Nat} {n0 : Nat} {bf : ab_B} : decode (ab_code (zx σ n0 bf).1 8229) 93 = .ok (.bipush 20, 2) := zd zm_8229 (by decide +kernel)
theorem d_8229_95 {σ : Nat → Nat} {n0 : Nat} {bf : ab_B} : decode (ab_code (zx σ n0 bf).1 8229) 95 = .ok (.if_icmp .ge 32, 3) := zd zm_8229 (by decide +kernel)
theorem d_8229_98 {σ : Nat → Nat} {n0 : Nat} {bf : ab_B} : decode (ab_code (zx σ n0 bf).1 8229) 98 = .ok (.aload_n 0, 1) := zd zm_8229 (by decide +kernel)
theorem d_8229_99 {σ : Nat → Nat} {n0 : Nat} {bf : ab_B} : decode (ab_code (zx σ n0 bf).1 8229) 99 = .ok (.iload_n 3, 1) := zd zm_8229 (by decide +kernel)
theorem d_8229_100 {σ : Nat → Nat} {n0 : Nat} {bf : ab_B} : decode (ab_code (zx σ n0 bf).1 8229) 100 = .ok (.aload_n 0, 1) := zd zm_8229 (by decide +kernel)
theorem d_8229_101 {σ : Nat → Nat} {n0 : Nat} {bf : ab_B} : decode (ab_code (zx σ n0 bf).1 8229) 101 = .ok (.getfield 75, 3) := zd zm_8229 (by decide +kernel)
theorem d_8229_104 {σ : Nat → Nat} {n0 : Nat} {bf : ab_B} : decode (ab_code (zx σ n0 bf).1 8229) 104 = .ok (.iload 4, 2) := zd zm_8229 (by decide +kernel)
theorem d_8229_106 {σ : Nat → Nat} {n0 : Nat} {bf : ab_B} : decode (ab_code (zx σ n0 bf).1 8229) 106 = .ok (.iaload, 1) := zd zm_8229 (by decide +kernel)
theorem d_8229_107 {σ : Nat → Nat} {n0 : Nat} {bf : ab_B} : decode (ab_code (zx σ n0 bf).1 8229) 107 = .ok (.aload_n 0, 1) := zd zm_8229 (by decide +kernel)
theorem d_8229_108 {σ : Nat → Nat} {n0 : Nat} {bf : ab_B} : decode (ab_code (zx σ n0 bf).1 8229) 108 = .ok (.getfield 78, 3) := zd zm_8229 (by decide +kernel)
theorem d_8229_111 {σ : Nat → Nat} {n0 : Nat} {bf : ab_B} : decode (ab_code (zx σ n0 bf).1 8229) 111 = .ok (.iload 4, 2) := zd zm_8229 (by decide +kernel)
theorem d_8229_113 {σ : Nat → Nat} {n0 : Nat} {bf : ab_B} : decode (ab_code (zx σ n0 bf).1 8229) 113 = .ok (.iaload, 1) := zd zm_8229 (by decide +kernel)
theorem d_8229_114 {σ : Nat → Nat} {n0 : Nat} {bf : ab_B} : decode (ab_code (zx σ n0 bf).1 8229) 114 = .ok (.aload_n 0, 1) := zd zm_8229 (by decide +kernel)
theorem d_8229_115 {σ : Nat → Nat} {n0 : Nat} {bf : ab_B} : decode (ab_code (zx σ n0 bf).1 8229) 115 = .ok (.getfield 81, 3) := zd zm_8229 (by decide +kernel)
theorem d_8229_118 {σ : Nat → Nat} {n0 : Nat} {bf : ab_B} : decode (ab_code (zx σ n0 bf).1 8229) 118 = .ok (.iload 4, 2) := zd zm_8229 (by decide +kernel)
theorem d_8229_120 {σ : Nat → Nat} {n0 : Nat} {bf : ab_B} : decode (ab_code (zx σ n0 bf).1 8229) 120 = .ok (.iaload, 1) := zd zm_8229 (by decide +kernel)
theorem d_8229_121 {σ : Nat → Nat} {n0 : Nat} {bf : ab_B} : decode (ab_code (zx σ n0 bf).1 8229) 121 = .ok (.invokevirtual 1500, 3) := zd zm_8229 (by decide +kernel)
theorem d_8229_124 {σ : Nat → Nat} {n0 : Nat} {bf : ab_B} : decode (ab_code (zx σ n0 bf).1 8229) 124 = .ok (.goto 95, 3) := zd zm_8229 (by decide +kernel)
theorem d_8229_127 {σ : Nat → Nat} {n0 : Nat} {bf : ab_B} : decode (ab_code (zx σ n0 bf).1 8229) 127 = .ok (.iload_n 3, 1) := zd zm_8229 (by decide +kernel)
theorem d_8229_128 {σ : Nat → Nat} {n0 : Nat} {bf : ab_B} : decode (ab_code (zx σ n0 bf).1 8229) 128 = .ok (.bipush 50, 2) := zd zm_8229 (by decide +kernel)
theorem d_8229_130 {σ : Nat → Nat} {n0 : Nat} {bf : ab_B} : decode (ab_code (zx σ n0 bf).1 8229) 130 = .ok (.if_icmp .ge 28, 3) := zd zm_8229 (by decide +kernel)
theorem d_8229_133 {σ : Nat → Nat} {n0 : Nat} {bf : ab_B} : decode (ab_code (zx σ n0 bf).1 8229) 133 = .ok (.aload_n 0, 1) := zd zm_8229 (by decide +kernel)
theorem d_8229_134 {σ : Nat → Nat} {n0 : Nat} {bf : ab_B} : decode (ab_code (zx σ n0 bf).1 8229) 134 = .ok (.iload_n 3, 1) := zd zm_8229 (by decide +kernel)
theorem d_8229_135 {σ : Nat → Nat} {n0 : Nat} {bf : ab_B} : decode (ab_code (zx σ n0 bf).1 8229) 135 = .ok (.bipush 20, 2) := zd zm_8229 (by decide +kernel)
theorem d_8229_137 {σ : Nat → Nat} {n0 : Nat} {bf : ab_B} : decode (ab_code (zx σ n0 bf).1 8229) 137 = .ok (.isub, 1) := zd zm_8229 (by decide +kernel)
theorem d_8229_138 {σ : Nat → Nat} {n0 : Nat} {bf : ab_B} : decode (ab_code (zx σ n0 bf).1 8229) 138 = .ok (.aload_n 0, 1) := zd zm_8229 (by decide +kernel)
theorem d_8229_139 {σ : Nat → Nat} {n0 : Nat} {bf : ab_B} : decode (ab_code (zx σ n0 bf).1 8229) 139 = .ok (.getfield 75, 3) := zd zm_8229 (by decide +kernel)
theorem d_8229_142 {σ : Nat → Nat} {n0 : Nat} {bf : ab_B} : decode (ab_code (zx σ n0 bf).1 8229) 142 = .ok (.iload 4, 2) := zd zm_8229 (by decide +kernel)
theorem d_8229_144 {σ : Nat → Nat} {n0 : Nat} {bf : ab_B} : decode (ab_code (zx σ n0 bf).1 8229) 144 = .ok (.iaload, 1) := zd zm_8229 (by decide +kernel)
theorem d_8229_145 {σ : Nat → Nat} {n0 : Nat} {bf : ab_B} : decode (ab_code (zx σ n0 bf).1 8229) 145 = .ok (.aload_n 0, 1) := zd zm_8229 (by decide +kernel)
theorem d_8229_146 {σ : Nat → Nat} {n0 : Nat} {bf : ab_B} : decode (ab_code (zx σ n0 bf).1 8229) 146 = .ok (.getfield 81, 3) := zd zm_8229 (by decide +kernel)
theorem d_8229_149 {σ : Nat → Nat} {n0 : Nat} {bf : ab_B} : decode (ab_code (zx σ n0 bf).1 8229) 149 = .ok (.iload 4, 2) := zd zm_8229 (by decide +kernel)
theorem d_8229_151 {σ : Nat → Nat} {n0 : Nat} {bf : ab_B} : decode (ab_code (zx σ n0 bf).1 8229) 151 = .ok (.iaload, 1) := zd zm_8229 (by decide +kernel)
theorem d_8229_152 {σ : Nat → Nat} {n0 : Nat} {bf : ab_B} : decode (ab_code (zx σ n0 bf).1 8229) 152 = .ok (.invokevirtual 1503, 3) := zd zm_8229 (by decide +kernel)
theorem d_8229_155 {σ : Nat → Nat} {n0 : Nat} {bf : ab_B} : decode (ab_code (zx σ n0 bf).1 8229) 155 = .ok (.goto 64, 3) := zd zm_8229 (by decide +kernel)
theorem d_8229_158 {σ : Nat → Nat} {n0 : Nat} {bf : ab_B} : decode (ab_code (zx σ n0 bf).1 8229) 158 = .ok (.iload_n 3, 1) := zd zm_8229 (by decide +kernel)
theorem d_8229_159 {σ : Nat → Nat} {n0 : Nat} {bf : ab_B} : decode (ab_code (zx σ n0 bf).1 8229) 159 = .ok (.bipush 80, 2) := zd zm_8229 (by decide +kernel)
theorem d_8229_161 {σ : Nat → Nat} {n0 : Nat} {bf : ab_B} : decode (ab_code (zx σ n0 bf).1 8229) 161 = .ok (.if_icmp .ge 32, 3) := zd zm_8229 (by decide +kernel)
theorem d_8229_164 {σ : Nat → Nat} {n0 : Nat} {bf : ab_B} : decode (ab_code (zx σ n0 bf).1 8229) 164 = .ok (.aload_n 0, 1) := zd zm_8229 (by decide +kernel)
theorem d_8229_165 {σ : Nat → Nat} {n0 : Nat} {bf : ab_B} : decode (ab_code (zx σ n0 bf).1 8229) 165 = .ok (.iload_n 3, 1) := zd zm_8229 (by decide +kernel)
theorem d_8229_166 {σ : Nat → Nat} {n0 : Nat} {bf : ab_B} : decode (ab_code (zx σ n0 bf).1 8229) 166 = .ok (.aload_n 0, 1) := zd zm_8229 (by decide +kernel)
theorem d_8229_167 {σ : Nat → Nat} {n0 : Nat} {bf : ab_B} : decode (ab_code (zx σ n0 bf).1 8229) 167 = .ok (.getfield 75, 3) := zd zm_8229 (by decide +kernel)
theorem d_8229_170 {σ : Nat → Nat} {n0 : Nat} {bf : ab_B} : decode (ab_code (zx σ n0 bf).1 8229) 170 = .ok (.iload 4, 2) := zd zm_8229 (by decide +kernel)
theorem d_8229_172 {σ : Nat → Nat} {n0 : Nat} {bf : ab_B} : decode (ab_code (zx σ n0 bf).1 8229) 172 = .ok (.iaload, 1) := zd zm_8229 (by decide +kernel)
theorem d_8229_173 {σ : Nat → Nat} {n0 : Nat} {bf : ab_B} : decode (ab_code (zx σ n0 bf).1 8229) 173 = .ok (.aload_n 0, 1) := zd zm_8229 (by decide +kernel)
theorem d_8229_174 {σ : Nat → Nat} {n0 : Nat} {bf : ab_B} : decode (ab_code (zx σ n0 bf).1 8229) 174 = .ok (.getfield 78, 3) := zd zm_8229 (by decide +kernel)
theorem d_8229_177 {σ : Nat → Nat} {n0 : Nat} {bf : ab_B} : decode (ab_code (zx σ n0 bf).1 8229) 177 = .ok (.iload 4, 2) := zd zm_8229 (by decide +kernel)
theorem d_8229_179 {σ : Nat → Nat} {n0 : Nat} {bf : ab_B} : decode (ab_code (zx σ n0 bf).1 8229) 179 = .ok (.iaload, 1) := zd zm_8229 (by decide +kernel)
theorem d_8229_180 {σ : Nat → Nat} {n0 : Nat} {bf : ab_B} : decode (ab_code (zx σ n0 bf).1 8229) 180 = .ok (.aload_n 0, 1) := zd zm_8229 (by decide +kernel)
theorem d_8229_181 {σ : Nat → Nat} {n0 : Nat} {bf : ab_B} : decode (ab_code (zx σ n0 bf).1 8229) 181 = .ok (.getfield 81, 3) := zd zm_8229 (by decide +kernel)
theorem d_8229_184 {σ : Nat → Nat} {n0 : Nat} {bf : ab_B} : decode (ab_code (zx σ n0 bf).1 8229) 184 = .ok (.iload 4, 2) := zd zm_8229 (by decide +kernel)
theorem d_8229_186 {σ : Nat → Nat} {n0 : Nat} {bf : ab_B} : decode (ab_code (zx σ n0 bf).1 8229) 186 = .ok (.iaload, 1) := zd zm_8229 (by decide +kernel)
theorem d_8229_187 {σ : Nat → Nat} {n0 : Nat} {bf : ab_B} : decode (ab_code (zx σ n0 bf).1 8229) 187 = .ok (.invokevirtual 1506, 3) := zd zm_8229 (by decide +kernel)
theorem d_8229_190 {σ : Nat → Nat} {n0 : Nat} {bf : ab_B} : decode (ab_code (zx σ n0 bf).1 8229) 190 = .ok (.goto 29, 3) := zd zm_8229 (by decide +kernel)
theorem d_8229_193 {σ : Nat → Nat} {n0 : Nat} {bf : ab_B} : decode (ab_code (zx σ n0 bf).1 8229) 193 = .ok (.aload_n 0, 1) := zd zm_8229 (by decide +kernel)
theorem d_8229_194 {σ : Nat → Nat} {n0 : Nat} {bf : ab_B} : decode (ab_code (zx σ n0 bf).1 8229) 194 = .ok (.iload_n 3, 1) := zd zm_8229 (by decide +kernel)
theorem d_8229_195 {σ : Nat → Nat} {n0 : Nat} {bf : ab_B} : decode (ab_code (zx σ n0 bf).1 8229) 195 = .ok (.aload_n 0, 1) := zd zm_8229 (by decide +kernel)
theorem d_8229_196 {σ : Nat → Nat} {n0 : Nat} {bf : ab_B} : decode (ab_code (zx σ n0 bf).1 8229) 196 = .ok (.getfield 75, 3) := zd zm_8229 (by decide +kernel)
theorem d_8229_199 {σ : Nat → Nat} {n0 : Nat} {bf : ab_B} : decode (ab_code (zx σ n0 bf).1 8229) 199 = .ok (.iload 4, 2) := zd zm_8229 (by decide +kernel)
theorem d_8229_201 {σ : Nat → Nat} {n0 : Nat} {bf : ab_B} : decode (ab_code (zx σ n0 bf).1 8229) 201 = .ok (.iaload, 1) := zd zm_8229 (by decide +kernel)
theorem d_8229_202 {σ : Nat → Nat} {n0 : Nat} {bf : ab_B} : decode (ab_code (zx σ n0 bf).1 8229) 202 = .ok (.aload_n 0, 1) := zd zm_8229 (by decide +kernel)
theorem d_8229_203 {σ : Nat → Nat} {n0 : Nat} {bf : ab_B} : decode (ab_code (zx σ n0 bf).1 8229) 203 = .ok (.getfield 78, 3) := zd zm_8229 (by decide +kernel)
theorem d_8229_206 {σ : Nat → Nat} {n0 : Nat} {bf : ab_B} : decode (ab_code (zx σ n0 bf).1 8229) 206 = .ok (.iload 4, 2) := zd zm_8229 (by decide +kernel)
theorem d_8229_208 {σ : Nat → Nat} {n0 : Nat} {bf : ab_B} : decode (ab_code (zx σ n0 bf).1 8229) 208 = .ok (.iaload, 1) := zd zm_8229 (by decide +kernel)
theorem d_8229_209 {σ : Nat → Nat} {n0 : Nat} {bf : ab_B} : decode (ab_code (zx σ n0 bf).1 8229) 209 = .ok (.aload_n 0, 1) := zd zm_8229 (by decide +kernel)
theorem d_8229_210 {σ : Nat → Nat} {n0 : Nat} {bf : ab_B} : decode (ab_code (zx σ n0 bf).1 8229) 210 = .ok (.getfield 81, 3) := zd zm_8229 (by decide +kernel)
theorem d_8229_213 {σ : Nat → Nat} {n0 : Nat} {bf : ab_B} : decode (ab_code (zx σ n0 bf).1 8229) 213 = .ok (.iload 4, 2) := zd zm_8229 (by decide +kernel)
theorem d_8229_215 {σ : Nat → Nat} {n0 : Nat} {bf : ab_B} : decode (ab_code (zx σ n0 bf).1 8229) 215 = .ok (.iaload, 1) := zd zm_8229 (by decide +kernel)
theorem d_8229_216 {σ : Nat → Nat} {n0 : Nat} {bf : ab_B} : decode (ab_code (zx σ n0 bf).1 8229) 216 = .ok (.invokevirtual 1509, 3) := zd zm_8229 (by decide +kernel)
theorem d_8229_219 {σ : Nat → Nat} {n0 : Nat} {bf : ab_B} : decode (ab_code (zx σ n0 bf).1 8229) 219 = .ok (.aload_n 0, 1) := zd zm_8229 (by decide +kernel)
theorem d_8229_220 {σ : Nat → Nat} {n0 : Nat} {bf : ab_B} : decode (ab_code (zx σ n0 bf).1 8229) 220 = .ok (.aload_n 0, 1) := zd zm_8229 (by decide +kernel)
theorem d_8229_221 {σ : Nat → Nat} {n0 : Nat} {bf : ab_B} : decode (ab_code (zx σ n0 bf).1 8229) 221 = .ok (.getfield 1282, 3) := zd zm_8229 (by decide +kernel)
theorem d_8229_224 {σ : Nat → Nat} {n0 : Nat} {bf : ab_B} : decode (ab_code (zx σ n0 bf).1 8229) 224 = .ok (.ifCond .ne 10, 3) := zd zm_8229 (by decide +kernel)
theorem d_8229_227 {σ : Nat → Nat} {n0 : Nat} {bf : ab_B} : decode (ab_code (zx σ n0 bf).1 8229) 227 = .ok (.aload_n 0, 1) := zd zm_8229 (by decide +kernel)
theorem d_8229_228 {σ : Nat → Nat} {n0 : Nat} {bf : ab_B} : decode (ab_code (zx σ n0 bf).1 8229) 228 = .ok (.getfield 1273, 3) := zd zm_8229 (by decide +kernel)
theorem d_8229_231 {σ : Nat → Nat} {n0 : Nat} {bf : ab_B} : decode (ab_code (zx σ n0 bf).1 8229) 231 = .ok (.ifCond .le 7, 3) := zd zm_8229 (by decide +kernel)
theorem d_8229_234 {σ : Nat → Nat} {n0 : Nat} {bf : ab_B} : decode (ab_code (zx σ n0 bf).1 8229) 234 = .ok (.iconst 1, 1) := zd zm_8229 (by decide +kernel)
theorem d_8229_235 {σ : Nat → Nat} {n0 : Nat} {bf : ab_B} : decode (ab_code (zx σ n0 bf).1 8229) 235 = .ok (.goto 4, 3) := zd zm_8229 (by decide +kernel)
theorem d_8229_238 {σ : Nat → Nat} {n0 : Nat} {bf : ab_B} : decode (ab_code (zx σ n0 bf).1 8229) 238 = .ok (.iconst 0, 1) := zd zm_8229 (by decide +kernel)
theorem d_8229_239 {σ : Nat → Nat} {n0 : Nat} {bf : ab_B} : decode (ab_code (zx σ n0 bf).1 8229) 239 = .ok (.putfield 1282, 3) := zd zm_8229 (by decide +kernel)
theorem d_8229_242 {σ : Nat → Nat} {n0 : Nat} {bf : ab_B} : decode (ab_code (zx σ n0 bf).1 8229) 242 = .ok (.goto (-240), 3) := zd zm_8229 (by decide +kernel)
theorem d_8229_245 {σ : Nat → Nat} {n0 : Nat} {bf : ab_B} : decode (ab_code (zx σ n0 bf).1 8229) 245 = .ok (.aload_n 0, 1) := zd zm_8229 (by decide +kernel)
theorem d_8229_246 {σ : Nat → Nat} {n0 : Nat} {bf : ab_B} : decode (ab_code (zx σ n0 bf).1 8229) 246 = .ok (.iconst 0, 1) := zd zm_8229 (by decide +kernel)
theorem d_8229_247 {σ : Nat → Nat} {n0 : Nat} {bf : ab_B} : decode (ab_code (zx σ n0 bf).1 8229) 247 = .ok (.putfield 1222, 3) := zd zm_8229 (by decide +kernel)
theorem d_8229_250 {σ : Nat → Nat} {n0 : Nat} {bf : ab_B} : decode (ab_code (zx σ n0 bf).1 8229) 250 = .ok (.return_, 1) := zd zm_8229 (by decide +kernel)
def w_X9_go_234 (X : zs_X) (d : Nat) (p0 : Nat) (p2 : Int32) (q0 : Option Nat) (S : zs_T) (Q : zs_Q) : Prop :=
  (∃ b1, q0 = some b1 ∧ zs_K S b1 = some (.inl 8) ∧ ab_n0 X.1 ≤ b1 ∧ ∀ S5, S5 = zs_sI S 8201 b1 (1 : Int32) → zs_U X d 8229 2 [(0, .ref p0), (2, .int p2)] [] S5 Q)
theorem u_X9_go_234 {σ : Nat → Nat} {n0 : Nat} {bf : ab_B} {d : Nat} {p0 : Nat} {p2 : Int32} {q0 : Option Nat} {S : zs_T} {Q : zs_Q} (hB : zt_B bf) (h : w_X9_go_234 (zx σ n0 bf) d p0 p2 q0 S Q) : zs_U (zx σ n0 bf) d 8229 234 [(0, .ref p0), (2, .int p2)] [va_rf q0] S Q := by
  unfold w_X9_go_234 at h
  refine zu_iconst d_8229_234 zi_1 ?_
  refine zu_goto (t := 239) d_8229_235 rfl ?_
  obtain ⟨b1, e2, h⟩ := h
  refine zs_stk1 (zs_rfe e2) ?_
  obtain ⟨k3, h⟩ := h
  obtain ⟨k4, h⟩ := h
  refine zp_8_1282 (v := (1 : Int32)) rfl d_8229_239 k3 k4 (Or.inr rfl) ?_
  generalize e6 : zs_sI S 8201 b1 (1 : Int32) = S5
  have h := h S5 e6.symm
  have K7 : ∀ b, zs_K S5 b = zs_K S b := zs_Kt e6 (zs_KsI _ _ _ _) (fun _ => rfl)
  refine zu_goto (t := 2) d_8229_242 rfl ?_
  exact h.weak ⟨rfl, rfl, trivial⟩
def w_X9_go_219 (X : zs_X) (d : Nat) (p0 : Nat) (p2 : Int32) (S : zs_T) (Q : zs_Q) : Prop :=
  (zs_K S p0 = some (.inl 8) ∧ ((¬ (zs_I S 8201 p0) = 0 → w_X9_go_234 X d p0 p2 (some p0) S Q) ∧ (¬ (¬ (zs_I S 8201 p0) = 0) → ((((zs_I S 8197 p0) ≤ 0 → (ab_n0 X.1 ≤ p0 ∧ ∀ S5, S5 = zs_sI S 8201 p0 (0 : Int32) → zs_U X d 8229 2 [(0, .ref p0), (2, .int p2)] [] S5 Q)) ∧ (¬ ((zs_I S 8197 p0) ≤ 0) → w_X9_go_234 X d p0 p2 (some p0) S Q))))))
theorem u_X9_go_219 {σ : Nat → Nat} {n0 : Nat} {bf : ab_B} {d : Nat} {p0 : Nat} {p2 : Int32} {S : zs_T} {Q : zs_Q} (hB : zt_B bf) (h : w_X9_go_219 (zx σ n0 bf) d p0 p2 S Q) : zs_U (zx σ n0 bf) d 8229 219 [(0, .ref p0), (2, .int p2)] [] S Q := by
  unfold w_X9_go_219 at h
  refine zu_aload_n d_8229_219 rfl (zs_ra _) ?_
  refine zu_aload_n d_8229_220 rfl (zs_ra _) ?_
  obtain ⟨k1, h⟩ := h
  refine zg_8_1282 rfl d_8229_221 k1 ?_
  refine zu_ifne (t := 234) d_8229_224 rfl (fun c2 => ?_) (fun c2 => ?_)
  · have h := h.1 c2
    exact (u_X9_go_234 hB h).weak ⟨rfl, rfl, trivial⟩
  · have h := h.2 c2
    refine zu_aload_n d_8229_227 rfl (zs_ra _) ?_
    refine zg_8_1273 rfl d_8229_228 k1 ?_
    refine zu_ifle (t := 238) d_8229_231 rfl (fun c3 => ?_) (fun c3 => ?_)
    · have h := h.1 c3
      refine zu_iconst d_8229_238 zi_0 ?_
      obtain ⟨k4, h⟩ := h
      refine zp_8_1282 (v := (0 : Int32)) rfl d_8229_239 k1 k4 (Or.inl rfl) ?_
      generalize e6 : zs_sI S 8201 p0 (0 : Int32) = S5
      have h := h S5 e6.symm
      have K7 : ∀ b, zs_K S5 b = zs_K S b := zs_Kt e6 (zs_KsI _ _ _ _) (fun _ => rfl)
      refine zu_goto (t := 2) d_8229_242 rfl ?_
      exact h.weak ⟨rfl, rfl, trivial⟩
    · have h := h.2 c3
      exact (u_X9_go_234 hB h).weak ⟨rfl, rfl, trivial⟩
def w_X9_go_190 (X : zs_X) (d : Nat) (p0 : Nat) (p2 : Int32) (S : zs_T) (Q : zs_Q) : Prop :=
  (w_X9_go_219 X d p0 p2 S Q)
theorem u_X9_go_190 {σ : Nat → Nat} {n0 : Nat} {bf : ab_B} {d : Nat} {p0 : Nat} {p2 : Int32} {S : zs_T} {Q : zs_Q} (hB : zt_B bf) (h : w_X9_go_190 (zx σ n0 bf) d p0 p2 S Q) : zs_U (zx σ n0 bf) d 8229 190 [(0, .ref p0), (2, .int p2)] [] S Q := by
  unfold w_X9_go_190 at h
  refine zu_goto (t := 219) d_8229_190 rfl ?_
  exact (u_X9_go_219 hB h).weak ⟨rfl, rfl, trivial⟩
def w_X9_go_155 (X : zs_X) (d : Nat) (p0 : Nat) (p2 : Int32) (S : zs_T) (Q : zs_Q) : Prop :=
  (w_X9_go_219 X d p0 p2 S Q)
theorem u_X9_go_155 {σ : Nat → Nat} {n0 : Nat} {bf : ab_B} {d : Nat} {p0 : Nat} {p2 : Int32} {S : zs_T} {Q : zs_Q} (hB : zt_B bf) (h : w_X9_go_155 (zx σ n0 bf) d p0 p2 S Q) : zs_U (zx σ n0 bf) d 8229 155 [(0, .ref p0), (2, .int p2)] [] S Q := by
  unfold w_X9_go_155 at h
  refine zu_goto (t := 219) d_8229_155 rfl ?_
  exact (u_X9_go_219 hB h).weak ⟨rfl, rfl, trivial⟩
def w_X9_go_124 (X : zs_X) (d : Nat) (p0 : Nat) (p2 : Int32) (S : zs_T) (Q : zs_Q) : Prop :=
  (w_X9_go_219 X d p0 p2 S Q)
theorem u_X9_go_124 {σ : Nat → Nat} {n0 : Nat} {bf : ab_B} {d : Nat} {p0 : Nat} {p2 : Int32} {S : zs_T} {Q : zs_Q} (hB : zt_B bf) (h : w_X9_go_124 (zx σ n0 bf) d p0 p2 S Q) : zs_U (zx σ n0 bf) d 8229 124 [(0, .ref p0), (2, .int p2)] [] S Q := by
  unfold w_X9_go_124 at h
  refine zu_goto (t := 219) d_8229_124 rfl ?_
  exact (u_X9_go_219 hB h).weak ⟨rfl, rfl, trivial⟩
def w_X9_go_92 (X : zs_X) (d : Nat) (p0 : Nat) (p2 : Int32) (p3 : Int32) (p4 : Int32) (S : zs_T) (Q : zs_Q) : Prop :=
  ((((20 : Int32) ≤ p3 → ((((50 : Int32) ≤ p3 → ((((80 : Int32) ≤ p3 → (zs_K S p0 = some (.inl 8) ∧ ∃ b5, (zs_R S 8037 p0) = some b5 ∧ zs_A S b5 0 p4 ∧ ∃ b8, (zs_R S 8038 p0) = some b8 ∧ zs_A S b8 0 p4 ∧ ∃ b11, (zs_R S 8039 p0) = some b11 ∧ zs_A S b11 0 p4 ∧ zs_C X d 8261 [.ref p0, .int p3, .int (zs_i S b5 p4.toNatClampNeg), .int (zs_i S b8 p4.toNatClampNeg), .int (zs_i S b11 p4.toNatClampNeg)] S (zs_kV (fun S14 => w_X9_go_219 X d p0 p2 S14 Q) Q))) ∧ (¬ ((80 : Int32) ≤ p3) → (zs_K S p0 = some (.inl 8) ∧ ∃ b17, (zs_R S 8037 p0) = some b17 ∧ zs_A S b17 0 p4 ∧ ∃ b20, (zs_R S 8038 p0) = some b20 ∧ zs_A S b20 0 p4 ∧ ∃ b23, (zs_R S 8039 p0) = some b23 ∧ zs_A S b23 0 p4 ∧ zs_C X d 8247 [.ref p0, .int p3, .int (zs_i S b17 p4.toNatClampNeg), .int (zs_i S b20 p4.toNatClampNeg), .int (zs_i S b23 p4.toNatClampNeg)] S (zs_kV (fun S26 => w_X9_go_190 X d p0 p2 S26 Q) Q)))))) ∧ (¬ ((50 : Int32) ≤ p3) → (zs_K S p0 = some (.inl 8) ∧ ∃ b29, (zs_R S 8037 p0) = some b29 ∧ zs_A S b29 0 p4 ∧ ∃ b32, (zs_R S 8039 p0) = some b32 ∧ zs_A S b32 0 p4 ∧ zs_C X d 8246 [.ref p0, .int (p3 - (20 : Int32)), .int (zs_i S b29 p4.toNatClampNeg), .int (zs_i S b32 p4.toNatClampNeg)] S (zs_kV (fun S35 => w_X9_go_155 X d p0 p2 S35 Q) Q)))))) ∧ (¬ ((20 : Int32) ≤ p3) → (zs_K S p0 = some (.inl 8) ∧ ∃ b38, (zs_R S 8037 p0) = some b38 ∧ zs_A S b38 0 p4 ∧ ∃ b41, (zs_R S 8038 p0) = some b41 ∧ zs_A S b41 0 p4 ∧ ∃ b44, (zs_R S 8039 p0) = some b44 ∧ zs_A S b44 0 p4 ∧ zs_C X d 8230 [.ref p0, .int p3, .int (zs_i S b38 p4.toNatClampNeg), .int (zs_i S b41 p4.toNatClampNeg), .int (zs_i S b44 p4.toNatClampNeg)] S (zs_kV (fun S47 => w_X9_go_124 X d p0 p2 S47 Q) Q)))))
theorem u_X9_go_92 {σ : Nat → Nat} {n0 : Nat} {bf : ab_B} {d : Nat} {p0 : Nat} {p2 : Int32} {p3 : Int32} {p4 : Int32} {S : zs_T} {Q : zs_Q} (hB : zt_B bf) (h : w_X9_go_92 (zx σ n0 bf) d p0 p2 p3 p4 S Q) : zs_U (zx σ n0 bf) d 8229 92 [(0, .ref p0), (2, .int p2), (3, .int p3), (4, .int p4)] [] S Q := by
  unfold w_X9_go_92 at h
  refine zu_iload_n d_8229_92 rfl ?_
  refine zu_bipush d_8229_93 zj_20 ?_
  refine zu_cmpge (t := 127) d_8229_95 rfl (fun c1 => ?_) (fun c1 => ?_)
  · have h := h.1 c1
    refine zu_iload_n d_8229_127 rfl ?_
    refine zu_bipush d_8229_128 zj_50 ?_
    refine zu_cmpge (t := 158) d_8229_130 rfl (fun c2 => ?_) (fun c2 => ?_)
    · have h := h.1 c2
      refine zu_iload_n d_8229_158 rfl ?_
      refine zu_bipush d_8229_159 zj_80 ?_
      refine zu_cmpge (t := 193) d_8229_161 rfl (fun c3 => ?_) (fun c3 => ?_)
      · have h := h.1 c3
        refine zu_aload_n d_8229_193 rfl (zs_ra _) ?_
        refine zu_iload_n d_8229_194 rfl ?_
        refine zu_aload_n d_8229_195 rfl (zs_ra _) ?_
        obtain ⟨k4, h⟩ := h
        refine zg_8_75 rfl d_8229_196 k4 ?_
        refine zu_iload d_8229_199 rfl ?_
        obtain ⟨b5, e6, h⟩ := h
        refine zs_stk1 (zs_rfe e6) ?_
        obtain ⟨k7, h⟩ := h
        refine zu_iald (k := 0) d_8229_201 rfl rfl k7 ?_
        refine zu_aload_n d_8229_202 rfl (zs_ra _) ?_
        refine zg_8_78 rfl d_8229_203 k4 ?_
        refine zu_iload d_8229_206 rfl ?_
        obtain ⟨b8, e9, h⟩ := h
        refine zs_stk1 (zs_rfe e9) ?_
        obtain ⟨k10, h⟩ := h
        refine zu_iald (k := 0) d_8229_208 rfl rfl k10 ?_
        refine zu_aload_n d_8229_209 rfl (zs_ra _) ?_
        refine zg_8_81 rfl d_8229_210 k4 ?_
        refine zu_iload d_8229_213 rfl ?_
        obtain ⟨b11, e12, h⟩ := h
        refine zs_stk1 (zs_rfe e12) ?_
        obtain ⟨k13, h⟩ := h
        refine zu_iald (k := 0) d_8229_215 rfl rfl k13 ?_
        refine zc_8_1509 (x0 := p3) (x1 := (zs_i S b5 p4.toNatClampNeg)) (x2 := (zs_i S b8 p4.toNatClampNeg)) (x3 := (zs_i S b11 p4.toNatClampNeg)) hB rfl k4 d_8229_216 (Nat.le_of_ble_eq_true rfl) h (fun S14 h => ?_)
        exact (u_X9_go_219 hB h).weak ⟨rfl, rfl, trivial⟩
      · have h := h.2 c3
        refine zu_aload_n d_8229_164 rfl (zs_ra _) ?_
        refine zu_iload_n d_8229_165 rfl ?_
        refine zu_aload_n d_8229_166 rfl (zs_ra _) ?_
        obtain ⟨k16, h⟩ := h
        refine zg_8_75 rfl d_8229_167 k16 ?_
        refine zu_iload d_8229_170 rfl ?_
        obtain ⟨b17, e18, h⟩ := h
        refine zs_stk1 (zs_rfe e18) ?_
        obtain ⟨k19, h⟩ := h
        refine zu_iald (k := 0) d_8229_172 rfl rfl k19 ?_
        refine zu_aload_n d_8229_173 rfl (zs_ra _) ?_
        refine zg_8_78 rfl d_8229_174 k16 ?_
        refine zu_iload d_8229_177 rfl ?_
        obtain ⟨b20, e21, h⟩ := h
        refine zs_stk1 (zs_rfe e21) ?_
        obtain ⟨k22, h⟩ := h
        refine zu_iald (k := 0) d_8229_179 rfl rfl k22 ?_
        refine zu_aload_n d_8229_180 rfl (zs_ra _) ?_
        refine zg_8_81 rfl d_8229_181 k16 ?_
        refine zu_iload d_8229_184 rfl ?_
        obtain ⟨b23, e24, h⟩ := h
        refine zs_stk1 (zs_rfe e24) ?_
        obtain ⟨k25, h⟩ := h
        refine zu_iald (k := 0) d_8229_186 rfl rfl k25 ?_
        refine zc_8_1506 (x0 := p3) (x1 := (zs_i S b17 p4.toNatClampNeg)) (x2 := (zs_i S b20 p4.toNatClampNeg)) (x3 := (zs_i S b23 p4.toNatClampNeg)) hB rfl k16 d_8229_187 (Nat.le_of_ble_eq_true rfl) h (fun S26 h => ?_)
        exact (u_X9_go_190 hB h).weak ⟨rfl, rfl, trivial⟩
    · have h := h.2 c2
      refine zu_aload_n d_8229_133 rfl (zs_ra _) ?_
      refine zu_iload_n d_8229_134 rfl ?_
      refine zu_bipush d_8229_135 zj_20 ?_
      refine zu_stk d_8229_137 rfl rfl ?_
      refine zu_aload_n d_8229_138 rfl (zs_ra _) ?_
      obtain ⟨k28, h⟩ := h
      refine zg_8_75 rfl d_8229_139 k28 ?_
      refine zu_iload d_8229_142 rfl ?_
      obtain ⟨b29, e30, h⟩ := h
      refine zs_stk1 (zs_rfe e30) ?_
      obtain ⟨k31, h⟩ := h
      refine zu_iald (k := 0) d_8229_144 rfl rfl k31 ?_
      refine zu_aload_n d_8229_145 rfl (zs_ra _) ?_
      refine zg_8_81 rfl d_8229_146 k28 ?_
      refine zu_iload d_8229_149 rfl ?_
      obtain ⟨b32, e33, h⟩ := h
      refine zs_stk1 (zs_rfe e33) ?_
      obtain ⟨k34, h⟩ := h
      refine zu_iald (k := 0) d_8229_151 rfl rfl k34 ?_
      refine zc_8_1503 (x0 := (p3 - (20 : Int32))) (x1 := (zs_i S b29 p4.toNatClampNeg)) (x2 := (zs_i S b32 p4.toNatClampNeg)) hB rfl k28 d_8229_152 (Nat.le_of_ble_eq_true rfl) h (fun S35 h => ?_)
      exact (u_X9_go_155 hB h).weak ⟨rfl, rfl, trivial⟩
  · have h := h.2 c1
    refine zu_aload_n d_8229_98 rfl (zs_ra _) ?_
    refine zu_iload_n d_8229_99 rfl ?_
    refine zu_aload_n d_8229_100 rfl (zs_ra _) ?_
    obtain ⟨k37, h⟩ := h
    refine zg_8_75 rfl d_8229_101 k37 ?_
    refine zu_iload d_8229_104 rfl ?_
    obtain ⟨b38, e39, h⟩ := h
    refine zs_stk1 (zs_rfe e39) ?_
    obtain ⟨k40, h⟩ := h
    refine zu_iald (k := 0) d_8229_106 rfl rfl k40 ?_
    refine zu_aload_n d_8229_107 rfl (zs_ra _) ?_
    refine zg_8_78 rfl d_8229_108 k37 ?_
    refine zu_iload d_8229_111 rfl ?_
    obtain ⟨b41, e42, h⟩ := h
    refine zs_stk1 (zs_rfe e42) ?_
    obtain ⟨k43, h⟩ := h
    refine zu_iald (k := 0) d_8229_113 rfl rfl k43 ?_
    refine zu_aload_n d_8229_114 rfl (zs_ra _) ?_
    refine zg_8_81 rfl d_8229_115 k37 ?_
    refine zu_iload d_8229_118 rfl ?_
    obtain ⟨b44, e45, h⟩ := h
    refine zs_stk1 (zs_rfe e45) ?_
    obtain ⟨k46, h⟩ := h
    refine zu_iald (k := 0) d_8229_120 rfl rfl k46 ?_
    refine zc_8_1500 (x0 := p3) (x1 := (zs_i S b38 p4.toNatClampNeg)) (x2 := (zs_i S b41 p4.toNatClampNeg)) (x3 := (zs_i S b44 p4.toNatClampNeg)) hB rfl k37 d_8229_121 (Nat.le_of_ble_eq_true rfl) h (fun S47 h => ?_)
    exact (u_X9_go_124 hB h).weak ⟨rfl, rfl, trivial⟩
def w_X9_go_73 (X : zs_X) (d : Nat) (p0 : Nat) (p2 : Int32) (S : zs_T) (Q : zs_Q) : Prop :=
  (zs_U X d 8229 2 [(0, .ref p0), (2, .int p2)] [] S Q)
theorem u_X9_go_73 {σ : Nat → Nat} {n0 : Nat} {bf : ab_B} {d : Nat} {p0 : Nat} {p2 : Int32} {S : zs_T} {Q : zs_Q} (hB : zt_B bf) (h : w_X9_go_73 (zx σ n0 bf) d p0 p2 S Q) : zs_U (zx σ n0 bf) d 8229 73 [(0, .ref p0), (2, .int p2)] [] S Q := by
  unfold w_X9_go_73 at h
  refine zu_goto (t := 242) d_8229_73 rfl ?_
  refine zu_goto (t := 2) d_8229_242 rfl ?_
  exact h.weak ⟨rfl, rfl, trivial⟩
def w_X9_go_43 (X : zs_X) (d : Nat) (p0 : Nat) (p2 : Int32) (S : zs_T) (Q : zs_Q) : Prop :=
  (zs_K S p0 = some (.inl 8) ∧ ∃ b2, (zs_R S 8039 p0) = some b2 ∧ zs_A S b2 0 (zs_I S 8199 p0) ∧ ∃ b5, (zs_R S 8164 p0) = some b5 ∧ zs_A S b5 0 ((zs_I S 8165 p0) - (1 : Int32)) ∧ ab_n0 X.1 ≤ b5 ∧ ∀ S9, S9 = zs_si S b5 ((zs_I S 8165 p0) - (1 : Int32)).toNatClampNeg (zs_i S b2 (zs_I S 8199 p0).toNatClampNeg) → ab_n0 X.1 ≤ p0 ∧ ∀ S13, S13 = zs_sI S9 8199 p0 ((zs_I S9 8199 p0) + (1 : Int32)) → w_X9_go_73 X d p0 p2 S13 Q)
theorem u_X9_go_43 {σ : Nat → Nat} {n0 : Nat} {bf : ab_B} {d : Nat} {p0 : Nat} {p2 : Int32} {S : zs_T} {Q : zs_Q} (hB : zt_B bf) (h : w_X9_go_43 (zx σ n0 bf) d p0 p2 S Q) : zs_U (zx σ n0 bf) d 8229 43 [(0, .ref p0), (2, .int p2)] [] S Q := by
  unfold w_X9_go_43 at h
  refine zu_aload_n d_8229_43 rfl (zs_ra _) ?_
  obtain ⟨k1, h⟩ := h
  refine zg_8_359 rfl d_8229_44 k1 ?_
  refine zu_aload_n d_8229_47 rfl (zs_ra _) ?_
  refine zg_8_1240 rfl d_8229_48 k1 ?_
  refine zu_iconst d_8229_51 zi_1 ?_
  refine zu_stk d_8229_52 rfl rfl ?_
  refine zu_aload_n d_8229_53 rfl (zs_ra _) ?_
  refine zg_8_81 rfl d_8229_54 k1 ?_
  refine zu_aload_n d_8229_57 rfl (zs_ra _) ?_
  refine zg_8_1377 rfl d_8229_58 k1 ?_
  obtain ⟨b2, e3, h⟩ := h
  refine zs_stk1 (zs_rfe e3) ?_
  obtain ⟨k4, h⟩ := h
  refine zu_iald (k := 0) d_8229_61 rfl rfl k4 ?_
  obtain ⟨b5, e6, h⟩ := h
  refine zs_stk2 (zs_rfe e6) ?_
  obtain ⟨k7, h⟩ := h
  obtain ⟨k8, h⟩ := h
  refine zu_iast (k := 0) d_8229_62 rfl rfl k8 k7 ?_
  generalize e10 : zs_si S b5 ((zs_I S 8165 p0) - (1 : Int32)).toNatClampNeg (zs_i S b2 (zs_I S 8199 p0).toNatClampNeg) = S9
  have h := h S9 e10.symm
  have K11 : ∀ b, zs_K S9 b = zs_K S b := zs_Kt e10 (zs_Ksi _ _ _ _) (fun _ => rfl)
  refine zu_aload_n d_8229_63 rfl (zs_ra _) ?_
  refine zu_dup d_8229_64 rfl ?_
  refine zg_8_1377 rfl d_8229_65 ((K11 _).trans k1) ?_
  refine zu_iconst d_8229_68 zi_1 ?_
  refine zu_stk d_8229_69 rfl rfl ?_
  obtain ⟨k12, h⟩ := h
  refine zp_8_1377 (v := ((zs_I S9 8199 p0) + (1 : Int32))) rfl d_8229_70 ((K11 _).trans k1) k12 ?_
  generalize e14 : zs_sI S9 8199 p0 ((zs_I S9 8199 p0) + (1 : Int32)) = S13
  have h := h S13 e14.symm
  have K15 : ∀ b, zs_K S13 b = zs_K S b := zs_Kt e14 (zs_KsI _ _ _ _) K11
  exact (u_X9_go_73 hB h).weak ⟨rfl, rfl, trivial⟩
def w_X9_go_2 (X : zs_X) (d : Nat) (p0 : Nat) (p2 : Int32) (S : zs_T) (Q : zs_Q) : Prop :=
  (zs_K S p0 = some (.inl 8) ∧ ((¬ (zs_I S 8201 p0) = 0 → (ab_n0 X.1 ≤ p0 ∧ ∀ S4, S4 = zs_sI S 8196 p0 (0 : Int32) → Q (.returned none) S4)) ∧ (¬ (¬ (zs_I S 8201 p0) = 0) → (∃ b7, (zs_R S 8036 p0) = some b7 ∧ zs_A S b7 0 (zs_I S 8199 p0) ∧ ((¬ (zs_i S b7 (zs_I S 8199 p0).toNatClampNeg) = (82 : Int32) → (ab_n0 X.1 ≤ p0 ∧ ∀ S12, S12 = zs_sI S 8199 p0 ((zs_I S 8199 p0) + (1 : Int32)) → w_X9_go_92 X d p0 p2 (zs_i S b7 (zs_I S 8199 p0).toNatClampNeg) (zs_I S 8199 p0) S12 Q)) ∧ (¬ (¬ (zs_i S b7 (zs_I S 8199 p0).toNatClampNeg) = (82 : Int32)) → (((¬ p2 = 0 → (ab_n0 X.1 ≤ p0 ∧ ∀ S17, S17 = zs_sI S 8200 p0 ((zs_I S 8200 p0) + (1 : Int32)) → w_X9_go_43 X d p0 (p2 + (-1 : Int32)) S17 Q)) ∧ (¬ (¬ p2 = 0) → (Q (.returned none) S))))))))))
theorem u_X9_go_2 {σ : Nat → Nat} {n0 : Nat} {bf : ab_B} {d : Nat} {p0 : Nat} {p2 : Int32} {S : zs_T} {Q : zs_Q} (hB : zt_B bf) (h : w_X9_go_2 (zx σ n0 bf) d p0 p2 S Q) : zs_U (zx σ n0 bf) d 8229 2 [(0, .ref p0), (2, .int p2)] [] S Q := by
  unfold w_X9_go_2 at h
  refine zu_aload_n d_8229_2 rfl (zs_ra _) ?_
  obtain ⟨k1, h⟩ := h
  refine zg_8_1282 rfl d_8229_3 k1 ?_
  refine zu_ifne (t := 245) d_8229_6 rfl (fun c2 => ?_) (fun c2 => ?_)
  · have h := h.1 c2
    refine zu_aload_n d_8229_245 rfl (zs_ra _) ?_
    refine zu_iconst d_8229_246 zi_0 ?_
    obtain ⟨k3, h⟩ := h
    refine zp_8_1222 (v := (0 : Int32)) rfl d_8229_247 k1 k3 (Or.inl rfl) ?_
    generalize e5 : zs_sI S 8196 p0 (0 : Int32) = S4
    have h := h S4 e5.symm
    have K6 : ∀ b, zs_K S4 b = zs_K S b := zs_Kt e5 (zs_KsI _ _ _ _) (fun _ => rfl)
    exact zu_vret d_8229_250 zr_8229 h
  · have h := h.2 c2
    refine zu_aload_n d_8229_9 rfl (zs_ra _) ?_
    refine zg_8_72 rfl d_8229_10 k1 ?_
    refine zu_aload_n d_8229_13 rfl (zs_ra _) ?_
    refine zg_8_1377 rfl d_8229_14 k1 ?_
    obtain ⟨b7, e8, h⟩ := h
    refine zs_stk1 (zs_rfe e8) ?_
    obtain ⟨k9, h⟩ := h
    refine zu_iald (k := 0) d_8229_17 rfl rfl k9 ?_
    refine zu_istore_n d_8229_18 (zs_lt zq_8229 rfl) ?_
    refine zu_iload_n d_8229_19 rfl ?_
    refine zu_bipush d_8229_20 zj_82 ?_
    refine zu_cmpne (t := 76) d_8229_22 rfl (fun c10 => ?_) (fun c10 => ?_)
    · have h := h.1 c10
      refine zu_aload_n d_8229_76 rfl (zs_ra _) ?_
      refine zg_8_1377 rfl d_8229_77 k1 ?_
      refine zu_istore d_8229_80 (zs_lt zq_8229 rfl) ?_
      refine zu_aload_n d_8229_82 rfl (zs_ra _) ?_
      refine zu_dup d_8229_83 rfl ?_
      refine zg_8_1377 rfl d_8229_84 k1 ?_
      refine zu_iconst d_8229_87 zi_1 ?_
      refine zu_stk d_8229_88 rfl rfl ?_
      obtain ⟨k11, h⟩ := h
      refine zp_8_1377 (v := ((zs_I S 8199 p0) + (1 : Int32))) rfl d_8229_89 k1 k11 ?_
      generalize e13 : zs_sI S 8199 p0 ((zs_I S 8199 p0) + (1 : Int32)) = S12
      have h := h S12 e13.symm
      have K14 : ∀ b, zs_K S12 b = zs_K S b := zs_Kt e13 (zs_KsI _ _ _ _) (fun _ => rfl)
      exact (u_X9_go_92 hB h).weak ⟨rfl, rfl, rfl, rfl, trivial⟩
    · have h := h.2 c10
      refine zu_iload_n d_8229_25 rfl ?_
      refine zu_ifne (t := 30) d_8229_26 rfl (fun c15 => ?_) (fun c15 => ?_)
      · have h := h.1 c15
        refine zu_iinc d_8229_30 rfl zi_m1 (zs_lt zq_8229 rfl) ?_
        refine zu_aload_n d_8229_33 rfl (zs_ra _) ?_
        refine zu_dup d_8229_34 rfl ?_
        refine zg_8_1276 rfl d_8229_35 k1 ?_
        refine zu_iconst d_8229_38 zi_1 ?_
        refine zu_stk d_8229_39 rfl rfl ?_
        obtain ⟨k16, h⟩ := h
        refine zp_8_1276 (v := ((zs_I S 8200 p0) + (1 : Int32))) rfl d_8229_40 k1 k16 ?_
        generalize e18 : zs_sI S 8200 p0 ((zs_I S 8200 p0) + (1 : Int32)) = S17
        have h := h S17 e18.symm
        have K19 : ∀ b, zs_K S17 b = zs_K S b := zs_Kt e18 (zs_KsI _ _ _ _) (fun _ => rfl)
        exact (u_X9_go_43 hB h).weak ⟨rfl, rfl, trivial⟩
      · have h := h.2 c15
        exact zu_vret d_8229_29 zr_8229 h
def w_X9_go (X : zs_X) (d : Nat) (p0 : Nat) (p1 : Int32) (S : zs_T) (Q : zs_Q) : Prop :=
  (zs_U X d 8229 2 [(0, .ref p0), (2, .int p1)] [] S Q)
theorem u_X9_go {σ : Nat → Nat} {n0 : Nat} {bf : ab_B} {d : Nat} {p0 : Nat} {p1 : Int32} {S : zs_T} {Q : zs_Q} (hB : zt_B bf) (hd : 1 ≤ d) (h : w_X9_go (zx σ n0 bf) (d - 1) p0 p1 S Q) : zs_C (zx σ n0 bf) d 8229 [.ref p0, .int p1] S Q := by
  have hL : lv_args 0 [.ref p0, .int p1] = [(0, .ref p0), (1, .int p1)] := rfl
  refine zs_C.of1 (hB.2 8229 (by decide) (by decide)) hd (by rw [hL]; exact zs_sub_self _ (by exact ⟨rfl, rfl, trivial⟩)) ?_
  rw [hL]
  clear hL
  unfold w_X9_go at h
  refine zu_iload_n d_8229_0 rfl ?_
  refine zu_istore_n d_8229_1 (zs_lt zq_8229 rfl) ?_
  exact h.weak ⟨rfl, rfl, trivial⟩
/-! SchemaPascalModel.variableWork(IIII)V -/
theorem zm_8230 {σ : Nat → Nat} {n0 : Nat} {bf : ab_B} : ab_code (zx σ n0 bf).1 8230 = prog_17_method_267_code := rfl
theorem zq_8230 {σ : Nat → Nat} {n0 : Nat} {bf : ab_B} : ab_maxL (zx σ n0 bf).1 8230 = 6 := rfl
theorem zr_8230 {σ : Nat → Nat} {n0 : Nat} {bf : ab_B} : ab_ret (zx σ n0 bf).1 8230 = (Option.none : Option Jvm.ClassFile.FieldType) := rfl
theorem d_8230_0 {σ : Nat → Nat} {n0 : Nat} {bf : ab_B} : decode (ab_code (zx σ n0 bf).1 8230) 0 = .ok (.iload_n 1, 1) := zd zm_8230 (by decide +kernel)
theorem d_8230_1 {σ : Nat → Nat} {n0 : Nat} {bf : ab_B} : decode (ab_code (zx σ n0 bf).1 8230) 1 = .ok (.tableswitch 261 1 9 #[51, 60, 105, 148, 158, 167, 176, 206, 215], 51) := zd zm_8230 (by decide +kernel)
theorem d_8230_52 {σ : Nat → Nat} {n0 : Nat} {bf : ab_B} : decode (ab_code (zx σ n0 bf).1 8230) 52 = .ok (.aload_n 0, 1) := zd zm_8230 (by decide +kernel)
theorem d_8230_53 {σ : Nat → Nat} {n0 : Nat} {bf : ab_B} : decode (ab_code (zx σ n0 bf).1 8230) 53 = .ok (.iload_n 2, 1) := zd zm_8230 (by decide +kernel)
theorem d_8230_54 {σ : Nat → Nat} {n0 : Nat} {bf : ab_B} : decode (ab_code (zx σ n0 bf).1 8230) 54 = .ok (.i2l, 1) := zd zm_8230 (by decide +kernel)
theorem d_8230_55 {σ : Nat → Nat} {n0 : Nat} {bf : ab_B} : decode (ab_code (zx σ n0 bf).1 8230) 55 = .ok (.invokevirtual 1326, 3) := zd zm_8230 (by decide +kernel)
theorem d_8230_58 {σ : Nat → Nat} {n0 : Nat} {bf : ab_B} : decode (ab_code (zx σ n0 bf).1 8230) 58 = .ok (.goto 218, 3) := zd zm_8230 (by decide +kernel)
theorem d_8230_61 {σ : Nat → Nat} {n0 : Nat} {bf : ab_B} : decode (ab_code (zx σ n0 bf).1 8230) 61 = .ok (.aload_n 0, 1) := zd zm_8230 (by decide +kernel)
theorem d_8230_62 {σ : Nat → Nat} {n0 : Nat} {bf : ab_B} : decode (ab_code (zx σ n0 bf).1 8230) 62 = .ok (.invokevirtual 1310, 3) := zd zm_8230 (by decide +kernel)
theorem d_8230_65 {σ : Nat → Nat} {n0 : Nat} {bf : ab_B} : decode (ab_code (zx σ n0 bf).1 8230) 65 = .ok (.iconst 0, 1) := zd zm_8230 (by decide +kernel)
theorem d_8230_66 {σ : Nat → Nat} {n0 : Nat} {bf : ab_B} : decode (ab_code (zx σ n0 bf).1 8230) 66 = .ok (.istore 5, 2) := zd zm_8230 (by decide +kernel)
theorem d_8230_68 {σ : Nat → Nat} {n0 : Nat} {bf : ab_B} : decode (ab_code (zx σ n0 bf).1 8230) 68 = .ok (.iload 5, 2) := zd zm_8230 (by decide +kernel)
theorem d_8230_70 {σ : Nat → Nat} {n0 : Nat} {bf : ab_B} : decode (ab_code (zx σ n0 bf).1 8230) 70 = .ok (.iload_n 3, 1) := zd zm_8230 (by decide +kernel)
theorem d_8230_71 {σ : Nat → Nat} {n0 : Nat} {bf : ab_B} : decode (ab_code (zx σ n0 bf).1 8230) 71 = .ok (.if_icmp .ge 32, 3) := zd zm_8230 (by decide +kernel)
theorem d_8230_74 {σ : Nat → Nat} {n0 : Nat} {bf : ab_B} : decode (ab_code (zx σ n0 bf).1 8230) 74 = .ok (.aload_n 0, 1) := zd zm_8230 (by decide +kernel)
theorem d_8230_75 {σ : Nat → Nat} {n0 : Nat} {bf : ab_B} : decode (ab_code (zx σ n0 bf).1 8230) 75 = .ok (.getfield 1273, 3) := zd zm_8230 (by decide +kernel)
theorem d_8230_78 {σ : Nat → Nat} {n0 : Nat} {bf : ab_B} : decode (ab_code (zx σ n0 bf).1 8230) 78 = .ok (.ifCond .ne 25, 3) := zd zm_8230 (by decide +kernel)
theorem d_8230_81 {σ : Nat → Nat} {n0 : Nat} {bf : ab_B} : decode (ab_code (zx σ n0 bf).1 8230) 81 = .ok (.aload_n 0, 1) := zd zm_8230 (by decide +kernel)
theorem d_8230_82 {σ : Nat → Nat} {n0 : Nat} {bf : ab_B} : decode (ab_code (zx σ n0 bf).1 8230) 82 = .ok (.aload_n 0, 1) := zd zm_8230 (by decide +kernel)
theorem d_8230_83 {σ : Nat → Nat} {n0 : Nat} {bf : ab_B} : decode (ab_code (zx σ n0 bf).1 8230) 83 = .ok (.getfield 41, 3) := zd zm_8230 (by decide +kernel)
theorem d_8230_86 {σ : Nat → Nat} {n0 : Nat} {bf : ab_B} : decode (ab_code (zx σ n0 bf).1 8230) 86 = .ok (.iload_n 2, 1) := zd zm_8230 (by decide +kernel)
theorem d_8230_87 {σ : Nat → Nat} {n0 : Nat} {bf : ab_B} : decode (ab_code (zx σ n0 bf).1 8230) 87 = .ok (.iload 5, 2) := zd zm_8230 (by decide +kernel)
theorem d_8230_89 {σ : Nat → Nat} {n0 : Nat} {bf : ab_B} : decode (ab_code (zx σ n0 bf).1 8230) 89 = .ok (.iadd, 1) := zd zm_8230 (by decide +kernel)
theorem d_8230_90 {σ : Nat → Nat} {n0 : Nat} {bf : ab_B} : decode (ab_code (zx σ n0 bf).1 8230) 90 = .ok (.baload, 1) := zd zm_8230 (by decide +kernel)
theorem d_8230_91 {σ : Nat → Nat} {n0 : Nat} {bf : ab_B} : decode (ab_code (zx σ n0 bf).1 8230) 91 = .ok (.i2l, 1) := zd zm_8230 (by decide +kernel)
theorem d_8230_92 {σ : Nat → Nat} {n0 : Nat} {bf : ab_B} : decode (ab_code (zx σ n0 bf).1 8230) 92 = .ok (.iload 4, 2) := zd zm_8230 (by decide +kernel)
theorem d_8230_94 {σ : Nat → Nat} {n0 : Nat} {bf : ab_B} : decode (ab_code (zx σ n0 bf).1 8230) 94 = .ok (.invokevirtual 1313, 3) := zd zm_8230 (by decide +kernel)
theorem d_8230_97 {σ : Nat → Nat} {n0 : Nat} {bf : ab_B} : decode (ab_code (zx σ n0 bf).1 8230) 97 = .ok (.iinc 5 1, 3) := zd zm_8230 (by decide +kernel)
theorem d_8230_100 {σ : Nat → Nat} {n0 : Nat} {bf : ab_B} : decode (ab_code (zx σ n0 bf).1 8230) 100 = .ok (.goto (-32), 3) := zd zm_8230 (by decide +kernel)
theorem d_8230_103 {σ : Nat → Nat} {n0 : Nat} {bf : ab_B} : decode (ab_code (zx σ n0 bf).1 8230) 103 = .ok (.goto 173, 3) := zd zm_8230 (by decide +kernel)
theorem d_8230_106 {σ : Nat → Nat} {n0 : Nat} {bf : ab_B} : decode (ab_code (zx σ n0 bf).1 8230) 106 = .ok (.aload_n 0, 1) := zd zm_8230 (by decide +kernel)
theorem d_8230_107 {σ : Nat → Nat} {n0 : Nat} {bf : ab_B} : decode (ab_code (zx σ n0 bf).1 8230) 107 = .ok (.getfield 365, 3) := zd zm_8230 (by decide +kernel)
theorem d_8230_110 {σ : Nat → Nat} {n0 : Nat} {bf : ab_B} : decode (ab_code (zx σ n0 bf).1 8230) 110 = .ok (.aload_n 0, 1) := zd zm_8230 (by decide +kernel)
theorem d_8230_111 {σ : Nat → Nat} {n0 : Nat} {bf : ab_B} : decode (ab_code (zx σ n0 bf).1 8230) 111 = .ok (.getfield 347, 3) := zd zm_8230 (by decide +kernel)
theorem d_8230_114 {σ : Nat → Nat} {n0 : Nat} {bf : ab_B} : decode (ab_code (zx σ n0 bf).1 8230) 114 = .ok (.aload_n 0, 1) := zd zm_8230 (by decide +kernel)
theorem d_8230_115 {σ : Nat → Nat} {n0 : Nat} {bf : ab_B} : decode (ab_code (zx σ n0 bf).1 8230) 115 = .ok (.iload_n 2, 1) := zd zm_8230 (by decide +kernel)
theorem d_8230_116 {σ : Nat → Nat} {n0 : Nat} {bf : ab_B} : decode (ab_code (zx σ n0 bf).1 8230) 116 = .ok (.invokevirtual 1371, 3) := zd zm_8230 (by decide +kernel)
theorem d_8230_119 {σ : Nat → Nat} {n0 : Nat} {bf : ab_B} : decode (ab_code (zx σ n0 bf).1 8230) 119 = .ok (.iaload, 1) := zd zm_8230 (by decide +kernel)
theorem d_8230_120 {σ : Nat → Nat} {n0 : Nat} {bf : ab_B} : decode (ab_code (zx σ n0 bf).1 8230) 120 = .ok (.iload_n 3, 1) := zd zm_8230 (by decide +kernel)
theorem d_8230_121 {σ : Nat → Nat} {n0 : Nat} {bf : ab_B} : decode (ab_code (zx σ n0 bf).1 8230) 121 = .ok (.iadd, 1) := zd zm_8230 (by decide +kernel)
theorem d_8230_122 {σ : Nat → Nat} {n0 : Nat} {bf : ab_B} : decode (ab_code (zx σ n0 bf).1 8230) 122 = .ok (.iaload, 1) := zd zm_8230 (by decide +kernel)
theorem d_8230_123 {σ : Nat → Nat} {n0 : Nat} {bf : ab_B} : decode (ab_code (zx σ n0 bf).1 8230) 123 = .ok (.ifCond .ne 13, 3) := zd zm_8230 (by decide +kernel)
theorem d_8230_126 {σ : Nat → Nat} {n0 : Nat} {bf : ab_B} : decode (ab_code (zx σ n0 bf).1 8230) 126 = .ok (.aload_n 0, 1) := zd zm_8230 (by decide +kernel)
theorem d_8230_127 {σ : Nat → Nat} {n0 : Nat} {bf : ab_B} : decode (ab_code (zx σ n0 bf).1 8230) 127 = .ok (.iconst 1, 1) := zd zm_8230 (by decide +kernel)
theorem d_8230_128 {σ : Nat → Nat} {n0 : Nat} {bf : ab_B} : decode (ab_code (zx σ n0 bf).1 8230) 128 = .ok (.iload 4, 2) := zd zm_8230 (by decide +kernel)
theorem d_8230_130 {σ : Nat → Nat} {n0 : Nat} {bf : ab_B} : decode (ab_code (zx σ n0 bf).1 8230) 130 = .ok (.invokevirtual 1297, 3) := zd zm_8230 (by decide +kernel)
theorem d_8230_133 {σ : Nat → Nat} {n0 : Nat} {bf : ab_B} : decode (ab_code (zx σ n0 bf).1 8230) 133 = .ok (.goto 143, 3) := zd zm_8230 (by decide +kernel)
theorem d_8230_136 {σ : Nat → Nat} {n0 : Nat} {bf : ab_B} : decode (ab_code (zx σ n0 bf).1 8230) 136 = .ok (.aload_n 0, 1) := zd zm_8230 (by decide +kernel)
theorem d_8230_137 {σ : Nat → Nat} {n0 : Nat} {bf : ab_B} : decode (ab_code (zx σ n0 bf).1 8230) 137 = .ok (.aload_n 0, 1) := zd zm_8230 (by decide +kernel)
theorem d_8230_138 {σ : Nat → Nat} {n0 : Nat} {bf : ab_B} : decode (ab_code (zx σ n0 bf).1 8230) 138 = .ok (.iload_n 2, 1) := zd zm_8230 (by decide +kernel)
theorem d_8230_139 {σ : Nat → Nat} {n0 : Nat} {bf : ab_B} : decode (ab_code (zx σ n0 bf).1 8230) 139 = .ok (.invokevirtual 1371, 3) := zd zm_8230 (by decide +kernel)
theorem d_8230_142 {σ : Nat → Nat} {n0 : Nat} {bf : ab_B} : decode (ab_code (zx σ n0 bf).1 8230) 142 = .ok (.iload_n 3, 1) := zd zm_8230 (by decide +kernel)
theorem d_8230_143 {σ : Nat → Nat} {n0 : Nat} {bf : ab_B} : decode (ab_code (zx σ n0 bf).1 8230) 143 = .ok (.invokevirtual 1429, 3) := zd zm_8230 (by decide +kernel)
theorem d_8230_146 {σ : Nat → Nat} {n0 : Nat} {bf : ab_B} : decode (ab_code (zx σ n0 bf).1 8230) 146 = .ok (.goto 130, 3) := zd zm_8230 (by decide +kernel)
theorem d_8230_149 {σ : Nat → Nat} {n0 : Nat} {bf : ab_B} : decode (ab_code (zx σ n0 bf).1 8230) 149 = .ok (.aload_n 0, 1) := zd zm_8230 (by decide +kernel)
theorem d_8230_150 {σ : Nat → Nat} {n0 : Nat} {bf : ab_B} : decode (ab_code (zx σ n0 bf).1 8230) 150 = .ok (.iload_n 2, 1) := zd zm_8230 (by decide +kernel)
theorem d_8230_151 {σ : Nat → Nat} {n0 : Nat} {bf : ab_B} : decode (ab_code (zx σ n0 bf).1 8230) 151 = .ok (.iload 4, 2) := zd zm_8230 (by decide +kernel)
theorem d_8230_153 {σ : Nat → Nat} {n0 : Nat} {bf : ab_B} : decode (ab_code (zx σ n0 bf).1 8230) 153 = .ok (.invokevirtual 1432, 3) := zd zm_8230 (by decide +kernel)
theorem d_8230_156 {σ : Nat → Nat} {n0 : Nat} {bf : ab_B} : decode (ab_code (zx σ n0 bf).1 8230) 156 = .ok (.goto 120, 3) := zd zm_8230 (by decide +kernel)
theorem d_8230_159 {σ : Nat → Nat} {n0 : Nat} {bf : ab_B} : decode (ab_code (zx σ n0 bf).1 8230) 159 = .ok (.aload_n 0, 1) := zd zm_8230 (by decide +kernel)
theorem d_8230_160 {σ : Nat → Nat} {n0 : Nat} {bf : ab_B} : decode (ab_code (zx σ n0 bf).1 8230) 160 = .ok (.iload 4, 2) := zd zm_8230 (by decide +kernel)
theorem d_8230_162 {σ : Nat → Nat} {n0 : Nat} {bf : ab_B} : decode (ab_code (zx σ n0 bf).1 8230) 162 = .ok (.invokevirtual 1435, 3) := zd zm_8230 (by decide +kernel)
theorem d_8230_165 {σ : Nat → Nat} {n0 : Nat} {bf : ab_B} : decode (ab_code (zx σ n0 bf).1 8230) 165 = .ok (.goto 111, 3) := zd zm_8230 (by decide +kernel)
theorem d_8230_168 {σ : Nat → Nat} {n0 : Nat} {bf : ab_B} : decode (ab_code (zx σ n0 bf).1 8230) 168 = .ok (.aload_n 0, 1) := zd zm_8230 (by decide +kernel)
theorem d_8230_169 {σ : Nat → Nat} {n0 : Nat} {bf : ab_B} : decode (ab_code (zx σ n0 bf).1 8230) 169 = .ok (.iload 4, 2) := zd zm_8230 (by decide +kernel)
theorem d_8230_171 {σ : Nat → Nat} {n0 : Nat} {bf : ab_B} : decode (ab_code (zx σ n0 bf).1 8230) 171 = .ok (.invokevirtual 1438, 3) := zd zm_8230 (by decide +kernel)
theorem d_8230_174 {σ : Nat → Nat} {n0 : Nat} {bf : ab_B} : decode (ab_code (zx σ n0 bf).1 8230) 174 = .ok (.goto 102, 3) := zd zm_8230 (by decide +kernel)
theorem d_8230_177 {σ : Nat → Nat} {n0 : Nat} {bf : ab_B} : decode (ab_code (zx σ n0 bf).1 8230) 177 = .ok (.aload_n 0, 1) := zd zm_8230 (by decide +kernel)
theorem d_8230_178 {σ : Nat → Nat} {n0 : Nat} {bf : ab_B} : decode (ab_code (zx σ n0 bf).1 8230) 178 = .ok (.dup, 1) := zd zm_8230 (by decide +kernel)
theorem d_8230_179 {σ : Nat → Nat} {n0 : Nat} {bf : ab_B} : decode (ab_code (zx σ n0 bf).1 8230) 179 = .ok (.getfield 1270, 3) := zd zm_8230 (by decide +kernel)
theorem d_8230_182 {σ : Nat → Nat} {n0 : Nat} {bf : ab_B} : decode (ab_code (zx σ n0 bf).1 8230) 182 = .ok (.iconst 1, 1) := zd zm_8230 (by decide +kernel)
theorem d_8230_183 {σ : Nat → Nat} {n0 : Nat} {bf : ab_B} : decode (ab_code (zx σ n0 bf).1 8230) 183 = .ok (.isub, 1) := zd zm_8230 (by decide +kernel)
theorem d_8230_184 {σ : Nat → Nat} {n0 : Nat} {bf : ab_B} : decode (ab_code (zx σ n0 bf).1 8230) 184 = .ok (.putfield 1270, 3) := zd zm_8230 (by decide +kernel)
theorem d_8230_187 {σ : Nat → Nat} {n0 : Nat} {bf : ab_B} : decode (ab_code (zx σ n0 bf).1 8230) 187 = .ok (.aload_n 0, 1) := zd zm_8230 (by decide +kernel)
theorem d_8230_188 {σ : Nat → Nat} {n0 : Nat} {bf : ab_B} : decode (ab_code (zx σ n0 bf).1 8230) 188 = .ok (.aload_n 0, 1) := zd zm_8230 (by decide +kernel)
theorem d_8230_189 {σ : Nat → Nat} {n0 : Nat} {bf : ab_B} : decode (ab_code (zx σ n0 bf).1 8230) 189 = .ok (.getfield 1270, 3) := zd zm_8230 (by decide +kernel)
theorem d_8230_192 {σ : Nat → Nat} {n0 : Nat} {bf : ab_B} : decode (ab_code (zx σ n0 bf).1 8230) 192 = .ok (.invokevirtual 1291, 3) := zd zm_8230 (by decide +kernel)
theorem d_8230_195 {σ : Nat → Nat} {n0 : Nat} {bf : ab_B} : decode (ab_code (zx σ n0 bf).1 8230) 195 = .ok (.aload_n 0, 1) := zd zm_8230 (by decide +kernel)
theorem d_8230_196 {σ : Nat → Nat} {n0 : Nat} {bf : ab_B} : decode (ab_code (zx σ n0 bf).1 8230) 196 = .ok (.aload_n 0, 1) := zd zm_8230 (by decide +kernel)
theorem d_8230_197 {σ : Nat → Nat} {n0 : Nat} {bf : ab_B} : decode (ab_code (zx σ n0 bf).1 8230) 197 = .ok (.iload_n 2, 1) := zd zm_8230 (by decide +kernel)
theorem d_8230_198 {σ : Nat → Nat} {n0 : Nat} {bf : ab_B} : decode (ab_code (zx σ n0 bf).1 8230) 198 = .ok (.invokevirtual 627, 3) := zd zm_8230 (by decide +kernel)
theorem d_8230_201 {σ : Nat → Nat} {n0 : Nat} {bf : ab_B} : decode (ab_code (zx σ n0 bf).1 8230) 201 = .ok (.invokevirtual 1326, 3) := zd zm_8230 (by decide +kernel)
theorem d_8230_204 {σ : Nat → Nat} {n0 : Nat} {bf : ab_B} : decode (ab_code (zx σ n0 bf).1 8230) 204 = .ok (.goto 72, 3) := zd zm_8230 (by decide +kernel)
theorem d_8230_207 {σ : Nat → Nat} {n0 : Nat} {bf : ab_B} : decode (ab_code (zx σ n0 bf).1 8230) 207 = .ok (.aload_n 0, 1) := zd zm_8230 (by decide +kernel)
theorem d_8230_208 {σ : Nat → Nat} {n0 : Nat} {bf : ab_B} : decode (ab_code (zx σ n0 bf).1 8230) 208 = .ok (.iload 4, 2) := zd zm_8230 (by decide +kernel)
theorem d_8230_210 {σ : Nat → Nat} {n0 : Nat} {bf : ab_B} : decode (ab_code (zx σ n0 bf).1 8230) 210 = .ok (.invokevirtual 1441, 3) := zd zm_8230 (by decide +kernel)
theorem d_8230_213 {σ : Nat → Nat} {n0 : Nat} {bf : ab_B} : decode (ab_code (zx σ n0 bf).1 8230) 213 = .ok (.goto 63, 3) := zd zm_8230 (by decide +kernel)
theorem d_8230_216 {σ : Nat → Nat} {n0 : Nat} {bf : ab_B} : decode (ab_code (zx σ n0 bf).1 8230) 216 = .ok (.aload_n 0, 1) := zd zm_8230 (by decide +kernel)
theorem d_8230_217 {σ : Nat → Nat} {n0 : Nat} {bf : ab_B} : decode (ab_code (zx σ n0 bf).1 8230) 217 = .ok (.dup, 1) := zd zm_8230 (by decide +kernel)
theorem d_8230_218 {σ : Nat → Nat} {n0 : Nat} {bf : ab_B} : decode (ab_code (zx σ n0 bf).1 8230) 218 = .ok (.getfield 1270, 3) := zd zm_8230 (by decide +kernel)
theorem d_8230_221 {σ : Nat → Nat} {n0 : Nat} {bf : ab_B} : decode (ab_code (zx σ n0 bf).1 8230) 221 = .ok (.iconst 1, 1) := zd zm_8230 (by decide +kernel)
theorem d_8230_222 {σ : Nat → Nat} {n0 : Nat} {bf : ab_B} : decode (ab_code (zx σ n0 bf).1 8230) 222 = .ok (.isub, 1) := zd zm_8230 (by decide +kernel)
theorem d_8230_223 {σ : Nat → Nat} {n0 : Nat} {bf : ab_B} : decode (ab_code (zx σ n0 bf).1 8230) 223 = .ok (.putfield 1270, 3) := zd zm_8230 (by decide +kernel)
theorem d_8230_226 {σ : Nat → Nat} {n0 : Nat} {bf : ab_B} : decode (ab_code (zx σ n0 bf).1 8230) 226 = .ok (.aload_n 0, 1) := zd zm_8230 (by decide +kernel)
theorem d_8230_227 {σ : Nat → Nat} {n0 : Nat} {bf : ab_B} : decode (ab_code (zx σ n0 bf).1 8230) 227 = .ok (.aload_n 0, 1) := zd zm_8230 (by decide +kernel)
theorem d_8230_228 {σ : Nat → Nat} {n0 : Nat} {bf : ab_B} : decode (ab_code (zx σ n0 bf).1 8230) 228 = .ok (.getfield 1270, 3) := zd zm_8230 (by decide +kernel)
theorem d_8230_231 {σ : Nat → Nat} {n0 : Nat} {bf : ab_B} : decode (ab_code (zx σ n0 bf).1 8230) 231 = .ok (.invokevirtual 1291, 3) := zd zm_8230 (by decide +kernel)
theorem d_8230_234 {σ : Nat → Nat} {n0 : Nat} {bf : ab_B} : decode (ab_code (zx σ n0 bf).1 8230) 234 = .ok (.aload_n 0, 1) := zd zm_8230 (by decide +kernel)
theorem d_8230_235 {σ : Nat → Nat} {n0 : Nat} {bf : ab_B} : decode (ab_code (zx σ n0 bf).1 8230) 235 = .ok (.aload_n 0, 1) := zd zm_8230 (by decide +kernel)
theorem d_8230_236 {σ : Nat → Nat} {n0 : Nat} {bf : ab_B} : decode (ab_code (zx σ n0 bf).1 8230) 236 = .ok (.getfield 412, 3) := zd zm_8230 (by decide +kernel)
theorem d_8230_239 {σ : Nat → Nat} {n0 : Nat} {bf : ab_B} : decode (ab_code (zx σ n0 bf).1 8230) 239 = .ok (.aload_n 0, 1) := zd zm_8230 (by decide +kernel)
theorem d_8230_240 {σ : Nat → Nat} {n0 : Nat} {bf : ab_B} : decode (ab_code (zx σ n0 bf).1 8230) 240 = .ok (.getfield 1270, 3) := zd zm_8230 (by decide +kernel)
theorem d_8230_243 {σ : Nat → Nat} {n0 : Nat} {bf : ab_B} : decode (ab_code (zx σ n0 bf).1 8230) 243 = .ok (.iaload, 1) := zd zm_8230 (by decide +kernel)
theorem d_8230_244 {σ : Nat → Nat} {n0 : Nat} {bf : ab_B} : decode (ab_code (zx σ n0 bf).1 8230) 244 = .ok (.aload_n 0, 1) := zd zm_8230 (by decide +kernel)
theorem d_8230_245 {σ : Nat → Nat} {n0 : Nat} {bf : ab_B} : decode (ab_code (zx σ n0 bf).1 8230) 245 = .ok (.getfield 409, 3) := zd zm_8230 (by decide +kernel)
theorem d_8230_248 {σ : Nat → Nat} {n0 : Nat} {bf : ab_B} : decode (ab_code (zx σ n0 bf).1 8230) 248 = .ok (.aload_n 0, 1) := zd zm_8230 (by decide +kernel)
theorem d_8230_249 {σ : Nat → Nat} {n0 : Nat} {bf : ab_B} : decode (ab_code (zx σ n0 bf).1 8230) 249 = .ok (.getfield 1270, 3) := zd zm_8230 (by decide +kernel)
theorem d_8230_252 {σ : Nat → Nat} {n0 : Nat} {bf : ab_B} : decode (ab_code (zx σ n0 bf).1 8230) 252 = .ok (.iaload, 1) := zd zm_8230 (by decide +kernel)
theorem d_8230_253 {σ : Nat → Nat} {n0 : Nat} {bf : ab_B} : decode (ab_code (zx σ n0 bf).1 8230) 253 = .ok (.iload 4, 2) := zd zm_8230 (by decide +kernel)
theorem d_8230_255 {σ : Nat → Nat} {n0 : Nat} {bf : ab_B} : decode (ab_code (zx σ n0 bf).1 8230) 255 = .ok (.iconst 1, 1) := zd zm_8230 (by decide +kernel)
theorem d_8230_256 {σ : Nat → Nat} {n0 : Nat} {bf : ab_B} : decode (ab_code (zx σ n0 bf).1 8230) 256 = .ok (.invokevirtual 1404, 3) := zd zm_8230 (by decide +kernel)
theorem d_8230_259 {σ : Nat → Nat} {n0 : Nat} {bf : ab_B} : decode (ab_code (zx σ n0 bf).1 8230) 259 = .ok (.goto 17, 3) := zd zm_8230 (by decide +kernel)
theorem d_8230_262 {σ : Nat → Nat} {n0 : Nat} {bf : ab_B} : decode (ab_code (zx σ n0 bf).1 8230) 262 = .ok (.aload_n 0, 1) := zd zm_8230 (by decide +kernel)
theorem d_8230_263 {σ : Nat → Nat} {n0 : Nat} {bf : ab_B} : decode (ab_code (zx σ n0 bf).1 8230) 263 = .ok (.invokevirtual 1310, 3) := zd zm_8230 (by decide +kernel)
theorem d_8230_266 {σ : Nat → Nat} {n0 : Nat} {bf : ab_B} : decode (ab_code (zx σ n0 bf).1 8230) 266 = .ok (.aload_n 0, 1) := zd zm_8230 (by decide +kernel)
theorem d_8230_267 {σ : Nat → Nat} {n0 : Nat} {bf : ab_B} : decode (ab_code (zx σ n0 bf).1 8230) 267 = .ok (.aload_n 0, 1) := zd zm_8230 (by decide +kernel)
theorem d_8230_268 {σ : Nat → Nat} {n0 : Nat} {bf : ab_B} : decode (ab_code (zx σ n0 bf).1 8230) 268 = .ok (.invokevirtual 1307, 3) := zd zm_8230 (by decide +kernel)
theorem d_8230_271 {σ : Nat → Nat} {n0 : Nat} {bf : ab_B} : decode (ab_code (zx σ n0 bf).1 8230) 271 = .ok (.iload 4, 2) := zd zm_8230 (by decide +kernel)
theorem d_8230_273 {σ : Nat → Nat} {n0 : Nat} {bf : ab_B} : decode (ab_code (zx σ n0 bf).1 8230) 273 = .ok (.invokevirtual 1313, 3) := zd zm_8230 (by decide +kernel)
theorem d_8230_276 {σ : Nat → Nat} {n0 : Nat} {bf : ab_B} : decode (ab_code (zx σ n0 bf).1 8230) 276 = .ok (.return_, 1) := zd zm_8230 (by decide +kernel)
def w_X9_variableWork_97 (X : zs_X) (d : Nat) (p0 : Nat) (p2 : Int32) (p3 : Int32) (p4 : Int32) (p5 : Int32) (S : zs_T) (Q : zs_Q) : Prop :=
  (zs_U X d 8230 68 [(0, .ref p0), (2, .int p2), (3, .int p3), (4, .int p4), (5, .int (p5 + (1 : Int32)))] [] S Q)
theorem u_X9_variableWork_97 {σ : Nat → Nat} {n0 : Nat} {bf : ab_B} {d : Nat} {p0 : Nat} {p2 : Int32} {p3 : Int32} {p4 : Int32} {p5 : Int32} {S : zs_T} {Q : zs_Q} (hB : zt_B bf) (h : w_X9_variableWork_97 (zx σ n0 bf) d p0 p2 p3 p4 p5 S Q) : zs_U (zx σ n0 bf) d 8230 97 [(0, .ref p0), (2, .int p2), (3, .int p3), (4, .int p4), (5, .int p5)] [] S Q := by
  unfold w_X9_variableWork_97 at h
  refine zu_iinc d_8230_97 rfl zi_1 (zs_lt zq_8230 rfl) ?_
  refine zu_goto (t := 68) d_8230_100 rfl ?_
  exact h.weak ⟨rfl, rfl, rfl, rfl, rfl, trivial⟩
def w_X9_variableWork_68 (X : zs_X) (d : Nat) (p0 : Nat) (p2 : Int32) (p3 : Int32) (p4 : Int32) (p5 : Int32) (S : zs_T) (Q : zs_Q) : Prop :=
  (((p3 ≤ p5 → (Q (.returned none) S)) ∧ (¬ (p3 ≤ p5) → (zs_K S p0 = some (.inl 8) ∧ ((¬ (zs_I S 8197 p0) = 0 → (Q (.returned none) S)) ∧ (¬ (¬ (zs_I S 8197 p0) = 0) → (∃ b4, (zs_R S 8021 p0) = some b4 ∧ zs_A S b4 1 (p2 + p5) ∧ zs_C X d 8233 [.ref p0, .long (((zs_i S b4 (p2 + p5).toNatClampNeg)).toInt64), .int p4] S (zs_kV (fun S7 => w_X9_variableWork_97 X d p0 p2 p3 p4 p5 S7 Q) Q))))))))
theorem u_X9_variableWork_68 {σ : Nat → Nat} {n0 : Nat} {bf : ab_B} {d : Nat} {p0 : Nat} {p2 : Int32} {p3 : Int32} {p4 : Int32} {p5 : Int32} {S : zs_T} {Q : zs_Q} (hB : zt_B bf) (h : w_X9_variableWork_68 (zx σ n0 bf) d p0 p2 p3 p4 p5 S Q) : zs_U (zx σ n0 bf) d 8230 68 [(0, .ref p0), (2, .int p2), (3, .int p3), (4, .int p4), (5, .int p5)] [] S Q := by
  unfold w_X9_variableWork_68 at h
  refine zu_iload d_8230_68 rfl ?_
  refine zu_iload_n d_8230_70 rfl ?_
  refine zu_cmpge (t := 103) d_8230_71 rfl (fun c1 => ?_) (fun c1 => ?_)
  · have h := h.1 c1
    refine zu_goto (t := 276) d_8230_103 rfl ?_
    exact zu_vret d_8230_276 zr_8230 h
  · have h := h.2 c1
    refine zu_aload_n d_8230_74 rfl (zs_ra _) ?_
    obtain ⟨k2, h⟩ := h
    refine zg_8_1273 rfl d_8230_75 k2 ?_
    refine zu_ifne (t := 103) d_8230_78 rfl (fun c3 => ?_) (fun c3 => ?_)
    · have h := h.1 c3
      refine zu_goto (t := 276) d_8230_103 rfl ?_
      exact zu_vret d_8230_276 zr_8230 h
    · have h := h.2 c3
      refine zu_aload_n d_8230_81 rfl (zs_ra _) ?_
      refine zu_aload_n d_8230_82 rfl (zs_ra _) ?_
      refine zg_8_41 rfl d_8230_83 k2 ?_
      refine zu_iload_n d_8230_86 rfl ?_
      refine zu_iload d_8230_87 rfl ?_
      refine zu_stk d_8230_89 rfl rfl ?_
      obtain ⟨b4, e5, h⟩ := h
      refine zs_stk1 (zs_rfe e5) ?_
      obtain ⟨k6, h⟩ := h
      refine zu_bald (k := 1) d_8230_90 rfl (Or.inl rfl) k6 ?_
      refine zu_stk d_8230_91 rfl rfl ?_
      refine zu_iload d_8230_92 rfl ?_
      refine zc_8_1313 (x0 := (((zs_i S b4 (p2 + p5).toNatClampNeg)).toInt64)) (x1 := p4) hB rfl k2 d_8230_94 (Nat.le_of_ble_eq_true rfl) h (fun S7 h => ?_)
      exact (u_X9_variableWork_97 hB h).weak ⟨rfl, rfl, rfl, rfl, rfl, trivial⟩
def w_X9_variableWork_133 (X : zs_X) (d : Nat)  (S : zs_T) (Q : zs_Q) : Prop :=
  (Q (.returned none) S)
theorem u_X9_variableWork_133 {σ : Nat → Nat} {n0 : Nat} {bf : ab_B} {d : Nat}  {S : zs_T} {Q : zs_Q} (hB : zt_B bf) (h : w_X9_variableWork_133 (zx σ n0 bf) d  S Q) : zs_U (zx σ n0 bf) d 8230 133 [] [] S Q := by
  unfold w_X9_variableWork_133 at h
  refine zu_goto (t := 276) d_8230_133 rfl ?_
  exact zu_vret d_8230_276 zr_8230 h
def w_X9_variableWork_146 (X : zs_X) (d : Nat)  (S : zs_T) (Q : zs_Q) : Prop :=
  (Q (.returned none) S)
theorem u_X9_variableWork_146 {σ : Nat → Nat} {n0 : Nat} {bf : ab_B} {d : Nat}  {S : zs_T} {Q : zs_Q} (hB : zt_B bf) (h : w_X9_variableWork_146 (zx σ n0 bf) d  S Q) : zs_U (zx σ n0 bf) d 8230 146 [] [] S Q := by
  unfold w_X9_variableWork_146 at h
  refine zu_goto (t := 276) d_8230_146 rfl ?_
  exact zu_vret d_8230_276 zr_8230 h
def w_X9_variableWork_204 (X : zs_X) (d : Nat)  (S : zs_T) (Q : zs_Q) : Prop :=
  (Q (.returned none) S)
theorem u_X9_variableWork_204 {σ : Nat → Nat} {n0 : Nat} {bf : ab_B} {d : Nat}  {S : zs_T} {Q : zs_Q} (hB : zt_B bf) (h : w_X9_variableWork_204 (zx σ n0 bf) d  S Q) : zs_U (zx σ n0 bf) d 8230 204 [] [] S Q := by
  unfold w_X9_variableWork_204 at h
  refine zu_goto (t := 276) d_8230_204 rfl ?_
  exact zu_vret d_8230_276 zr_8230 h
def w_X9_variableWork_259 (X : zs_X) (d : Nat)  (S : zs_T) (Q : zs_Q) : Prop :=
  (Q (.returned none) S)
theorem u_X9_variableWork_259 {σ : Nat → Nat} {n0 : Nat} {bf : ab_B} {d : Nat}  {S : zs_T} {Q : zs_Q} (hB : zt_B bf) (h : w_X9_variableWork_259 (zx σ n0 bf) d  S Q) : zs_U (zx σ n0 bf) d 8230 259 [] [] S Q := by
  unfold w_X9_variableWork_259 at h
  refine zu_goto (t := 276) d_8230_259 rfl ?_
  exact zu_vret d_8230_276 zr_8230 h
def w_X9_variableWork (X : zs_X) (d : Nat) (p0 : Nat) (p1 : Int32) (p2 : Int32) (p3 : Int32) (p4 : Int32) (S : zs_T) (Q : zs_Q) : Prop :=
  (((p1.toInt < 1 ∨ 9 < p1.toInt → (zs_K S p0 = some (.inl 8) ∧ zs_C X d 8232 [.ref p0] S (zs_kV (fun S3 => (zs_K S3 p0 = some (.inl 8) ∧ zs_C X d 8242 [.ref p0] S3 (zs_kJ (fun v7 S6 => (zs_K S6 p0 = some (.inl 8) ∧ zs_C X d 8233 [.ref p0, .long v7, .int p4] S6 (zs_kV (fun S9 => (Q (.returned none) S9)) Q))) Q))) Q))) ∧ (p1.toInt = 1 → (zs_K S p0 = some (.inl 8) ∧ zs_C X d 8231 [.ref p0, .long ((p2).toInt64)] S (zs_kV (fun S12 => (Q (.returned none) S12)) Q))) ∧ (p1.toInt = 2 → (zs_K S p0 = some (.inl 8) ∧ zs_C X d 8232 [.ref p0] S (zs_kV (fun S15 => (zs_U X d 8230 68 [(0, .ref p0), (2, .int p2), (3, .int p3), (4, .int p4), (5, .int (0 : Int32))] [] S15 Q)) Q))) ∧ (p1.toInt = 3 → (zs_K S p0 = some (.inl 8) ∧ zs_C X d 8209 [.ref p0, .int p2] S (zs_kI (fun v19 S18 => (∃ b20, (zs_R S 8160 p0) = some b20 ∧ zs_A S18 b20 0 v19 ∧ ∃ b23, (zs_R S 8168 p0) = some b23 ∧ zs_A S18 b23 0 ((zs_i S18 b20 v19.toNatClampNeg) + p3) ∧ ((¬ (zs_i S18 b23 ((zs_i S18 b20 v19.toNatClampNeg) + p3).toNatClampNeg) = 0 → (zs_K S18 p0 = some (.inl 8) ∧ zs_C X d 8209 [.ref p0, .int p2] S18 (zs_kI (fun v29 S28 => (zs_K S28 p0 = some (.inl 8) ∧ zs_C X d 8234 [.ref p0, .int v29, .int p3] S28 (zs_kV (fun S31 => w_X9_variableWork_146 X d  S31 Q) Q))) Q))) ∧ (¬ (¬ (zs_i S18 b23 ((zs_i S18 b20 v19.toNatClampNeg) + p3).toNatClampNeg) = 0) → (zs_K S18 p0 = some (.inl 8) ∧ zs_C X d 8208 [.ref p0, .int (1 : Int32), .int p4] S18 (zs_kV (fun S34 => w_X9_variableWork_133 X d  S34 Q) Q)))))) Q))) ∧ (p1.toInt = 4 → (zs_K S p0 = some (.inl 8) ∧ zs_C X d 8237 [.ref p0, .int p2, .int p4] S (zs_kV (fun S37 => (Q (.returned none) S37)) Q))) ∧ (p1.toInt = 5 → (zs_K S p0 = some (.inl 8) ∧ zs_C X d 8241 [.ref p0, .int p4] S (zs_kV (fun S40 => (Q (.returned none) S40)) Q))) ∧ (p1.toInt = 6 → (zs_K S p0 = some (.inl 8) ∧ zs_C X d 8243 [.ref p0, .int p4] S (zs_kV (fun S43 => (Q (.returned none) S43)) Q))) ∧ (p1.toInt = 7 → (zs_K S p0 = some (.inl 8) ∧ ab_n0 X.1 ≤ p0 ∧ ∀ S47, S47 = zs_sI S 8195 p0 ((zs_I S 8195 p0) - (1 : Int32)) → zs_C X d 8226 [.ref p0, .int (zs_I S47 8195 p0)] S47 (zs_kV (fun S50 => (zs_K S50 p0 = some (.inl 8) ∧ zs_C X d 8105 [.ref p0, .int p2] S50 (zs_kJ (fun v54 S53 => (zs_K S53 p0 = some (.inl 8) ∧ zs_C X d 8231 [.ref p0, .long v54] S53 (zs_kV (fun S56 => w_X9_variableWork_204 X d  S56 Q) Q))) Q))) Q))) ∧ (p1.toInt = 8 → (zs_K S p0 = some (.inl 8) ∧ zs_C X d 8244 [.ref p0, .int p4] S (zs_kV (fun S59 => (Q (.returned none) S59)) Q))) ∧ (p1.toInt = 9 → (zs_K S p0 = some (.inl 8) ∧ ab_n0 X.1 ≤ p0 ∧ ∀ S63, S63 = zs_sI S 8195 p0 ((zs_I S 8195 p0) - (1 : Int32)) → zs_C X d 8226 [.ref p0, .int (zs_I S63 8195 p0)] S63 (zs_kV (fun S66 => (zs_K S66 p0 = some (.inl 8) ∧ ∃ b69, (zs_R S66 8190 p0) = some b69 ∧ zs_A S66 b69 0 (zs_I S66 8195 p0) ∧ ∃ b72, (zs_R S66 8189 p0) = some b72 ∧ zs_A S66 b72 0 (zs_I S66 8195 p0) ∧ zs_C X d 8245 [.ref p0, .int (zs_i S66 b69 (zs_I S66 8195 p0).toNatClampNeg), .int (zs_i S66 b72 (zs_I S66 8195 p0).toNatClampNeg), .int p4, .int (1 : Int32)] S66 (zs_kV (fun S75 => w_X9_variableWork_259 X d  S75 Q) Q))) Q)))))
theorem u_X9_variableWork {σ : Nat → Nat} {n0 : Nat} {bf : ab_B} {d : Nat} {p0 : Nat} {p1 : Int32} {p2 : Int32} {p3 : Int32} {p4 : Int32} {S : zs_T} {Q : zs_Q} (hB : zt_B bf) (hd : 1 ≤ d) (h : w_X9_variableWork (zx σ n0 bf) (d - 1) p0 p1 p2 p3 p4 S Q) : zs_C (zx σ n0 bf) d 8230 [.ref p0, .int p1, .int p2, .int p3, .int p4] S Q := by
  have hL : lv_args 0 [.ref p0, .int p1, .int p2, .int p3, .int p4] = [(0, .ref p0), (1, .int p1), (2, .int p2), (3, .int p3), (4, .int p4)] := rfl
  refine zs_C.of1 (hB.2 8230 (by decide) (by decide)) hd (by rw [hL]; exact zs_sub_self _ (by exact ⟨rfl, rfl, rfl, rfl, rfl, trivial⟩)) ?_
  rw [hL]
  clear hL
  unfold w_X9_variableWork at h
  refine zu_iload_n d_8230_0 rfl ?_
  refine zu_tsw (td := 262) d_8230_1 (by decide) rfl (fun c1 => ?_) ⟨fun c1 => ⟨by decide, ?_⟩, fun c1 => ⟨by decide, ?_⟩, fun c1 => ⟨by decide, ?_⟩, fun c1 => ⟨by decide, ?_⟩, fun c1 => ⟨by decide, ?_⟩, fun c1 => ⟨by decide, ?_⟩, fun c1 => ⟨by decide, ?_⟩, fun c1 => ⟨by decide, ?_⟩, fun c1 => ⟨by decide, ?_⟩, trivial⟩
  · have h := h.1 c1
    refine zu_aload_n d_8230_262 rfl (zs_ra _) ?_
    obtain ⟨k2, h⟩ := h
    refine zc_8_1310  hB rfl k2 d_8230_263 (Nat.le_of_ble_eq_true rfl) h (fun S3 h => ?_)
    refine zu_aload_n d_8230_266 rfl (zs_ra _) ?_
    refine zu_aload_n d_8230_267 rfl (zs_ra _) ?_
    obtain ⟨k5, h⟩ := h
    refine zc_8_1307  hB rfl k5 d_8230_268 (Nat.le_of_ble_eq_true rfl) h (fun v7 S6 h => ?_)
    refine zu_iload d_8230_271 rfl ?_
    obtain ⟨k8, h⟩ := h
    refine zc_8_1313 (x0 := v7) (x1 := p4) hB rfl k8 d_8230_273 (Nat.le_of_ble_eq_true rfl) h (fun S9 h => ?_)
    exact zu_vret d_8230_276 zr_8230 h
  · have h := h.2.1 c1
    show zs_U _ _ _ 52 _ _ _ _
    refine zu_aload_n d_8230_52 rfl (zs_ra _) ?_
    refine zu_iload_n d_8230_53 rfl ?_
    refine zu_stk d_8230_54 rfl rfl ?_
    obtain ⟨k11, h⟩ := h
    refine zc_8_1326 (x0 := ((p2).toInt64)) hB rfl k11 d_8230_55 (Nat.le_of_ble_eq_true rfl) h (fun S12 h => ?_)
    refine zu_goto (t := 276) d_8230_58 rfl ?_
    exact zu_vret d_8230_276 zr_8230 h
  · have h := h.2.2.1 c1
    show zs_U _ _ _ 61 _ _ _ _
    refine zu_aload_n d_8230_61 rfl (zs_ra _) ?_
    obtain ⟨k14, h⟩ := h
    refine zc_8_1310  hB rfl k14 d_8230_62 (Nat.le_of_ble_eq_true rfl) h (fun S15 h => ?_)
    refine zu_iconst d_8230_65 zi_0 ?_
    refine zu_istore d_8230_66 (zs_lt zq_8230 rfl) ?_
    exact h.weak ⟨rfl, rfl, rfl, rfl, rfl, trivial⟩
  · have h := h.2.2.2.1 c1
    show zs_U _ _ _ 106 _ _ _ _
    refine zu_aload_n d_8230_106 rfl (zs_ra _) ?_
    obtain ⟨k17, h⟩ := h
    refine zg_8_365 rfl d_8230_107 k17 ?_
    refine zu_aload_n d_8230_110 rfl (zs_ra _) ?_
    refine zg_8_347 rfl d_8230_111 k17 ?_
    refine zu_aload_n d_8230_114 rfl (zs_ra _) ?_
    refine zu_iload_n d_8230_115 rfl ?_
    refine zc_8_1371 (x0 := p2) hB rfl k17 d_8230_116 (by simp only [List.map_cons, List.map_nil, List.sum_cons, List.sum_nil, zs_cat, zs_cI, zs_cJ, zs_cA]; exact Nat.le_of_ble_eq_true rfl) h (fun v19 S18 h => ?_)
    obtain ⟨b20, e21, h⟩ := h
    refine zs_stk1 (zs_rfe e21) ?_
    obtain ⟨k22, h⟩ := h
    refine zu_iald (k := 0) d_8230_119 rfl rfl k22 ?_
    refine zu_iload_n d_8230_120 rfl ?_
    refine zu_stk d_8230_121 rfl rfl ?_
    obtain ⟨b23, e24, h⟩ := h
    refine zs_stk1 (zs_rfe e24) ?_
    obtain ⟨k25, h⟩ := h
    refine zu_iald (k := 0) d_8230_122 rfl rfl k25 ?_
    refine zu_ifne (t := 136) d_8230_123 rfl (fun c26 => ?_) (fun c26 => ?_)
    · have h := h.1 c26
      refine zu_aload_n d_8230_136 rfl (zs_ra _) ?_
      refine zu_aload_n d_8230_137 rfl (zs_ra _) ?_
      refine zu_iload_n d_8230_138 rfl ?_
      obtain ⟨k27, h⟩ := h
      refine zc_8_1371 (x0 := p2) hB rfl k27 d_8230_139 (Nat.le_of_ble_eq_true rfl) h (fun v29 S28 h => ?_)
      refine zu_iload_n d_8230_142 rfl ?_
      obtain ⟨k30, h⟩ := h
      refine zc_8_1429 (x0 := v29) (x1 := p3) hB rfl k30 d_8230_143 (Nat.le_of_ble_eq_true rfl) h (fun S31 h => ?_)
      exact (u_X9_variableWork_146 hB h).weak trivial
    · have h := h.2 c26
      refine zu_aload_n d_8230_126 rfl (zs_ra _) ?_
      refine zu_iconst d_8230_127 zi_1 ?_
      refine zu_iload d_8230_128 rfl ?_
      obtain ⟨k33, h⟩ := h
      refine zc_8_1297 (x0 := (1 : Int32)) (x1 := p4) hB rfl k33 d_8230_130 (Nat.le_of_ble_eq_true rfl) h (fun S34 h => ?_)
      exact (u_X9_variableWork_133 hB h).weak trivial
  · have h := h.2.2.2.2.1 c1
    show zs_U _ _ _ 149 _ _ _ _
    refine zu_aload_n d_8230_149 rfl (zs_ra _) ?_
    refine zu_iload_n d_8230_150 rfl ?_
    refine zu_iload d_8230_151 rfl ?_
    obtain ⟨k36, h⟩ := h
    refine zc_8_1432 (x0 := p2) (x1 := p4) hB rfl k36 d_8230_153 (Nat.le_of_ble_eq_true rfl) h (fun S37 h => ?_)
    refine zu_goto (t := 276) d_8230_156 rfl ?_
    exact zu_vret d_8230_276 zr_8230 h
  · have h := h.2.2.2.2.2.1 c1
    show zs_U _ _ _ 159 _ _ _ _
    refine zu_aload_n d_8230_159 rfl (zs_ra _) ?_
    refine zu_iload d_8230_160 rfl ?_
    obtain ⟨k39, h⟩ := h
    refine zc_8_1435 (x0 := p4) hB rfl k39 d_8230_162 (Nat.le_of_ble_eq_true rfl) h (fun S40 h => ?_)
    refine zu_goto (t := 276) d_8230_165 rfl ?_
    exact zu_vret d_8230_276 zr_8230 h
  · have h := h.2.2.2.2.2.2.1 c1
    show zs_U _ _ _ 168 _ _ _ _
    refine zu_aload_n d_8230_168 rfl (zs_ra _) ?_
    refine zu_iload d_8230_169 rfl ?_
    obtain ⟨k42, h⟩ := h
    refine zc_8_1438 (x0 := p4) hB rfl k42 d_8230_171 (Nat.le_of_ble_eq_true rfl) h (fun S43 h => ?_)
    refine zu_goto (t := 276) d_8230_174 rfl ?_
    exact zu_vret d_8230_276 zr_8230 h
  · have h := h.2.2.2.2.2.2.2.1 c1
    show zs_U _ _ _ 177 _ _ _ _
    refine zu_aload_n d_8230_177 rfl (zs_ra _) ?_
    refine zu_dup d_8230_178 rfl ?_
    obtain ⟨k45, h⟩ := h
    refine zg_8_1270 rfl d_8230_179 k45 ?_
    refine zu_iconst d_8230_182 zi_1 ?_
    refine zu_stk d_8230_183 rfl rfl ?_
    obtain ⟨k46, h⟩ := h
    refine zp_8_1270 (v := ((zs_I S 8195 p0) - (1 : Int32))) rfl d_8230_184 k45 k46 ?_
    generalize e48 : zs_sI S 8195 p0 ((zs_I S 8195 p0) - (1 : Int32)) = S47
    have h := h S47 e48.symm
    have K49 : ∀ b, zs_K S47 b = zs_K S b := zs_Kt e48 (zs_KsI _ _ _ _) (fun _ => rfl)
    refine zu_aload_n d_8230_187 rfl (zs_ra _) ?_
    refine zu_aload_n d_8230_188 rfl (zs_ra _) ?_
    refine zg_8_1270 rfl d_8230_189 ((K49 _).trans k45) ?_
    refine zc_8_1291 (x0 := (zs_I S47 8195 p0)) hB rfl ((K49 _).trans k45) d_8230_192 (Nat.le_of_ble_eq_true rfl) h (fun S50 h => ?_)
    refine zu_aload_n d_8230_195 rfl (zs_ra _) ?_
    refine zu_aload_n d_8230_196 rfl (zs_ra _) ?_
    refine zu_iload_n d_8230_197 rfl ?_
    obtain ⟨k52, h⟩ := h
    refine zc_8_627 (x0 := p2) hB rfl k52 d_8230_198 (Nat.le_of_ble_eq_true rfl) h (fun v54 S53 h => ?_)
    obtain ⟨k55, h⟩ := h
    refine zc_8_1326 (x0 := v54) hB rfl k55 d_8230_201 (Nat.le_of_ble_eq_true rfl) h (fun S56 h => ?_)
    exact (u_X9_variableWork_204 hB h).weak trivial
  · have h := h.2.2.2.2.2.2.2.2.1 c1
    show zs_U _ _ _ 207 _ _ _ _
    refine zu_aload_n d_8230_207 rfl (zs_ra _) ?_
    refine zu_iload d_8230_208 rfl ?_
    obtain ⟨k58, h⟩ := h
    refine zc_8_1441 (x0 := p4) hB rfl k58 d_8230_210 (Nat.le_of_ble_eq_true rfl) h (fun S59 h => ?_)
    refine zu_goto (t := 276) d_8230_213 rfl ?_
    exact zu_vret d_8230_276 zr_8230 h
  · have h := h.2.2.2.2.2.2.2.2.2 c1
    show zs_U _ _ _ 216 _ _ _ _
    refine zu_aload_n d_8230_216 rfl (zs_ra _) ?_
    refine zu_dup d_8230_217 rfl ?_
    obtain ⟨k61, h⟩ := h
    refine zg_8_1270 rfl d_8230_218 k61 ?_
    refine zu_iconst d_8230_221 zi_1 ?_
    refine zu_stk d_8230_222 rfl rfl ?_
    obtain ⟨k62, h⟩ := h
    refine zp_8_1270 (v := ((zs_I S 8195 p0) - (1 : Int32))) rfl d_8230_223 k61 k62 ?_
    generalize e64 : zs_sI S 8195 p0 ((zs_I S 8195 p0) - (1 : Int32)) = S63
    have h := h S63 e64.symm
    have K65 : ∀ b, zs_K S63 b = zs_K S b := zs_Kt e64 (zs_KsI _ _ _ _) (fun _ => rfl)
    refine zu_aload_n d_8230_226 rfl (zs_ra _) ?_
    refine zu_aload_n d_8230_227 rfl (zs_ra _) ?_
    refine zg_8_1270 rfl d_8230_228 ((K65 _).trans k61) ?_
    refine zc_8_1291 (x0 := (zs_I S63 8195 p0)) hB rfl ((K65 _).trans k61) d_8230_231 (Nat.le_of_ble_eq_true rfl) h (fun S66 h => ?_)
    refine zu_aload_n d_8230_234 rfl (zs_ra _) ?_
    refine zu_aload_n d_8230_235 rfl (zs_ra _) ?_
    obtain ⟨k68, h⟩ := h
    refine zg_8_412 rfl d_8230_236 k68 ?_
    refine zu_aload_n d_8230_239 rfl (zs_ra _) ?_
    refine zg_8_1270 rfl d_8230_240 k68 ?_
    obtain ⟨b69, e70, h⟩ := h
    refine zs_stk1 (zs_rfe e70) ?_
    obtain ⟨k71, h⟩ := h
    refine zu_iald (k := 0) d_8230_243 rfl rfl k71 ?_
    refine zu_aload_n d_8230_244 rfl (zs_ra _) ?_
    refine zg_8_409 rfl d_8230_245 k68 ?_
    refine zu_aload_n d_8230_248 rfl (zs_ra _) ?_
    refine zg_8_1270 rfl d_8230_249 k68 ?_
    obtain ⟨b72, e73, h⟩ := h
    refine zs_stk1 (zs_rfe e73) ?_
    obtain ⟨k74, h⟩ := h
    refine zu_iald (k := 0) d_8230_252 rfl rfl k74 ?_
    refine zu_iload d_8230_253 rfl ?_
    refine zu_iconst d_8230_255 zi_1 ?_
    refine zc_8_1404 (x0 := (zs_i S66 b69 (zs_I S66 8195 p0).toNatClampNeg)) (x1 := (zs_i S66 b72 (zs_I S66 8195 p0).toNatClampNeg)) (x2 := p4) (x3 := (1 : Int32)) hB rfl k68 d_8230_256 (Nat.le_of_ble_eq_true rfl) h (fun S75 h => ?_)
    exact (u_X9_variableWork_259 hB h).weak trivial
/-! SchemaPascalModel.push(J)V -/
theorem zm_8231 {σ : Nat → Nat} {n0 : Nat} {bf : ab_B} : ab_code (zx σ n0 bf).1 8231 = prog_17_method_205_code := rfl
theorem zq_8231 {σ : Nat → Nat} {n0 : Nat} {bf : ab_B} : ab_maxL (zx σ n0 bf).1 8231 = 3 := rfl
theorem zr_8231 {σ : Nat → Nat} {n0 : Nat} {bf : ab_B} : ab_ret (zx σ n0 bf).1 8231 = (Option.none : Option Jvm.ClassFile.FieldType) := rfl
theorem d_8231_0 {σ : Nat → Nat} {n0 : Nat} {bf : ab_B} : decode (ab_code (zx σ n0 bf).1 8231) 0 = .ok (.aload_n 0, 1) := zd zm_8231 (by decide +kernel)
theorem d_8231_1 {σ : Nat → Nat} {n0 : Nat} {bf : ab_B} : decode (ab_code (zx σ n0 bf).1 8231) 1 = .ok (.getfield 399, 3) := zd zm_8231 (by decide +kernel)
theorem d_8231_4 {σ : Nat → Nat} {n0 : Nat} {bf : ab_B} : decode (ab_code (zx σ n0 bf).1 8231) 4 = .ok (.aload_n 0, 1) := zd zm_8231 (by decide +kernel)
theorem d_8231_5 {σ : Nat → Nat} {n0 : Nat} {bf : ab_B} : decode (ab_code (zx σ n0 bf).1 8231) 5 = .ok (.getfield 1261, 3) := zd zm_8231 (by decide +kernel)
theorem d_8231_8 {σ : Nat → Nat} {n0 : Nat} {bf : ab_B} : decode (ab_code (zx σ n0 bf).1 8231) 8 = .ok (.lload_n 1, 1) := zd zm_8231 (by decide +kernel)
theorem d_8231_9 {σ : Nat → Nat} {n0 : Nat} {bf : ab_B} : decode (ab_code (zx σ n0 bf).1 8231) 9 = .ok (.lastore, 1) := zd zm_8231 (by decide +kernel)
theorem d_8231_10 {σ : Nat → Nat} {n0 : Nat} {bf : ab_B} : decode (ab_code (zx σ n0 bf).1 8231) 10 = .ok (.aload_n 0, 1) := zd zm_8231 (by decide +kernel)
theorem d_8231_11 {σ : Nat → Nat} {n0 : Nat} {bf : ab_B} : decode (ab_code (zx σ n0 bf).1 8231) 11 = .ok (.dup, 1) := zd zm_8231 (by decide +kernel)
theorem d_8231_12 {σ : Nat → Nat} {n0 : Nat} {bf : ab_B} : decode (ab_code (zx σ n0 bf).1 8231) 12 = .ok (.getfield 1261, 3) := zd zm_8231 (by decide +kernel)
theorem d_8231_15 {σ : Nat → Nat} {n0 : Nat} {bf : ab_B} : decode (ab_code (zx σ n0 bf).1 8231) 15 = .ok (.iconst 1, 1) := zd zm_8231 (by decide +kernel)
theorem d_8231_16 {σ : Nat → Nat} {n0 : Nat} {bf : ab_B} : decode (ab_code (zx σ n0 bf).1 8231) 16 = .ok (.iadd, 1) := zd zm_8231 (by decide +kernel)
theorem d_8231_17 {σ : Nat → Nat} {n0 : Nat} {bf : ab_B} : decode (ab_code (zx σ n0 bf).1 8231) 17 = .ok (.putfield 1261, 3) := zd zm_8231 (by decide +kernel)
theorem d_8231_20 {σ : Nat → Nat} {n0 : Nat} {bf : ab_B} : decode (ab_code (zx σ n0 bf).1 8231) 20 = .ok (.return_, 1) := zd zm_8231 (by decide +kernel)
def w_X9_push (X : zs_X) (d : Nat) (p0 : Nat) (p1 : Int64) (S : zs_T) (Q : zs_Q) : Prop :=
  (zs_K S p0 = some (.inl 8) ∧ ∃ b2, (zs_R S 8183 p0) = some b2 ∧ zs_A S b2 3 (zs_I S 8184 p0) ∧ ab_n0 X.1 ≤ b2 ∧ ∀ S6, S6 = zs_sj S b2 (zs_I S 8184 p0).toNatClampNeg p1 → ab_n0 X.1 ≤ p0 ∧ ∀ S10, S10 = zs_sI S6 8184 p0 ((zs_I S6 8184 p0) + (1 : Int32)) → Q (.returned none) S10)
theorem u_X9_push {σ : Nat → Nat} {n0 : Nat} {bf : ab_B} {d : Nat} {p0 : Nat} {p1 : Int64} {S : zs_T} {Q : zs_Q} (hB : zt_B bf) (hd : 1 ≤ d) (h : w_X9_push (zx σ n0 bf) (d - 1) p0 p1 S Q) : zs_C (zx σ n0 bf) d 8231 [.ref p0, .long p1] S Q := by
  have hL : lv_args 0 [.ref p0, .long p1] = [(0, .ref p0), (1, .long p1)] := rfl
  refine zs_C.of1 (hB.2 8231 (by decide) (by decide)) hd (by rw [hL]; exact zs_sub_self _ (by exact ⟨rfl, rfl, trivial⟩)) ?_
  rw [hL]
  clear hL
  unfold w_X9_push at h
  refine zu_aload_n d_8231_0 rfl (zs_ra _) ?_
  obtain ⟨k1, h⟩ := h
  refine zg_8_399 rfl d_8231_1 k1 ?_
  refine zu_aload_n d_8231_4 rfl (zs_ra _) ?_
  refine zg_8_1261 rfl d_8231_5 k1 ?_
  refine zu_lload_n d_8231_8 rfl ?_
  obtain ⟨b2, e3, h⟩ := h
  refine zs_stk2 (zs_rfe e3) ?_
  obtain ⟨k4, h⟩ := h
  obtain ⟨k5, h⟩ := h
  refine zu_last (k := 3) d_8231_9 rfl rfl k5 k4 ?_
  generalize e7 : zs_sj S b2 (zs_I S 8184 p0).toNatClampNeg p1 = S6
  have h := h S6 e7.symm
  have K8 : ∀ b, zs_K S6 b = zs_K S b := zs_Kt e7 (zs_Ksj _ _ _ _) (fun _ => rfl)
  refine zu_aload_n d_8231_10 rfl (zs_ra _) ?_
  refine zu_dup d_8231_11 rfl ?_
  refine zg_8_1261 rfl d_8231_12 ((K8 _).trans k1) ?_
  refine zu_iconst d_8231_15 zi_1 ?_
  refine zu_stk d_8231_16 rfl rfl ?_
  obtain ⟨k9, h⟩ := h
  refine zp_8_1261 (v := ((zs_I S6 8184 p0) + (1 : Int32))) rfl d_8231_17 ((K8 _).trans k1) k9 ?_
  generalize e11 : zs_sI S6 8184 p0 ((zs_I S6 8184 p0) + (1 : Int32)) = S10
  have h := h S10 e11.symm
  have K12 : ∀ b, zs_K S10 b = zs_K S b := zs_Kt e11 (zs_KsI _ _ _ _) K8
  exact zu_vret d_8231_20 zr_8231 h
/-! SchemaPascalModel.beginText()V -/
theorem zm_8232 {σ : Nat → Nat} {n0 : Nat} {bf : ab_B} : ab_code (zx σ n0 bf).1 8232 = prog_17_method_220_code := rfl
theorem zq_8232 {σ : Nat → Nat} {n0 : Nat} {bf : ab_B} : ab_maxL (zx σ n0 bf).1 8232 = 1 := rfl
theorem zr_8232 {σ : Nat → Nat} {n0 : Nat} {bf : ab_B} : ab_ret (zx σ n0 bf).1 8232 = (Option.none : Option Jvm.ClassFile.FieldType) := rfl
theorem d_8232_0 {σ : Nat → Nat} {n0 : Nat} {bf : ab_B} : decode (ab_code (zx σ n0 bf).1 8232) 0 = .ok (.aload_n 0, 1) := zd zm_8232 (by decide +kernel)
theorem d_8232_1 {σ : Nat → Nat} {n0 : Nat} {bf : ab_B} : decode (ab_code (zx σ n0 bf).1 8232) 1 = .ok (.getfield 405, 3) := zd zm_8232 (by decide +kernel)
theorem d_8232_4 {σ : Nat → Nat} {n0 : Nat} {bf : ab_B} : decode (ab_code (zx σ n0 bf).1 8232) 4 = .ok (.aload_n 0, 1) := zd zm_8232 (by decide +kernel)
theorem d_8232_5 {σ : Nat → Nat} {n0 : Nat} {bf : ab_B} : decode (ab_code (zx σ n0 bf).1 8232) 5 = .ok (.getfield 1264, 3) := zd zm_8232 (by decide +kernel)
theorem d_8232_8 {σ : Nat → Nat} {n0 : Nat} {bf : ab_B} : decode (ab_code (zx σ n0 bf).1 8232) 8 = .ok (.aload_n 0, 1) := zd zm_8232 (by decide +kernel)
theorem d_8232_9 {σ : Nat → Nat} {n0 : Nat} {bf : ab_B} : decode (ab_code (zx σ n0 bf).1 8232) 9 = .ok (.getfield 1267, 3) := zd zm_8232 (by decide +kernel)
theorem d_8232_12 {σ : Nat → Nat} {n0 : Nat} {bf : ab_B} : decode (ab_code (zx σ n0 bf).1 8232) 12 = .ok (.iastore, 1) := zd zm_8232 (by decide +kernel)
theorem d_8232_13 {σ : Nat → Nat} {n0 : Nat} {bf : ab_B} : decode (ab_code (zx σ n0 bf).1 8232) 13 = .ok (.aload_n 0, 1) := zd zm_8232 (by decide +kernel)
theorem d_8232_14 {σ : Nat → Nat} {n0 : Nat} {bf : ab_B} : decode (ab_code (zx σ n0 bf).1 8232) 14 = .ok (.dup, 1) := zd zm_8232 (by decide +kernel)
theorem d_8232_15 {σ : Nat → Nat} {n0 : Nat} {bf : ab_B} : decode (ab_code (zx σ n0 bf).1 8232) 15 = .ok (.getfield 1264, 3) := zd zm_8232 (by decide +kernel)
theorem d_8232_18 {σ : Nat → Nat} {n0 : Nat} {bf : ab_B} : decode (ab_code (zx σ n0 bf).1 8232) 18 = .ok (.iconst 1, 1) := zd zm_8232 (by decide +kernel)
theorem d_8232_19 {σ : Nat → Nat} {n0 : Nat} {bf : ab_B} : decode (ab_code (zx σ n0 bf).1 8232) 19 = .ok (.iadd, 1) := zd zm_8232 (by decide +kernel)
theorem d_8232_20 {σ : Nat → Nat} {n0 : Nat} {bf : ab_B} : decode (ab_code (zx σ n0 bf).1 8232) 20 = .ok (.putfield 1264, 3) := zd zm_8232 (by decide +kernel)
theorem d_8232_23 {σ : Nat → Nat} {n0 : Nat} {bf : ab_B} : decode (ab_code (zx σ n0 bf).1 8232) 23 = .ok (.return_, 1) := zd zm_8232 (by decide +kernel)
def w_X9_beginText (X : zs_X) (d : Nat) (p0 : Nat) (S : zs_T) (Q : zs_Q) : Prop :=
  (zs_K S p0 = some (.inl 8) ∧ ∃ b2, (zs_R S 8186 p0) = some b2 ∧ zs_A S b2 0 (zs_I S 8187 p0) ∧ ab_n0 X.1 ≤ b2 ∧ ∀ S6, S6 = zs_si S b2 (zs_I S 8187 p0).toNatClampNeg (zs_I S 8188 p0) → ab_n0 X.1 ≤ p0 ∧ ∀ S10, S10 = zs_sI S6 8187 p0 ((zs_I S6 8187 p0) + (1 : Int32)) → Q (.returned none) S10)
theorem u_X9_beginText {σ : Nat → Nat} {n0 : Nat} {bf : ab_B} {d : Nat} {p0 : Nat} {S : zs_T} {Q : zs_Q} (hB : zt_B bf) (hd : 1 ≤ d) (h : w_X9_beginText (zx σ n0 bf) (d - 1) p0 S Q) : zs_C (zx σ n0 bf) d 8232 [.ref p0] S Q := by
  have hL : lv_args 0 [.ref p0] = [(0, .ref p0)] := rfl
  refine zs_C.of1 (hB.2 8232 (by decide) (by decide)) hd (by rw [hL]; exact zs_sub_self _ (by exact ⟨rfl, trivial⟩)) ?_
  rw [hL]
  clear hL
  unfold w_X9_beginText at h
  refine zu_aload_n d_8232_0 rfl (zs_ra _) ?_
  obtain ⟨k1, h⟩ := h
  refine zg_8_405 rfl d_8232_1 k1 ?_
  refine zu_aload_n d_8232_4 rfl (zs_ra _) ?_
  refine zg_8_1264 rfl d_8232_5 k1 ?_
  refine zu_aload_n d_8232_8 rfl (zs_ra _) ?_
  refine zg_8_1267 rfl d_8232_9 k1 ?_
  obtain ⟨b2, e3, h⟩ := h
  refine zs_stk2 (zs_rfe e3) ?_
  obtain ⟨k4, h⟩ := h
  obtain ⟨k5, h⟩ := h
  refine zu_iast (k := 0) d_8232_12 rfl rfl k5 k4 ?_
  generalize e7 : zs_si S b2 (zs_I S 8187 p0).toNatClampNeg (zs_I S 8188 p0) = S6
  have h := h S6 e7.symm
  have K8 : ∀ b, zs_K S6 b = zs_K S b := zs_Kt e7 (zs_Ksi _ _ _ _) (fun _ => rfl)
  refine zu_aload_n d_8232_13 rfl (zs_ra _) ?_
  refine zu_dup d_8232_14 rfl ?_
  refine zg_8_1264 rfl d_8232_15 ((K8 _).trans k1) ?_
  refine zu_iconst d_8232_18 zi_1 ?_
  refine zu_stk d_8232_19 rfl rfl ?_
  obtain ⟨k9, h⟩ := h
  refine zp_8_1264 (v := ((zs_I S6 8187 p0) + (1 : Int32))) rfl d_8232_20 ((K8 _).trans k1) k9 ?_
  generalize e11 : zs_sI S6 8187 p0 ((zs_I S6 8187 p0) + (1 : Int32)) = S10
  have h := h S10 e11.symm
  have K12 : ∀ b, zs_K S10 b = zs_K S b := zs_Kt e11 (zs_KsI _ _ _ _) K8
  exact zu_vret d_8232_23 zr_8232 h
/-! SchemaPascalModel.putText(JI)V -/
theorem zm_8233 {σ : Nat → Nat} {n0 : Nat} {bf : ab_B} : ab_code (zx σ n0 bf).1 8233 = prog_17_method_221_code := rfl
theorem zq_8233 {σ : Nat → Nat} {n0 : Nat} {bf : ab_B} : ab_maxL (zx σ n0 bf).1 8233 = 4 := rfl
theorem zr_8233 {σ : Nat → Nat} {n0 : Nat} {bf : ab_B} : ab_ret (zx σ n0 bf).1 8233 = (Option.none : Option Jvm.ClassFile.FieldType) := rfl
theorem d_8233_0 {σ : Nat → Nat} {n0 : Nat} {bf : ab_B} : decode (ab_code (zx σ n0 bf).1 8233) 0 = .ok (.aload_n 0, 1) := zd zm_8233 (by decide +kernel)
theorem d_8233_1 {σ : Nat → Nat} {n0 : Nat} {bf : ab_B} : decode (ab_code (zx σ n0 bf).1 8233) 1 = .ok (.getfield 1267, 3) := zd zm_8233 (by decide +kernel)
theorem d_8233_4 {σ : Nat → Nat} {n0 : Nat} {bf : ab_B} : decode (ab_code (zx σ n0 bf).1 8233) 4 = .ok (.sipush 20000, 3) := zd zm_8233 (by decide +kernel)
theorem d_8233_7 {σ : Nat → Nat} {n0 : Nat} {bf : ab_B} : decode (ab_code (zx σ n0 bf).1 8233) 7 = .ok (.if_icmp .lt 13, 3) := zd zm_8233 (by decide +kernel)
theorem d_8233_10 {σ : Nat → Nat} {n0 : Nat} {bf : ab_B} : decode (ab_code (zx σ n0 bf).1 8233) 10 = .ok (.aload_n 0, 1) := zd zm_8233 (by decide +kernel)
theorem d_8233_11 {σ : Nat → Nat} {n0 : Nat} {bf : ab_B} : decode (ab_code (zx σ n0 bf).1 8233) 11 = .ok (.bipush 11, 2) := zd zm_8233 (by decide +kernel)
theorem d_8233_13 {σ : Nat → Nat} {n0 : Nat} {bf : ab_B} : decode (ab_code (zx σ n0 bf).1 8233) 13 = .ok (.iload_n 3, 1) := zd zm_8233 (by decide +kernel)
theorem d_8233_14 {σ : Nat → Nat} {n0 : Nat} {bf : ab_B} : decode (ab_code (zx σ n0 bf).1 8233) 14 = .ok (.invokevirtual 1297, 3) := zd zm_8233 (by decide +kernel)
theorem d_8233_17 {σ : Nat → Nat} {n0 : Nat} {bf : ab_B} : decode (ab_code (zx σ n0 bf).1 8233) 17 = .ok (.goto 25, 3) := zd zm_8233 (by decide +kernel)
theorem d_8233_20 {σ : Nat → Nat} {n0 : Nat} {bf : ab_B} : decode (ab_code (zx σ n0 bf).1 8233) 20 = .ok (.aload_n 0, 1) := zd zm_8233 (by decide +kernel)
theorem d_8233_21 {σ : Nat → Nat} {n0 : Nat} {bf : ab_B} : decode (ab_code (zx σ n0 bf).1 8233) 21 = .ok (.getfield 402, 3) := zd zm_8233 (by decide +kernel)
theorem d_8233_24 {σ : Nat → Nat} {n0 : Nat} {bf : ab_B} : decode (ab_code (zx σ n0 bf).1 8233) 24 = .ok (.aload_n 0, 1) := zd zm_8233 (by decide +kernel)
theorem d_8233_25 {σ : Nat → Nat} {n0 : Nat} {bf : ab_B} : decode (ab_code (zx σ n0 bf).1 8233) 25 = .ok (.getfield 1267, 3) := zd zm_8233 (by decide +kernel)
theorem d_8233_28 {σ : Nat → Nat} {n0 : Nat} {bf : ab_B} : decode (ab_code (zx σ n0 bf).1 8233) 28 = .ok (.lload_n 1, 1) := zd zm_8233 (by decide +kernel)
theorem d_8233_29 {σ : Nat → Nat} {n0 : Nat} {bf : ab_B} : decode (ab_code (zx σ n0 bf).1 8233) 29 = .ok (.l2i, 1) := zd zm_8233 (by decide +kernel)
theorem d_8233_30 {σ : Nat → Nat} {n0 : Nat} {bf : ab_B} : decode (ab_code (zx σ n0 bf).1 8233) 30 = .ok (.i2b, 1) := zd zm_8233 (by decide +kernel)
theorem d_8233_31 {σ : Nat → Nat} {n0 : Nat} {bf : ab_B} : decode (ab_code (zx σ n0 bf).1 8233) 31 = .ok (.bastore, 1) := zd zm_8233 (by decide +kernel)
theorem d_8233_32 {σ : Nat → Nat} {n0 : Nat} {bf : ab_B} : decode (ab_code (zx σ n0 bf).1 8233) 32 = .ok (.aload_n 0, 1) := zd zm_8233 (by decide +kernel)
theorem d_8233_33 {σ : Nat → Nat} {n0 : Nat} {bf : ab_B} : decode (ab_code (zx σ n0 bf).1 8233) 33 = .ok (.dup, 1) := zd zm_8233 (by decide +kernel)
theorem d_8233_34 {σ : Nat → Nat} {n0 : Nat} {bf : ab_B} : decode (ab_code (zx σ n0 bf).1 8233) 34 = .ok (.getfield 1267, 3) := zd zm_8233 (by decide +kernel)
theorem d_8233_37 {σ : Nat → Nat} {n0 : Nat} {bf : ab_B} : decode (ab_code (zx σ n0 bf).1 8233) 37 = .ok (.iconst 1, 1) := zd zm_8233 (by decide +kernel)
theorem d_8233_38 {σ : Nat → Nat} {n0 : Nat} {bf : ab_B} : decode (ab_code (zx σ n0 bf).1 8233) 38 = .ok (.iadd, 1) := zd zm_8233 (by decide +kernel)
theorem d_8233_39 {σ : Nat → Nat} {n0 : Nat} {bf : ab_B} : decode (ab_code (zx σ n0 bf).1 8233) 39 = .ok (.putfield 1267, 3) := zd zm_8233 (by decide +kernel)
theorem d_8233_42 {σ : Nat → Nat} {n0 : Nat} {bf : ab_B} : decode (ab_code (zx σ n0 bf).1 8233) 42 = .ok (.return_, 1) := zd zm_8233 (by decide +kernel)
def w_X9_putText_42 (X : zs_X) (d : Nat)  (S : zs_T) (Q : zs_Q) : Prop :=
  (Q (.returned none) S)
theorem u_X9_putText_42 {σ : Nat → Nat} {n0 : Nat} {bf : ab_B} {d : Nat}  {S : zs_T} {Q : zs_Q} (hB : zt_B bf) (h : w_X9_putText_42 (zx σ n0 bf) d  S Q) : zs_U (zx σ n0 bf) d 8233 42 [] [] S Q := by
  unfold w_X9_putText_42 at h
  exact zu_vret d_8233_42 zr_8233 h
def w_X9_putText (X : zs_X) (d : Nat) (p0 : Nat) (p1 : Int64) (p3 : Int32) (S : zs_T) (Q : zs_Q) : Prop :=
  (zs_K S p0 = some (.inl 8) ∧ (((zs_I S 8188 p0) < (20000 : Int32) → (∃ b3, (zs_R S 8185 p0) = some b3 ∧ zs_A S b3 1 (zs_I S 8188 p0) ∧ ab_n0 X.1 ≤ b3 ∧ ∀ S7, S7 = zs_si S b3 (zs_I S 8188 p0).toNatClampNeg (vp_nar .byte ((((p1).toInt32)).toInt8.toInt32)) → ab_n0 X.1 ≤ p0 ∧ ∀ S11, S11 = zs_sI S7 8188 p0 ((zs_I S7 8188 p0) + (1 : Int32)) → w_X9_putText_42 X d  S11 Q)) ∧ (¬ ((zs_I S 8188 p0) < (20000 : Int32)) → (zs_C X d 8208 [.ref p0, .int (11 : Int32), .int p3] S (zs_kV (fun S14 => (w_X9_putText_42 X d  S14 Q)) Q)))))
theorem u_X9_putText {σ : Nat → Nat} {n0 : Nat} {bf : ab_B} {d : Nat} {p0 : Nat} {p1 : Int64} {p3 : Int32} {S : zs_T} {Q : zs_Q} (hB : zt_B bf) (hd : 1 ≤ d) (h : w_X9_putText (zx σ n0 bf) (d - 1) p0 p1 p3 S Q) : zs_C (zx σ n0 bf) d 8233 [.ref p0, .long p1, .int p3] S Q := by
  have hL : lv_args 0 [.ref p0, .long p1, .int p3] = [(0, .ref p0), (1, .long p1), (3, .int p3)] := rfl
  refine zs_C.of1 (hB.2 8233 (by decide) (by decide)) hd (by rw [hL]; exact zs_sub_self _ (by exact ⟨rfl, rfl, rfl, trivial⟩)) ?_
  rw [hL]
  clear hL
  unfold w_X9_putText at h
  refine zu_aload_n d_8233_0 rfl (zs_ra _) ?_
  obtain ⟨k1, h⟩ := h
  refine zg_8_1267 rfl d_8233_1 k1 ?_
  refine zu_sipush d_8233_4 zh_20000 ?_
  refine zu_cmplt (t := 20) d_8233_7 rfl (fun c2 => ?_) (fun c2 => ?_)
  · have h := h.1 c2
    refine zu_aload_n d_8233_20 rfl (zs_ra _) ?_
    refine zg_8_402 rfl d_8233_21 k1 ?_
    refine zu_aload_n d_8233_24 rfl (zs_ra _) ?_
    refine zg_8_1267 rfl d_8233_25 k1 ?_
    refine zu_lload_n d_8233_28 rfl ?_
    refine zu_stk d_8233_29 rfl rfl ?_
    refine zu_stk d_8233_30 rfl rfl ?_
    obtain ⟨b3, e4, h⟩ := h
    refine zs_stk2 (zs_rfe e4) ?_
    obtain ⟨k5, h⟩ := h
    obtain ⟨k6, h⟩ := h
    refine zu_bast_byte (k := 1) d_8233_31 rfl rfl k6 k5 ?_
    generalize e8 : zs_si S b3 (zs_I S 8188 p0).toNatClampNeg (vp_nar .byte ((((p1).toInt32)).toInt8.toInt32)) = S7
    have h := h S7 e8.symm
    have K9 : ∀ b, zs_K S7 b = zs_K S b := zs_Kt e8 (zs_Ksi _ _ _ _) (fun _ => rfl)
    refine zu_aload_n d_8233_32 rfl (zs_ra _) ?_
    refine zu_dup d_8233_33 rfl ?_
    refine zg_8_1267 rfl d_8233_34 ((K9 _).trans k1) ?_
    refine zu_iconst d_8233_37 zi_1 ?_
    refine zu_stk d_8233_38 rfl rfl ?_
    obtain ⟨k10, h⟩ := h
    refine zp_8_1267 (v := ((zs_I S7 8188 p0) + (1 : Int32))) rfl d_8233_39 ((K9 _).trans k1) k10 ?_
    generalize e12 : zs_sI S7 8188 p0 ((zs_I S7 8188 p0) + (1 : Int32)) = S11
    have h := h S11 e12.symm
    have K13 : ∀ b, zs_K S11 b = zs_K S b := zs_Kt e12 (zs_KsI _ _ _ _) K9
    exact (u_X9_putText_42 hB h).weak trivial
  · have h := h.2 c2
    refine zu_aload_n d_8233_10 rfl (zs_ra _) ?_
    refine zu_bipush d_8233_11 zj_11 ?_
    refine zu_iload_n d_8233_13 rfl ?_
    refine zc_8_1297 (x0 := (11 : Int32)) (x1 := p3) hB rfl k1 d_8233_14 (Nat.le_of_ble_eq_true rfl) h (fun S14 h => ?_)
    refine zu_goto (t := 42) d_8233_17 rfl ?_
    exact (u_X9_putText_42 hB h).weak trivial
/-! SchemaPascalModel.pushSlot(II)V -/
theorem zm_8234 {σ : Nat → Nat} {n0 : Nat} {bf : ab_B} : ab_code (zx σ n0 bf).1 8234 = prog_17_method_211_code := rfl
theorem zq_8234 {σ : Nat → Nat} {n0 : Nat} {bf : ab_B} : ab_maxL (zx σ n0 bf).1 8234 = 4 := rfl
theorem zr_8234 {σ : Nat → Nat} {n0 : Nat} {bf : ab_B} : ab_ret (zx σ n0 bf).1 8234 = (Option.none : Option Jvm.ClassFile.FieldType) := rfl
theorem d_8234_0 {σ : Nat → Nat} {n0 : Nat} {bf : ab_B} : decode (ab_code (zx σ n0 bf).1 8234) 0 = .ok (.aload_n 0, 1) := zd zm_8234 (by decide +kernel)
theorem d_8234_1 {σ : Nat → Nat} {n0 : Nat} {bf : ab_B} : decode (ab_code (zx σ n0 bf).1 8234) 1 = .ok (.getfield 347, 3) := zd zm_8234 (by decide +kernel)
theorem d_8234_4 {σ : Nat → Nat} {n0 : Nat} {bf : ab_B} : decode (ab_code (zx σ n0 bf).1 8234) 4 = .ok (.iload_n 1, 1) := zd zm_8234 (by decide +kernel)
theorem d_8234_5 {σ : Nat → Nat} {n0 : Nat} {bf : ab_B} : decode (ab_code (zx σ n0 bf).1 8234) 5 = .ok (.iaload, 1) := zd zm_8234 (by decide +kernel)
theorem d_8234_6 {σ : Nat → Nat} {n0 : Nat} {bf : ab_B} : decode (ab_code (zx σ n0 bf).1 8234) 6 = .ok (.iload_n 2, 1) := zd zm_8234 (by decide +kernel)
theorem d_8234_7 {σ : Nat → Nat} {n0 : Nat} {bf : ab_B} : decode (ab_code (zx σ n0 bf).1 8234) 7 = .ok (.iadd, 1) := zd zm_8234 (by decide +kernel)
theorem d_8234_8 {σ : Nat → Nat} {n0 : Nat} {bf : ab_B} : decode (ab_code (zx σ n0 bf).1 8234) 8 = .ok (.istore_n 3, 1) := zd zm_8234 (by decide +kernel)
theorem d_8234_9 {σ : Nat → Nat} {n0 : Nat} {bf : ab_B} : decode (ab_code (zx σ n0 bf).1 8234) 9 = .ok (.aload_n 0, 1) := zd zm_8234 (by decide +kernel)
theorem d_8234_10 {σ : Nat → Nat} {n0 : Nat} {bf : ab_B} : decode (ab_code (zx σ n0 bf).1 8234) 10 = .ok (.aload_n 0, 1) := zd zm_8234 (by decide +kernel)
theorem d_8234_11 {σ : Nat → Nat} {n0 : Nat} {bf : ab_B} : decode (ab_code (zx σ n0 bf).1 8234) 11 = .ok (.getfield 369, 3) := zd zm_8234 (by decide +kernel)
theorem d_8234_14 {σ : Nat → Nat} {n0 : Nat} {bf : ab_B} : decode (ab_code (zx σ n0 bf).1 8234) 14 = .ok (.iconst 4, 1) := zd zm_8234 (by decide +kernel)
theorem d_8234_15 {σ : Nat → Nat} {n0 : Nat} {bf : ab_B} : decode (ab_code (zx σ n0 bf).1 8234) 15 = .ok (.iload_n 3, 1) := zd zm_8234 (by decide +kernel)
theorem d_8234_16 {σ : Nat → Nat} {n0 : Nat} {bf : ab_B} : decode (ab_code (zx σ n0 bf).1 8234) 16 = .ok (.imul, 1) := zd zm_8234 (by decide +kernel)
theorem d_8234_17 {σ : Nat → Nat} {n0 : Nat} {bf : ab_B} : decode (ab_code (zx σ n0 bf).1 8234) 17 = .ok (.laload, 1) := zd zm_8234 (by decide +kernel)
theorem d_8234_18 {σ : Nat → Nat} {n0 : Nat} {bf : ab_B} : decode (ab_code (zx σ n0 bf).1 8234) 18 = .ok (.putfield 610, 3) := zd zm_8234 (by decide +kernel)
theorem d_8234_21 {σ : Nat → Nat} {n0 : Nat} {bf : ab_B} : decode (ab_code (zx σ n0 bf).1 8234) 21 = .ok (.aload_n 0, 1) := zd zm_8234 (by decide +kernel)
theorem d_8234_22 {σ : Nat → Nat} {n0 : Nat} {bf : ab_B} : decode (ab_code (zx σ n0 bf).1 8234) 22 = .ok (.aload_n 0, 1) := zd zm_8234 (by decide +kernel)
theorem d_8234_23 {σ : Nat → Nat} {n0 : Nat} {bf : ab_B} : decode (ab_code (zx σ n0 bf).1 8234) 23 = .ok (.getfield 369, 3) := zd zm_8234 (by decide +kernel)
theorem d_8234_26 {σ : Nat → Nat} {n0 : Nat} {bf : ab_B} : decode (ab_code (zx σ n0 bf).1 8234) 26 = .ok (.iconst 4, 1) := zd zm_8234 (by decide +kernel)
theorem d_8234_27 {σ : Nat → Nat} {n0 : Nat} {bf : ab_B} : decode (ab_code (zx σ n0 bf).1 8234) 27 = .ok (.iload_n 3, 1) := zd zm_8234 (by decide +kernel)
theorem d_8234_28 {σ : Nat → Nat} {n0 : Nat} {bf : ab_B} : decode (ab_code (zx σ n0 bf).1 8234) 28 = .ok (.imul, 1) := zd zm_8234 (by decide +kernel)
theorem d_8234_29 {σ : Nat → Nat} {n0 : Nat} {bf : ab_B} : decode (ab_code (zx σ n0 bf).1 8234) 29 = .ok (.iconst 1, 1) := zd zm_8234 (by decide +kernel)
theorem d_8234_30 {σ : Nat → Nat} {n0 : Nat} {bf : ab_B} : decode (ab_code (zx σ n0 bf).1 8234) 30 = .ok (.iadd, 1) := zd zm_8234 (by decide +kernel)
theorem d_8234_31 {σ : Nat → Nat} {n0 : Nat} {bf : ab_B} : decode (ab_code (zx σ n0 bf).1 8234) 31 = .ok (.laload, 1) := zd zm_8234 (by decide +kernel)
theorem d_8234_32 {σ : Nat → Nat} {n0 : Nat} {bf : ab_B} : decode (ab_code (zx σ n0 bf).1 8234) 32 = .ok (.putfield 614, 3) := zd zm_8234 (by decide +kernel)
theorem d_8234_35 {σ : Nat → Nat} {n0 : Nat} {bf : ab_B} : decode (ab_code (zx σ n0 bf).1 8234) 35 = .ok (.aload_n 0, 1) := zd zm_8234 (by decide +kernel)
theorem d_8234_36 {σ : Nat → Nat} {n0 : Nat} {bf : ab_B} : decode (ab_code (zx σ n0 bf).1 8234) 36 = .ok (.aload_n 0, 1) := zd zm_8234 (by decide +kernel)
theorem d_8234_37 {σ : Nat → Nat} {n0 : Nat} {bf : ab_B} : decode (ab_code (zx σ n0 bf).1 8234) 37 = .ok (.getfield 369, 3) := zd zm_8234 (by decide +kernel)
theorem d_8234_40 {σ : Nat → Nat} {n0 : Nat} {bf : ab_B} : decode (ab_code (zx σ n0 bf).1 8234) 40 = .ok (.iconst 4, 1) := zd zm_8234 (by decide +kernel)
theorem d_8234_41 {σ : Nat → Nat} {n0 : Nat} {bf : ab_B} : decode (ab_code (zx σ n0 bf).1 8234) 41 = .ok (.iload_n 3, 1) := zd zm_8234 (by decide +kernel)
theorem d_8234_42 {σ : Nat → Nat} {n0 : Nat} {bf : ab_B} : decode (ab_code (zx σ n0 bf).1 8234) 42 = .ok (.imul, 1) := zd zm_8234 (by decide +kernel)
theorem d_8234_43 {σ : Nat → Nat} {n0 : Nat} {bf : ab_B} : decode (ab_code (zx σ n0 bf).1 8234) 43 = .ok (.iconst 2, 1) := zd zm_8234 (by decide +kernel)
theorem d_8234_44 {σ : Nat → Nat} {n0 : Nat} {bf : ab_B} : decode (ab_code (zx σ n0 bf).1 8234) 44 = .ok (.iadd, 1) := zd zm_8234 (by decide +kernel)
theorem d_8234_45 {σ : Nat → Nat} {n0 : Nat} {bf : ab_B} : decode (ab_code (zx σ n0 bf).1 8234) 45 = .ok (.laload, 1) := zd zm_8234 (by decide +kernel)
theorem d_8234_46 {σ : Nat → Nat} {n0 : Nat} {bf : ab_B} : decode (ab_code (zx σ n0 bf).1 8234) 46 = .ok (.putfield 617, 3) := zd zm_8234 (by decide +kernel)
theorem d_8234_49 {σ : Nat → Nat} {n0 : Nat} {bf : ab_B} : decode (ab_code (zx σ n0 bf).1 8234) 49 = .ok (.aload_n 0, 1) := zd zm_8234 (by decide +kernel)
theorem d_8234_50 {σ : Nat → Nat} {n0 : Nat} {bf : ab_B} : decode (ab_code (zx σ n0 bf).1 8234) 50 = .ok (.aload_n 0, 1) := zd zm_8234 (by decide +kernel)
theorem d_8234_51 {σ : Nat → Nat} {n0 : Nat} {bf : ab_B} : decode (ab_code (zx σ n0 bf).1 8234) 51 = .ok (.getfield 369, 3) := zd zm_8234 (by decide +kernel)
theorem d_8234_54 {σ : Nat → Nat} {n0 : Nat} {bf : ab_B} : decode (ab_code (zx σ n0 bf).1 8234) 54 = .ok (.iconst 4, 1) := zd zm_8234 (by decide +kernel)
theorem d_8234_55 {σ : Nat → Nat} {n0 : Nat} {bf : ab_B} : decode (ab_code (zx σ n0 bf).1 8234) 55 = .ok (.iload_n 3, 1) := zd zm_8234 (by decide +kernel)
theorem d_8234_56 {σ : Nat → Nat} {n0 : Nat} {bf : ab_B} : decode (ab_code (zx σ n0 bf).1 8234) 56 = .ok (.imul, 1) := zd zm_8234 (by decide +kernel)
theorem d_8234_57 {σ : Nat → Nat} {n0 : Nat} {bf : ab_B} : decode (ab_code (zx σ n0 bf).1 8234) 57 = .ok (.iconst 3, 1) := zd zm_8234 (by decide +kernel)
theorem d_8234_58 {σ : Nat → Nat} {n0 : Nat} {bf : ab_B} : decode (ab_code (zx σ n0 bf).1 8234) 58 = .ok (.iadd, 1) := zd zm_8234 (by decide +kernel)
theorem d_8234_59 {σ : Nat → Nat} {n0 : Nat} {bf : ab_B} : decode (ab_code (zx σ n0 bf).1 8234) 59 = .ok (.laload, 1) := zd zm_8234 (by decide +kernel)
theorem d_8234_60 {σ : Nat → Nat} {n0 : Nat} {bf : ab_B} : decode (ab_code (zx σ n0 bf).1 8234) 60 = .ok (.putfield 620, 3) := zd zm_8234 (by decide +kernel)
theorem d_8234_63 {σ : Nat → Nat} {n0 : Nat} {bf : ab_B} : decode (ab_code (zx σ n0 bf).1 8234) 63 = .ok (.aload_n 0, 1) := zd zm_8234 (by decide +kernel)
theorem d_8234_64 {σ : Nat → Nat} {n0 : Nat} {bf : ab_B} : decode (ab_code (zx σ n0 bf).1 8234) 64 = .ok (.aload_n 0, 1) := zd zm_8234 (by decide +kernel)
theorem d_8234_65 {σ : Nat → Nat} {n0 : Nat} {bf : ab_B} : decode (ab_code (zx σ n0 bf).1 8234) 65 = .ok (.getfield 362, 3) := zd zm_8234 (by decide +kernel)
theorem d_8234_68 {σ : Nat → Nat} {n0 : Nat} {bf : ab_B} : decode (ab_code (zx σ n0 bf).1 8234) 68 = .ok (.iload_n 3, 1) := zd zm_8234 (by decide +kernel)
theorem d_8234_69 {σ : Nat → Nat} {n0 : Nat} {bf : ab_B} : decode (ab_code (zx σ n0 bf).1 8234) 69 = .ok (.iaload, 1) := zd zm_8234 (by decide +kernel)
theorem d_8234_70 {σ : Nat → Nat} {n0 : Nat} {bf : ab_B} : decode (ab_code (zx σ n0 bf).1 8234) 70 = .ok (.aload_n 0, 1) := zd zm_8234 (by decide +kernel)
theorem d_8234_71 {σ : Nat → Nat} {n0 : Nat} {bf : ab_B} : decode (ab_code (zx σ n0 bf).1 8234) 71 = .ok (.getfield 365, 3) := zd zm_8234 (by decide +kernel)
theorem d_8234_74 {σ : Nat → Nat} {n0 : Nat} {bf : ab_B} : decode (ab_code (zx σ n0 bf).1 8234) 74 = .ok (.iload_n 3, 1) := zd zm_8234 (by decide +kernel)
theorem d_8234_75 {σ : Nat → Nat} {n0 : Nat} {bf : ab_B} : decode (ab_code (zx σ n0 bf).1 8234) 75 = .ok (.iaload, 1) := zd zm_8234 (by decide +kernel)
theorem d_8234_76 {σ : Nat → Nat} {n0 : Nat} {bf : ab_B} : decode (ab_code (zx σ n0 bf).1 8234) 76 = .ok (.invokevirtual 1288, 3) := zd zm_8234 (by decide +kernel)
theorem d_8234_79 {σ : Nat → Nat} {n0 : Nat} {bf : ab_B} : decode (ab_code (zx σ n0 bf).1 8234) 79 = .ok (.return_, 1) := zd zm_8234 (by decide +kernel)
def w_X9_pushSlot_63 (X : zs_X) (d : Nat) (p0 : Nat) (p3 : Int32) (S : zs_T) (Q : zs_Q) : Prop :=
  (zs_K S p0 = some (.inl 8) ∧ ∃ b2, (zs_R S 8167 p0) = some b2 ∧ zs_A S b2 0 p3 ∧ ∃ b5, (zs_R S 8168 p0) = some b5 ∧ zs_A S b5 0 p3 ∧ zs_C X d 8235 [.ref p0, .int (zs_i S b2 p3.toNatClampNeg), .int (zs_i S b5 p3.toNatClampNeg)] S (zs_kV (fun S8 => (Q (.returned none) S8)) Q))
theorem u_X9_pushSlot_63 {σ : Nat → Nat} {n0 : Nat} {bf : ab_B} {d : Nat} {p0 : Nat} {p3 : Int32} {S : zs_T} {Q : zs_Q} (hB : zt_B bf) (h : w_X9_pushSlot_63 (zx σ n0 bf) d p0 p3 S Q) : zs_U (zx σ n0 bf) d 8234 63 [(0, .ref p0), (3, .int p3)] [] S Q := by
  unfold w_X9_pushSlot_63 at h
  refine zu_aload_n d_8234_63 rfl (zs_ra _) ?_
  refine zu_aload_n d_8234_64 rfl (zs_ra _) ?_
  obtain ⟨k1, h⟩ := h
  refine zg_8_362 rfl d_8234_65 k1 ?_
  refine zu_iload_n d_8234_68 rfl ?_
  obtain ⟨b2, e3, h⟩ := h
  refine zs_stk1 (zs_rfe e3) ?_
  obtain ⟨k4, h⟩ := h
  refine zu_iald (k := 0) d_8234_69 rfl rfl k4 ?_
  refine zu_aload_n d_8234_70 rfl (zs_ra _) ?_
  refine zg_8_365 rfl d_8234_71 k1 ?_
  refine zu_iload_n d_8234_74 rfl ?_
  obtain ⟨b5, e6, h⟩ := h
  refine zs_stk1 (zs_rfe e6) ?_
  obtain ⟨k7, h⟩ := h
  refine zu_iald (k := 0) d_8234_75 rfl rfl k7 ?_
  refine zc_8_1288 (x0 := (zs_i S b2 p3.toNatClampNeg)) (x1 := (zs_i S b5 p3.toNatClampNeg)) hB rfl k1 d_8234_76 (Nat.le_of_ble_eq_true rfl) h (fun S8 h => ?_)
  exact zu_vret d_8234_79 zr_8234 h
def w_X9_pushSlot_35 (X : zs_X) (d : Nat) (p0 : Nat) (p3 : Int32) (S : zs_T) (Q : zs_Q) : Prop :=
  (zs_K S p0 = some (.inl 8) ∧ ∃ b2, (zs_R S 8169 p0) = some b2 ∧ zs_A S b2 3 (((4 : Int32) * p3) + (2 : Int32)) ∧ ab_n0 X.1 ≤ p0 ∧ ∀ S6, S6 = zs_sJ S 8083 p0 (zs_j S b2 (((4 : Int32) * p3) + (2 : Int32)).toNatClampNeg) → ∃ b9, (zs_R S6 8169 p0) = some b9 ∧ zs_A S b9 3 (((4 : Int32) * p3) + (3 : Int32)) ∧ ∀ S12, S12 = zs_sJ S6 8084 p0 (zs_j S6 b9 (((4 : Int32) * p3) + (3 : Int32)).toNatClampNeg) → w_X9_pushSlot_63 X d p0 p3 S12 Q)
theorem u_X9_pushSlot_35 {σ : Nat → Nat} {n0 : Nat} {bf : ab_B} {d : Nat} {p0 : Nat} {p3 : Int32} {S : zs_T} {Q : zs_Q} (hB : zt_B bf) (h : w_X9_pushSlot_35 (zx σ n0 bf) d p0 p3 S Q) : zs_U (zx σ n0 bf) d 8234 35 [(0, .ref p0), (3, .int p3)] [] S Q := by
  unfold w_X9_pushSlot_35 at h
  refine zu_aload_n d_8234_35 rfl (zs_ra _) ?_
  refine zu_aload_n d_8234_36 rfl (zs_ra _) ?_
  obtain ⟨k1, h⟩ := h
  refine zg_8_369 rfl d_8234_37 k1 ?_
  refine zu_iconst d_8234_40 zi_4 ?_
  refine zu_iload_n d_8234_41 rfl ?_
  refine zu_stk d_8234_42 rfl rfl ?_
  refine zu_iconst d_8234_43 zi_2 ?_
  refine zu_stk d_8234_44 rfl rfl ?_
  obtain ⟨b2, e3, h⟩ := h
  refine zs_stk1 (zs_rfe e3) ?_
  obtain ⟨k4, h⟩ := h
  refine zu_lald (k := 3) d_8234_45 rfl rfl k4 ?_
  obtain ⟨k5, h⟩ := h
  refine zp_8_617 (v := (zs_j S b2 (((4 : Int32) * p3) + (2 : Int32)).toNatClampNeg)) rfl d_8234_46 k1 k5 ?_
  generalize e7 : zs_sJ S 8083 p0 (zs_j S b2 (((4 : Int32) * p3) + (2 : Int32)).toNatClampNeg) = S6
  have h := h S6 e7.symm
  have K8 : ∀ b, zs_K S6 b = zs_K S b := zs_Kt e7 (zs_KsJ _ _ _ _) (fun _ => rfl)
  refine zu_aload_n d_8234_49 rfl (zs_ra _) ?_
  refine zu_aload_n d_8234_50 rfl (zs_ra _) ?_
  refine zg_8_369 rfl d_8234_51 ((K8 _).trans k1) ?_
  refine zu_iconst d_8234_54 zi_4 ?_
  refine zu_iload_n d_8234_55 rfl ?_
  refine zu_stk d_8234_56 rfl rfl ?_
  refine zu_iconst d_8234_57 zi_3 ?_
  refine zu_stk d_8234_58 rfl rfl ?_
  obtain ⟨b9, e10, h⟩ := h
  refine zs_stk1 (zs_rfe e10) ?_
  obtain ⟨k11, h⟩ := h
  refine zu_lald (k := 3) d_8234_59 rfl rfl (zs_Ak K8 k11) ?_
  refine zp_8_620 (v := (zs_j S6 b9 (((4 : Int32) * p3) + (3 : Int32)).toNatClampNeg)) rfl d_8234_60 ((K8 _).trans k1) k5 ?_
  generalize e13 : zs_sJ S6 8084 p0 (zs_j S6 b9 (((4 : Int32) * p3) + (3 : Int32)).toNatClampNeg) = S12
  have h := h S12 e13.symm
  have K14 : ∀ b, zs_K S12 b = zs_K S b := zs_Kt e13 (zs_KsJ _ _ _ _) K8
  exact (u_X9_pushSlot_63 hB h).weak ⟨rfl, rfl, trivial⟩
def w_X9_pushSlot (X : zs_X) (d : Nat) (p0 : Nat) (p1 : Int32) (p2 : Int32) (S : zs_T) (Q : zs_Q) : Prop :=
  (zs_K S p0 = some (.inl 8) ∧ ∃ b2, (zs_R S 8160 p0) = some b2 ∧ zs_A S b2 0 p1 ∧ ∃ b5, (zs_R S 8169 p0) = some b5 ∧ zs_A S b5 3 ((4 : Int32) * ((zs_i S b2 p1.toNatClampNeg) + p2)) ∧ ab_n0 X.1 ≤ p0 ∧ ∀ S9, S9 = zs_sJ S 8081 p0 (zs_j S b5 ((4 : Int32) * ((zs_i S b2 p1.toNatClampNeg) + p2)).toNatClampNeg) → ∃ b12, (zs_R S9 8169 p0) = some b12 ∧ zs_A S b12 3 (((4 : Int32) * ((zs_i S b2 p1.toNatClampNeg) + p2)) + (1 : Int32)) ∧ ∀ S15, S15 = zs_sJ S9 8082 p0 (zs_j S9 b12 (((4 : Int32) * ((zs_i S b2 p1.toNatClampNeg) + p2)) + (1 : Int32)).toNatClampNeg) → w_X9_pushSlot_35 X d p0 ((zs_i S b2 p1.toNatClampNeg) + p2) S15 Q)
theorem u_X9_pushSlot {σ : Nat → Nat} {n0 : Nat} {bf : ab_B} {d : Nat} {p0 : Nat} {p1 : Int32} {p2 : Int32} {S : zs_T} {Q : zs_Q} (hB : zt_B bf) (hd : 1 ≤ d) (h : w_X9_pushSlot (zx σ n0 bf) (d - 1) p0 p1 p2 S Q) : zs_C (zx σ n0 bf) d 8234 [.ref p0, .int p1, .int p2] S Q := by
  have hL : lv_args 0 [.ref p0, .int p1, .int p2] = [(0, .ref p0), (1, .int p1), (2, .int p2)] := rfl
  refine zs_C.of1 (hB.2 8234 (by decide) (by decide)) hd (by rw [hL]; exact zs_sub_self _ (by exact ⟨rfl, rfl, rfl, trivial⟩)) ?_
  rw [hL]
  clear hL
  unfold w_X9_pushSlot at h
  refine zu_aload_n d_8234_0 rfl (zs_ra _) ?_
  obtain ⟨k1, h⟩ := h
  refine zg_8_347 rfl d_8234_1 k1 ?_
  refine zu_iload_n d_8234_4 rfl ?_
  obtain ⟨b2, e3, h⟩ := h
  refine zs_stk1 (zs_rfe e3) ?_
  obtain ⟨k4, h⟩ := h
  refine zu_iald (k := 0) d_8234_5 rfl rfl k4 ?_
  refine zu_iload_n d_8234_6 rfl ?_
  refine zu_stk d_8234_7 rfl rfl ?_
  refine zu_istore_n d_8234_8 (zs_lt zq_8234 rfl) ?_
  refine zu_aload_n d_8234_9 rfl (zs_ra _) ?_
  refine zu_aload_n d_8234_10 rfl (zs_ra _) ?_
  refine zg_8_369 rfl d_8234_11 k1 ?_
  refine zu_iconst d_8234_14 zi_4 ?_
  refine zu_iload_n d_8234_15 rfl ?_
  refine zu_stk d_8234_16 rfl rfl ?_
  obtain ⟨b5, e6, h⟩ := h
  refine zs_stk1 (zs_rfe e6) ?_
  obtain ⟨k7, h⟩ := h
  refine zu_lald (k := 3) d_8234_17 rfl rfl k7 ?_
  obtain ⟨k8, h⟩ := h
  refine zp_8_610 (v := (zs_j S b5 ((4 : Int32) * ((zs_i S b2 p1.toNatClampNeg) + p2)).toNatClampNeg)) rfl d_8234_18 k1 k8 ?_
  generalize e10 : zs_sJ S 8081 p0 (zs_j S b5 ((4 : Int32) * ((zs_i S b2 p1.toNatClampNeg) + p2)).toNatClampNeg) = S9
  have h := h S9 e10.symm
  have K11 : ∀ b, zs_K S9 b = zs_K S b := zs_Kt e10 (zs_KsJ _ _ _ _) (fun _ => rfl)
  refine zu_aload_n d_8234_21 rfl (zs_ra _) ?_
  refine zu_aload_n d_8234_22 rfl (zs_ra _) ?_
  refine zg_8_369 rfl d_8234_23 ((K11 _).trans k1) ?_
  refine zu_iconst d_8234_26 zi_4 ?_
  refine zu_iload_n d_8234_27 rfl ?_
  refine zu_stk d_8234_28 rfl rfl ?_
  refine zu_iconst d_8234_29 zi_1 ?_
  refine zu_stk d_8234_30 rfl rfl ?_
  obtain ⟨b12, e13, h⟩ := h
  refine zs_stk1 (zs_rfe e13) ?_
  obtain ⟨k14, h⟩ := h
  refine zu_lald (k := 3) d_8234_31 rfl rfl (zs_Ak K11 k14) ?_
  refine zp_8_614 (v := (zs_j S9 b12 (((4 : Int32) * ((zs_i S b2 p1.toNatClampNeg) + p2)) + (1 : Int32)).toNatClampNeg)) rfl d_8234_32 ((K11 _).trans k1) k8 ?_
  generalize e16 : zs_sJ S9 8082 p0 (zs_j S9 b12 (((4 : Int32) * ((zs_i S b2 p1.toNatClampNeg) + p2)) + (1 : Int32)).toNatClampNeg) = S15
  have h := h S15 e16.symm
  have K17 : ∀ b, zs_K S15 b = zs_K S b := zs_Kt e16 (zs_KsJ _ _ _ _) K11
  exact (u_X9_pushSlot_35 hB h).weak ⟨rfl, rfl, trivial⟩
/-! SchemaPascalModel.pushRef(II)V -/
theorem zm_8235 {σ : Nat → Nat} {n0 : Nat} {bf : ab_B} : ab_code (zx σ n0 bf).1 8235 = prog_17_method_210_code := rfl
theorem zq_8235 {σ : Nat → Nat} {n0 : Nat} {bf : ab_B} : ab_maxL (zx σ n0 bf).1 8235 = 3 := rfl
theorem zr_8235 {σ : Nat → Nat} {n0 : Nat} {bf : ab_B} : ab_ret (zx σ n0 bf).1 8235 = (Option.none : Option Jvm.ClassFile.FieldType) := rfl
theorem d_8235_0 {σ : Nat → Nat} {n0 : Nat} {bf : ab_B} : decode (ab_code (zx σ n0 bf).1 8235) 0 = .ok (.aload_n 0, 1) := zd zm_8235 (by decide +kernel)
theorem d_8235_1 {σ : Nat → Nat} {n0 : Nat} {bf : ab_B} : decode (ab_code (zx σ n0 bf).1 8235) 1 = .ok (.getfield 409, 3) := zd zm_8235 (by decide +kernel)
theorem d_8235_4 {σ : Nat → Nat} {n0 : Nat} {bf : ab_B} : decode (ab_code (zx σ n0 bf).1 8235) 4 = .ok (.aload_n 0, 1) := zd zm_8235 (by decide +kernel)
theorem d_8235_5 {σ : Nat → Nat} {n0 : Nat} {bf : ab_B} : decode (ab_code (zx σ n0 bf).1 8235) 5 = .ok (.getfield 1270, 3) := zd zm_8235 (by decide +kernel)
theorem d_8235_8 {σ : Nat → Nat} {n0 : Nat} {bf : ab_B} : decode (ab_code (zx σ n0 bf).1 8235) 8 = .ok (.iload_n 1, 1) := zd zm_8235 (by decide +kernel)
theorem d_8235_9 {σ : Nat → Nat} {n0 : Nat} {bf : ab_B} : decode (ab_code (zx σ n0 bf).1 8235) 9 = .ok (.iastore, 1) := zd zm_8235 (by decide +kernel)
theorem d_8235_10 {σ : Nat → Nat} {n0 : Nat} {bf : ab_B} : decode (ab_code (zx σ n0 bf).1 8235) 10 = .ok (.aload_n 0, 1) := zd zm_8235 (by decide +kernel)
theorem d_8235_11 {σ : Nat → Nat} {n0 : Nat} {bf : ab_B} : decode (ab_code (zx σ n0 bf).1 8235) 11 = .ok (.getfield 412, 3) := zd zm_8235 (by decide +kernel)
theorem d_8235_14 {σ : Nat → Nat} {n0 : Nat} {bf : ab_B} : decode (ab_code (zx σ n0 bf).1 8235) 14 = .ok (.aload_n 0, 1) := zd zm_8235 (by decide +kernel)
theorem d_8235_15 {σ : Nat → Nat} {n0 : Nat} {bf : ab_B} : decode (ab_code (zx σ n0 bf).1 8235) 15 = .ok (.getfield 1270, 3) := zd zm_8235 (by decide +kernel)
theorem d_8235_18 {σ : Nat → Nat} {n0 : Nat} {bf : ab_B} : decode (ab_code (zx σ n0 bf).1 8235) 18 = .ok (.iload_n 2, 1) := zd zm_8235 (by decide +kernel)
theorem d_8235_19 {σ : Nat → Nat} {n0 : Nat} {bf : ab_B} : decode (ab_code (zx σ n0 bf).1 8235) 19 = .ok (.iastore, 1) := zd zm_8235 (by decide +kernel)
theorem d_8235_20 {σ : Nat → Nat} {n0 : Nat} {bf : ab_B} : decode (ab_code (zx σ n0 bf).1 8235) 20 = .ok (.aload_n 0, 1) := zd zm_8235 (by decide +kernel)
theorem d_8235_21 {σ : Nat → Nat} {n0 : Nat} {bf : ab_B} : decode (ab_code (zx σ n0 bf).1 8235) 21 = .ok (.getfield 419, 3) := zd zm_8235 (by decide +kernel)
theorem d_8235_24 {σ : Nat → Nat} {n0 : Nat} {bf : ab_B} : decode (ab_code (zx σ n0 bf).1 8235) 24 = .ok (.aload_n 0, 1) := zd zm_8235 (by decide +kernel)
theorem d_8235_25 {σ : Nat → Nat} {n0 : Nat} {bf : ab_B} : decode (ab_code (zx σ n0 bf).1 8235) 25 = .ok (.getfield 1270, 3) := zd zm_8235 (by decide +kernel)
theorem d_8235_28 {σ : Nat → Nat} {n0 : Nat} {bf : ab_B} : decode (ab_code (zx σ n0 bf).1 8235) 28 = .ok (.iconst 0, 1) := zd zm_8235 (by decide +kernel)
theorem d_8235_29 {σ : Nat → Nat} {n0 : Nat} {bf : ab_B} : decode (ab_code (zx σ n0 bf).1 8235) 29 = .ok (.iastore, 1) := zd zm_8235 (by decide +kernel)
theorem d_8235_30 {σ : Nat → Nat} {n0 : Nat} {bf : ab_B} : decode (ab_code (zx σ n0 bf).1 8235) 30 = .ok (.aload_n 0, 1) := zd zm_8235 (by decide +kernel)
theorem d_8235_31 {σ : Nat → Nat} {n0 : Nat} {bf : ab_B} : decode (ab_code (zx σ n0 bf).1 8235) 31 = .ok (.aload_n 0, 1) := zd zm_8235 (by decide +kernel)
theorem d_8235_32 {σ : Nat → Nat} {n0 : Nat} {bf : ab_B} : decode (ab_code (zx σ n0 bf).1 8235) 32 = .ok (.getfield 1270, 3) := zd zm_8235 (by decide +kernel)
theorem d_8235_35 {σ : Nat → Nat} {n0 : Nat} {bf : ab_B} : decode (ab_code (zx σ n0 bf).1 8235) 35 = .ok (.invokevirtual 1285, 3) := zd zm_8235 (by decide +kernel)
theorem d_8235_38 {σ : Nat → Nat} {n0 : Nat} {bf : ab_B} : decode (ab_code (zx σ n0 bf).1 8235) 38 = .ok (.aload_n 0, 1) := zd zm_8235 (by decide +kernel)
theorem d_8235_39 {σ : Nat → Nat} {n0 : Nat} {bf : ab_B} : decode (ab_code (zx σ n0 bf).1 8235) 39 = .ok (.dup, 1) := zd zm_8235 (by decide +kernel)
theorem d_8235_40 {σ : Nat → Nat} {n0 : Nat} {bf : ab_B} : decode (ab_code (zx σ n0 bf).1 8235) 40 = .ok (.getfield 1270, 3) := zd zm_8235 (by decide +kernel)
theorem d_8235_43 {σ : Nat → Nat} {n0 : Nat} {bf : ab_B} : decode (ab_code (zx σ n0 bf).1 8235) 43 = .ok (.iconst 1, 1) := zd zm_8235 (by decide +kernel)
theorem d_8235_44 {σ : Nat → Nat} {n0 : Nat} {bf : ab_B} : decode (ab_code (zx σ n0 bf).1 8235) 44 = .ok (.iadd, 1) := zd zm_8235 (by decide +kernel)
theorem d_8235_45 {σ : Nat → Nat} {n0 : Nat} {bf : ab_B} : decode (ab_code (zx σ n0 bf).1 8235) 45 = .ok (.putfield 1270, 3) := zd zm_8235 (by decide +kernel)
theorem d_8235_48 {σ : Nat → Nat} {n0 : Nat} {bf : ab_B} : decode (ab_code (zx σ n0 bf).1 8235) 48 = .ok (.return_, 1) := zd zm_8235 (by decide +kernel)
def w_X9_pushRef_30 (X : zs_X) (d : Nat) (p0 : Nat) (S : zs_T) (Q : zs_Q) : Prop :=
  (zs_K S p0 = some (.inl 8) ∧ zs_C X d 8236 [.ref p0, .int (zs_I S 8195 p0)] S (zs_kV (fun S2 => (zs_K S2 p0 = some (.inl 8) ∧ ab_n0 X.1 ≤ p0 ∧ ∀ S6, S6 = zs_sI S2 8195 p0 ((zs_I S2 8195 p0) + (1 : Int32)) → Q (.returned none) S6)) Q))
theorem u_X9_pushRef_30 {σ : Nat → Nat} {n0 : Nat} {bf : ab_B} {d : Nat} {p0 : Nat} {S : zs_T} {Q : zs_Q} (hB : zt_B bf) (h : w_X9_pushRef_30 (zx σ n0 bf) d p0 S Q) : zs_U (zx σ n0 bf) d 8235 30 [(0, .ref p0)] [] S Q := by
  unfold w_X9_pushRef_30 at h
  refine zu_aload_n d_8235_30 rfl (zs_ra _) ?_
  refine zu_aload_n d_8235_31 rfl (zs_ra _) ?_
  obtain ⟨k1, h⟩ := h
  refine zg_8_1270 rfl d_8235_32 k1 ?_
  refine zc_8_1285 (x0 := (zs_I S 8195 p0)) hB rfl k1 d_8235_35 (Nat.le_of_ble_eq_true rfl) h (fun S2 h => ?_)
  refine zu_aload_n d_8235_38 rfl (zs_ra _) ?_
  refine zu_dup d_8235_39 rfl ?_
  obtain ⟨k4, h⟩ := h
  refine zg_8_1270 rfl d_8235_40 k4 ?_
  refine zu_iconst d_8235_43 zi_1 ?_
  refine zu_stk d_8235_44 rfl rfl ?_
  obtain ⟨k5, h⟩ := h
  refine zp_8_1270 (v := ((zs_I S2 8195 p0) + (1 : Int32))) rfl d_8235_45 k4 k5 ?_
  generalize e7 : zs_sI S2 8195 p0 ((zs_I S2 8195 p0) + (1 : Int32)) = S6
  have h := h S6 e7.symm
  have K8 : ∀ b, zs_K S6 b = zs_K S2 b := zs_Kt e7 (zs_KsI _ _ _ _) (fun _ => rfl)
  exact zu_vret d_8235_48 zr_8235 h
def w_X9_pushRef (X : zs_X) (d : Nat) (p0 : Nat) (p1 : Int32) (p2 : Int32) (S : zs_T) (Q : zs_Q) : Prop :=
  (zs_K S p0 = some (.inl 8) ∧ ∃ b2, (zs_R S 8189 p0) = some b2 ∧ zs_A S b2 0 (zs_I S 8195 p0) ∧ ab_n0 X.1 ≤ b2 ∧ ∀ S6, S6 = zs_si S b2 (zs_I S 8195 p0).toNatClampNeg p1 → ∃ b9, (zs_R S6 8190 p0) = some b9 ∧ zs_A S b9 0 (zs_I S6 8195 p0) ∧ ab_n0 X.1 ≤ b9 ∧ ∀ S13, S13 = zs_si S6 b9 (zs_I S6 8195 p0).toNatClampNeg p2 → ∃ b16, (zs_R S13 8192 p0) = some b16 ∧ zs_A S b16 0 (zs_I S13 8195 p0) ∧ ab_n0 X.1 ≤ b16 ∧ ∀ S20, S20 = zs_si S13 b16 (zs_I S13 8195 p0).toNatClampNeg (0 : Int32) → w_X9_pushRef_30 X d p0 S20 Q)
theorem u_X9_pushRef {σ : Nat → Nat} {n0 : Nat} {bf : ab_B} {d : Nat} {p0 : Nat} {p1 : Int32} {p2 : Int32} {S : zs_T} {Q : zs_Q} (hB : zt_B bf) (hd : 1 ≤ d) (h : w_X9_pushRef (zx σ n0 bf) (d - 1) p0 p1 p2 S Q) : zs_C (zx σ n0 bf) d 8235 [.ref p0, .int p1, .int p2] S Q := by
  have hL : lv_args 0 [.ref p0, .int p1, .int p2] = [(0, .ref p0), (1, .int p1), (2, .int p2)] := rfl
  refine zs_C.of1 (hB.2 8235 (by decide) (by decide)) hd (by rw [hL]; exact zs_sub_self _ (by exact ⟨rfl, rfl, rfl, trivial⟩)) ?_
  rw [hL]
  clear hL
  unfold w_X9_pushRef at h
  refine zu_aload_n d_8235_0 rfl (zs_ra _) ?_
  obtain ⟨k1, h⟩ := h
  refine zg_8_409 rfl d_8235_1 k1 ?_
  refine zu_aload_n d_8235_4 rfl (zs_ra _) ?_
  refine zg_8_1270 rfl d_8235_5 k1 ?_
  refine zu_iload_n d_8235_8 rfl ?_
  obtain ⟨b2, e3, h⟩ := h
  refine zs_stk2 (zs_rfe e3) ?_
  obtain ⟨k4, h⟩ := h
  obtain ⟨k5, h⟩ := h
  refine zu_iast (k := 0) d_8235_9 rfl rfl k5 k4 ?_
  generalize e7 : zs_si S b2 (zs_I S 8195 p0).toNatClampNeg p1 = S6
  have h := h S6 e7.symm
  have K8 : ∀ b, zs_K S6 b = zs_K S b := zs_Kt e7 (zs_Ksi _ _ _ _) (fun _ => rfl)
  refine zu_aload_n d_8235_10 rfl (zs_ra _) ?_
  refine zg_8_412 rfl d_8235_11 ((K8 _).trans k1) ?_
  refine zu_aload_n d_8235_14 rfl (zs_ra _) ?_
  refine zg_8_1270 rfl d_8235_15 ((K8 _).trans k1) ?_
  refine zu_iload_n d_8235_18 rfl ?_
  obtain ⟨b9, e10, h⟩ := h
  refine zs_stk2 (zs_rfe e10) ?_
  obtain ⟨k11, h⟩ := h
  obtain ⟨k12, h⟩ := h
  refine zu_iast (k := 0) d_8235_19 rfl rfl k12 (zs_Ak K8 k11) ?_
  generalize e14 : zs_si S6 b9 (zs_I S6 8195 p0).toNatClampNeg p2 = S13
  have h := h S13 e14.symm
  have K15 : ∀ b, zs_K S13 b = zs_K S b := zs_Kt e14 (zs_Ksi _ _ _ _) K8
  refine zu_aload_n d_8235_20 rfl (zs_ra _) ?_
  refine zg_8_419 rfl d_8235_21 ((K15 _).trans k1) ?_
  refine zu_aload_n d_8235_24 rfl (zs_ra _) ?_
  refine zg_8_1270 rfl d_8235_25 ((K15 _).trans k1) ?_
  refine zu_iconst d_8235_28 zi_0 ?_
  obtain ⟨b16, e17, h⟩ := h
  refine zs_stk2 (zs_rfe e17) ?_
  obtain ⟨k18, h⟩ := h
  obtain ⟨k19, h⟩ := h
  refine zu_iast (k := 0) d_8235_29 rfl rfl k19 (zs_Ak K15 k18) ?_
  generalize e21 : zs_si S13 b16 (zs_I S13 8195 p0).toNatClampNeg (0 : Int32) = S20
  have h := h S20 e21.symm
  have K22 : ∀ b, zs_K S20 b = zs_K S b := zs_Kt e21 (zs_Ksi _ _ _ _) K15
  exact (u_X9_pushRef_30 hB h).weak ⟨rfl, trivial⟩
/-! SchemaPascalModel.keepDisc(I)V -/
theorem zm_8236 {σ : Nat → Nat} {n0 : Nat} {bf : ab_B} : ab_code (zx σ n0 bf).1 8236 = prog_17_method_208_code := rfl
theorem zq_8236 {σ : Nat → Nat} {n0 : Nat} {bf : ab_B} : ab_maxL (zx σ n0 bf).1 8236 = 2 := rfl
theorem zr_8236 {σ : Nat → Nat} {n0 : Nat} {bf : ab_B} : ab_ret (zx σ n0 bf).1 8236 = (Option.none : Option Jvm.ClassFile.FieldType) := rfl
theorem d_8236_0 {σ : Nat → Nat} {n0 : Nat} {bf : ab_B} : decode (ab_code (zx σ n0 bf).1 8236) 0 = .ok (.aload_n 0, 1) := zd zm_8236 (by decide +kernel)
theorem d_8236_1 {σ : Nat → Nat} {n0 : Nat} {bf : ab_B} : decode (ab_code (zx σ n0 bf).1 8236) 1 = .ok (.getfield 416, 3) := zd zm_8236 (by decide +kernel)
theorem d_8236_4 {σ : Nat → Nat} {n0 : Nat} {bf : ab_B} : decode (ab_code (zx σ n0 bf).1 8236) 4 = .ok (.iconst 4, 1) := zd zm_8236 (by decide +kernel)
theorem d_8236_5 {σ : Nat → Nat} {n0 : Nat} {bf : ab_B} : decode (ab_code (zx σ n0 bf).1 8236) 5 = .ok (.iload_n 1, 1) := zd zm_8236 (by decide +kernel)
theorem d_8236_6 {σ : Nat → Nat} {n0 : Nat} {bf : ab_B} : decode (ab_code (zx σ n0 bf).1 8236) 6 = .ok (.imul, 1) := zd zm_8236 (by decide +kernel)
theorem d_8236_7 {σ : Nat → Nat} {n0 : Nat} {bf : ab_B} : decode (ab_code (zx σ n0 bf).1 8236) 7 = .ok (.aload_n 0, 1) := zd zm_8236 (by decide +kernel)
theorem d_8236_8 {σ : Nat → Nat} {n0 : Nat} {bf : ab_B} : decode (ab_code (zx σ n0 bf).1 8236) 8 = .ok (.getfield 610, 3) := zd zm_8236 (by decide +kernel)
theorem d_8236_11 {σ : Nat → Nat} {n0 : Nat} {bf : ab_B} : decode (ab_code (zx σ n0 bf).1 8236) 11 = .ok (.lastore, 1) := zd zm_8236 (by decide +kernel)
theorem d_8236_12 {σ : Nat → Nat} {n0 : Nat} {bf : ab_B} : decode (ab_code (zx σ n0 bf).1 8236) 12 = .ok (.aload_n 0, 1) := zd zm_8236 (by decide +kernel)
theorem d_8236_13 {σ : Nat → Nat} {n0 : Nat} {bf : ab_B} : decode (ab_code (zx σ n0 bf).1 8236) 13 = .ok (.getfield 416, 3) := zd zm_8236 (by decide +kernel)
theorem d_8236_16 {σ : Nat → Nat} {n0 : Nat} {bf : ab_B} : decode (ab_code (zx σ n0 bf).1 8236) 16 = .ok (.iconst 4, 1) := zd zm_8236 (by decide +kernel)
theorem d_8236_17 {σ : Nat → Nat} {n0 : Nat} {bf : ab_B} : decode (ab_code (zx σ n0 bf).1 8236) 17 = .ok (.iload_n 1, 1) := zd zm_8236 (by decide +kernel)
theorem d_8236_18 {σ : Nat → Nat} {n0 : Nat} {bf : ab_B} : decode (ab_code (zx σ n0 bf).1 8236) 18 = .ok (.imul, 1) := zd zm_8236 (by decide +kernel)
theorem d_8236_19 {σ : Nat → Nat} {n0 : Nat} {bf : ab_B} : decode (ab_code (zx σ n0 bf).1 8236) 19 = .ok (.iconst 1, 1) := zd zm_8236 (by decide +kernel)
theorem d_8236_20 {σ : Nat → Nat} {n0 : Nat} {bf : ab_B} : decode (ab_code (zx σ n0 bf).1 8236) 20 = .ok (.iadd, 1) := zd zm_8236 (by decide +kernel)
theorem d_8236_21 {σ : Nat → Nat} {n0 : Nat} {bf : ab_B} : decode (ab_code (zx σ n0 bf).1 8236) 21 = .ok (.aload_n 0, 1) := zd zm_8236 (by decide +kernel)
theorem d_8236_22 {σ : Nat → Nat} {n0 : Nat} {bf : ab_B} : decode (ab_code (zx σ n0 bf).1 8236) 22 = .ok (.getfield 614, 3) := zd zm_8236 (by decide +kernel)
theorem d_8236_25 {σ : Nat → Nat} {n0 : Nat} {bf : ab_B} : decode (ab_code (zx σ n0 bf).1 8236) 25 = .ok (.lastore, 1) := zd zm_8236 (by decide +kernel)
theorem d_8236_26 {σ : Nat → Nat} {n0 : Nat} {bf : ab_B} : decode (ab_code (zx σ n0 bf).1 8236) 26 = .ok (.aload_n 0, 1) := zd zm_8236 (by decide +kernel)
theorem d_8236_27 {σ : Nat → Nat} {n0 : Nat} {bf : ab_B} : decode (ab_code (zx σ n0 bf).1 8236) 27 = .ok (.getfield 416, 3) := zd zm_8236 (by decide +kernel)
theorem d_8236_30 {σ : Nat → Nat} {n0 : Nat} {bf : ab_B} : decode (ab_code (zx σ n0 bf).1 8236) 30 = .ok (.iconst 4, 1) := zd zm_8236 (by decide +kernel)
theorem d_8236_31 {σ : Nat → Nat} {n0 : Nat} {bf : ab_B} : decode (ab_code (zx σ n0 bf).1 8236) 31 = .ok (.iload_n 1, 1) := zd zm_8236 (by decide +kernel)
theorem d_8236_32 {σ : Nat → Nat} {n0 : Nat} {bf : ab_B} : decode (ab_code (zx σ n0 bf).1 8236) 32 = .ok (.imul, 1) := zd zm_8236 (by decide +kernel)
theorem d_8236_33 {σ : Nat → Nat} {n0 : Nat} {bf : ab_B} : decode (ab_code (zx σ n0 bf).1 8236) 33 = .ok (.iconst 2, 1) := zd zm_8236 (by decide +kernel)
theorem d_8236_34 {σ : Nat → Nat} {n0 : Nat} {bf : ab_B} : decode (ab_code (zx σ n0 bf).1 8236) 34 = .ok (.iadd, 1) := zd zm_8236 (by decide +kernel)
theorem d_8236_35 {σ : Nat → Nat} {n0 : Nat} {bf : ab_B} : decode (ab_code (zx σ n0 bf).1 8236) 35 = .ok (.aload_n 0, 1) := zd zm_8236 (by decide +kernel)
theorem d_8236_36 {σ : Nat → Nat} {n0 : Nat} {bf : ab_B} : decode (ab_code (zx σ n0 bf).1 8236) 36 = .ok (.getfield 617, 3) := zd zm_8236 (by decide +kernel)
theorem d_8236_39 {σ : Nat → Nat} {n0 : Nat} {bf : ab_B} : decode (ab_code (zx σ n0 bf).1 8236) 39 = .ok (.lastore, 1) := zd zm_8236 (by decide +kernel)
theorem d_8236_40 {σ : Nat → Nat} {n0 : Nat} {bf : ab_B} : decode (ab_code (zx σ n0 bf).1 8236) 40 = .ok (.aload_n 0, 1) := zd zm_8236 (by decide +kernel)
theorem d_8236_41 {σ : Nat → Nat} {n0 : Nat} {bf : ab_B} : decode (ab_code (zx σ n0 bf).1 8236) 41 = .ok (.getfield 416, 3) := zd zm_8236 (by decide +kernel)
theorem d_8236_44 {σ : Nat → Nat} {n0 : Nat} {bf : ab_B} : decode (ab_code (zx σ n0 bf).1 8236) 44 = .ok (.iconst 4, 1) := zd zm_8236 (by decide +kernel)
theorem d_8236_45 {σ : Nat → Nat} {n0 : Nat} {bf : ab_B} : decode (ab_code (zx σ n0 bf).1 8236) 45 = .ok (.iload_n 1, 1) := zd zm_8236 (by decide +kernel)
theorem d_8236_46 {σ : Nat → Nat} {n0 : Nat} {bf : ab_B} : decode (ab_code (zx σ n0 bf).1 8236) 46 = .ok (.imul, 1) := zd zm_8236 (by decide +kernel)
theorem d_8236_47 {σ : Nat → Nat} {n0 : Nat} {bf : ab_B} : decode (ab_code (zx σ n0 bf).1 8236) 47 = .ok (.iconst 3, 1) := zd zm_8236 (by decide +kernel)
theorem d_8236_48 {σ : Nat → Nat} {n0 : Nat} {bf : ab_B} : decode (ab_code (zx σ n0 bf).1 8236) 48 = .ok (.iadd, 1) := zd zm_8236 (by decide +kernel)
theorem d_8236_49 {σ : Nat → Nat} {n0 : Nat} {bf : ab_B} : decode (ab_code (zx σ n0 bf).1 8236) 49 = .ok (.aload_n 0, 1) := zd zm_8236 (by decide +kernel)
theorem d_8236_50 {σ : Nat → Nat} {n0 : Nat} {bf : ab_B} : decode (ab_code (zx σ n0 bf).1 8236) 50 = .ok (.getfield 620, 3) := zd zm_8236 (by decide +kernel)
theorem d_8236_53 {σ : Nat → Nat} {n0 : Nat} {bf : ab_B} : decode (ab_code (zx σ n0 bf).1 8236) 53 = .ok (.lastore, 1) := zd zm_8236 (by decide +kernel)
theorem d_8236_54 {σ : Nat → Nat} {n0 : Nat} {bf : ab_B} : decode (ab_code (zx σ n0 bf).1 8236) 54 = .ok (.return_, 1) := zd zm_8236 (by decide +kernel)
def w_X9_keepDisc_54 (X : zs_X) (d : Nat)  (S : zs_T) (Q : zs_Q) : Prop :=
  (Q (.returned none) S)
theorem u_X9_keepDisc_54 {σ : Nat → Nat} {n0 : Nat} {bf : ab_B} {d : Nat}  {S : zs_T} {Q : zs_Q} (hB : zt_B bf) (h : w_X9_keepDisc_54 (zx σ n0 bf) d  S Q) : zs_U (zx σ n0 bf) d 8236 54 [] [] S Q := by
  unfold w_X9_keepDisc_54 at h
  exact zu_vret d_8236_54 zr_8236 h
def w_X9_keepDisc_26 (X : zs_X) (d : Nat) (p0 : Nat) (p1 : Int32) (S : zs_T) (Q : zs_Q) : Prop :=
  (zs_K S p0 = some (.inl 8) ∧ ∃ b2, (zs_R S 8191 p0) = some b2 ∧ zs_A S b2 3 (((4 : Int32) * p1) + (2 : Int32)) ∧ ab_n0 X.1 ≤ b2 ∧ ∀ S6, S6 = zs_sj S b2 (((4 : Int32) * p1) + (2 : Int32)).toNatClampNeg (zs_J S 8083 p0) → ∃ b9, (zs_R S6 8191 p0) = some b9 ∧ zs_A S b9 3 (((4 : Int32) * p1) + (3 : Int32)) ∧ ab_n0 X.1 ≤ b9 ∧ ∀ S13, S13 = zs_sj S6 b9 (((4 : Int32) * p1) + (3 : Int32)).toNatClampNeg (zs_J S6 8084 p0) → w_X9_keepDisc_54 X d  S13 Q)
theorem u_X9_keepDisc_26 {σ : Nat → Nat} {n0 : Nat} {bf : ab_B} {d : Nat} {p0 : Nat} {p1 : Int32} {S : zs_T} {Q : zs_Q} (hB : zt_B bf) (h : w_X9_keepDisc_26 (zx σ n0 bf) d p0 p1 S Q) : zs_U (zx σ n0 bf) d 8236 26 [(0, .ref p0), (1, .int p1)] [] S Q := by
  unfold w_X9_keepDisc_26 at h
  refine zu_aload_n d_8236_26 rfl (zs_ra _) ?_
  obtain ⟨k1, h⟩ := h
  refine zg_8_416 rfl d_8236_27 k1 ?_
  refine zu_iconst d_8236_30 zi_4 ?_
  refine zu_iload_n d_8236_31 rfl ?_
  refine zu_stk d_8236_32 rfl rfl ?_
  refine zu_iconst d_8236_33 zi_2 ?_
  refine zu_stk d_8236_34 rfl rfl ?_
  refine zu_aload_n d_8236_35 rfl (zs_ra _) ?_
  refine zg_8_617 rfl d_8236_36 k1 ?_
  obtain ⟨b2, e3, h⟩ := h
  refine zs_stk2 (zs_rfe e3) ?_
  obtain ⟨k4, h⟩ := h
  obtain ⟨k5, h⟩ := h
  refine zu_last (k := 3) d_8236_39 rfl rfl k5 k4 ?_
  generalize e7 : zs_sj S b2 (((4 : Int32) * p1) + (2 : Int32)).toNatClampNeg (zs_J S 8083 p0) = S6
  have h := h S6 e7.symm
  have K8 : ∀ b, zs_K S6 b = zs_K S b := zs_Kt e7 (zs_Ksj _ _ _ _) (fun _ => rfl)
  refine zu_aload_n d_8236_40 rfl (zs_ra _) ?_
  refine zg_8_416 rfl d_8236_41 ((K8 _).trans k1) ?_
  refine zu_iconst d_8236_44 zi_4 ?_
  refine zu_iload_n d_8236_45 rfl ?_
  refine zu_stk d_8236_46 rfl rfl ?_
  refine zu_iconst d_8236_47 zi_3 ?_
  refine zu_stk d_8236_48 rfl rfl ?_
  refine zu_aload_n d_8236_49 rfl (zs_ra _) ?_
  refine zg_8_620 rfl d_8236_50 ((K8 _).trans k1) ?_
  obtain ⟨b9, e10, h⟩ := h
  refine zs_stk2 (zs_rfe e10) ?_
  obtain ⟨k11, h⟩ := h
  obtain ⟨k12, h⟩ := h
  refine zu_last (k := 3) d_8236_53 rfl rfl k12 (zs_Ak K8 k11) ?_
  generalize e14 : zs_sj S6 b9 (((4 : Int32) * p1) + (3 : Int32)).toNatClampNeg (zs_J S6 8084 p0) = S13
  have h := h S13 e14.symm
  have K15 : ∀ b, zs_K S13 b = zs_K S b := zs_Kt e14 (zs_Ksj _ _ _ _) K8
  exact (u_X9_keepDisc_54 hB h).weak trivial
def w_X9_keepDisc (X : zs_X) (d : Nat) (p0 : Nat) (p1 : Int32) (S : zs_T) (Q : zs_Q) : Prop :=
  (zs_K S p0 = some (.inl 8) ∧ ∃ b2, (zs_R S 8191 p0) = some b2 ∧ zs_A S b2 3 ((4 : Int32) * p1) ∧ ab_n0 X.1 ≤ b2 ∧ ∀ S6, S6 = zs_sj S b2 ((4 : Int32) * p1).toNatClampNeg (zs_J S 8081 p0) → ∃ b9, (zs_R S6 8191 p0) = some b9 ∧ zs_A S b9 3 (((4 : Int32) * p1) + (1 : Int32)) ∧ ab_n0 X.1 ≤ b9 ∧ ∀ S13, S13 = zs_sj S6 b9 (((4 : Int32) * p1) + (1 : Int32)).toNatClampNeg (zs_J S6 8082 p0) → w_X9_keepDisc_26 X d p0 p1 S13 Q)
theorem u_X9_keepDisc {σ : Nat → Nat} {n0 : Nat} {bf : ab_B} {d : Nat} {p0 : Nat} {p1 : Int32} {S : zs_T} {Q : zs_Q} (hB : zt_B bf) (hd : 1 ≤ d) (h : w_X9_keepDisc (zx σ n0 bf) (d - 1) p0 p1 S Q) : zs_C (zx σ n0 bf) d 8236 [.ref p0, .int p1] S Q := by
  have hL : lv_args 0 [.ref p0, .int p1] = [(0, .ref p0), (1, .int p1)] := rfl
  refine zs_C.of1 (hB.2 8236 (by decide) (by decide)) hd (by rw [hL]; exact zs_sub_self _ (by exact ⟨rfl, rfl, trivial⟩)) ?_
  rw [hL]
  clear hL
  unfold w_X9_keepDisc at h
  refine zu_aload_n d_8236_0 rfl (zs_ra _) ?_
  obtain ⟨k1, h⟩ := h
  refine zg_8_416 rfl d_8236_1 k1 ?_
  refine zu_iconst d_8236_4 zi_4 ?_
  refine zu_iload_n d_8236_5 rfl ?_
  refine zu_stk d_8236_6 rfl rfl ?_
  refine zu_aload_n d_8236_7 rfl (zs_ra _) ?_
  refine zg_8_610 rfl d_8236_8 k1 ?_
  obtain ⟨b2, e3, h⟩ := h
  refine zs_stk2 (zs_rfe e3) ?_
  obtain ⟨k4, h⟩ := h
  obtain ⟨k5, h⟩ := h
  refine zu_last (k := 3) d_8236_11 rfl rfl k5 k4 ?_
  generalize e7 : zs_sj S b2 ((4 : Int32) * p1).toNatClampNeg (zs_J S 8081 p0) = S6
  have h := h S6 e7.symm
  have K8 : ∀ b, zs_K S6 b = zs_K S b := zs_Kt e7 (zs_Ksj _ _ _ _) (fun _ => rfl)
  refine zu_aload_n d_8236_12 rfl (zs_ra _) ?_
  refine zg_8_416 rfl d_8236_13 ((K8 _).trans k1) ?_
  refine zu_iconst d_8236_16 zi_4 ?_
  refine zu_iload_n d_8236_17 rfl ?_
  refine zu_stk d_8236_18 rfl rfl ?_
  refine zu_iconst d_8236_19 zi_1 ?_
  refine zu_stk d_8236_20 rfl rfl ?_
  refine zu_aload_n d_8236_21 rfl (zs_ra _) ?_
  refine zg_8_614 rfl d_8236_22 ((K8 _).trans k1) ?_
  obtain ⟨b9, e10, h⟩ := h
  refine zs_stk2 (zs_rfe e10) ?_
  obtain ⟨k11, h⟩ := h
  obtain ⟨k12, h⟩ := h
  refine zu_last (k := 3) d_8236_25 rfl rfl k12 (zs_Ak K8 k11) ?_
  generalize e14 : zs_sj S6 b9 (((4 : Int32) * p1) + (1 : Int32)).toNatClampNeg (zs_J S6 8082 p0) = S13
  have h := h S13 e14.symm
  have K15 : ∀ b, zs_K S13 b = zs_K S b := zs_Kt e14 (zs_Ksj _ _ _ _) K8
  exact (u_X9_keepDisc_26 hB h).weak ⟨rfl, rfl, trivial⟩
/-! SchemaPascalModel.field(II)V -/
theorem zm_8237 {σ : Nat → Nat} {n0 : Nat} {bf : ab_B} : ab_code (zx σ n0 bf).1 8237 = prog_17_method_217_code := rfl
theorem zq_8237 {σ : Nat → Nat} {n0 : Nat} {bf : ab_B} : ab_maxL (zx σ n0 bf).1 8237 = 10 := rfl
theorem zr_8237 {σ : Nat → Nat} {n0 : Nat} {bf : ab_B} : ab_ret (zx σ n0 bf).1 8237 = (Option.none : Option Jvm.ClassFile.FieldType) := rfl
theorem d_8237_0 {σ : Nat → Nat} {n0 : Nat} {bf : ab_B} : decode (ab_code (zx σ n0 bf).1 8237) 0 = .ok (.aload_n 0, 1) := zd zm_8237 (by decide +kernel)
theorem d_8237_1 {σ : Nat → Nat} {n0 : Nat} {bf : ab_B} : decode (ab_code (zx σ n0 bf).1 8237) 1 = .ok (.getfield 1270, 3) := zd zm_8237 (by decide +kernel)
theorem d_8237_4 {σ : Nat → Nat} {n0 : Nat} {bf : ab_B} : decode (ab_code (zx σ n0 bf).1 8237) 4 = .ok (.iconst 1, 1) := zd zm_8237 (by decide +kernel)
theorem d_8237_5 {σ : Nat → Nat} {n0 : Nat} {bf : ab_B} : decode (ab_code (zx σ n0 bf).1 8237) 5 = .ok (.isub, 1) := zd zm_8237 (by decide +kernel)
theorem d_8237_6 {σ : Nat → Nat} {n0 : Nat} {bf : ab_B} : decode (ab_code (zx σ n0 bf).1 8237) 6 = .ok (.istore_n 3, 1) := zd zm_8237 (by decide +kernel)
theorem d_8237_7 {σ : Nat → Nat} {n0 : Nat} {bf : ab_B} : decode (ab_code (zx σ n0 bf).1 8237) 7 = .ok (.aload_n 0, 1) := zd zm_8237 (by decide +kernel)
theorem d_8237_8 {σ : Nat → Nat} {n0 : Nat} {bf : ab_B} : decode (ab_code (zx σ n0 bf).1 8237) 8 = .ok (.aload_n 0, 1) := zd zm_8237 (by decide +kernel)
theorem d_8237_9 {σ : Nat → Nat} {n0 : Nat} {bf : ab_B} : decode (ab_code (zx σ n0 bf).1 8237) 9 = .ok (.getfield 412, 3) := zd zm_8237 (by decide +kernel)
theorem d_8237_12 {σ : Nat → Nat} {n0 : Nat} {bf : ab_B} : decode (ab_code (zx σ n0 bf).1 8237) 12 = .ok (.iload_n 3, 1) := zd zm_8237 (by decide +kernel)
theorem d_8237_13 {σ : Nat → Nat} {n0 : Nat} {bf : ab_B} : decode (ab_code (zx σ n0 bf).1 8237) 13 = .ok (.iaload, 1) := zd zm_8237 (by decide +kernel)
theorem d_8237_14 {σ : Nat → Nat} {n0 : Nat} {bf : ab_B} : decode (ab_code (zx σ n0 bf).1 8237) 14 = .ok (.invokevirtual 730, 3) := zd zm_8237 (by decide +kernel)
theorem d_8237_17 {σ : Nat → Nat} {n0 : Nat} {bf : ab_B} : decode (ab_code (zx σ n0 bf).1 8237) 17 = .ok (.istore 4, 2) := zd zm_8237 (by decide +kernel)
theorem d_8237_19 {σ : Nat → Nat} {n0 : Nat} {bf : ab_B} : decode (ab_code (zx σ n0 bf).1 8237) 19 = .ok (.aload_n 0, 1) := zd zm_8237 (by decide +kernel)
theorem d_8237_20 {σ : Nat → Nat} {n0 : Nat} {bf : ab_B} : decode (ab_code (zx σ n0 bf).1 8237) 20 = .ok (.iload_n 3, 1) := zd zm_8237 (by decide +kernel)
theorem d_8237_21 {σ : Nat → Nat} {n0 : Nat} {bf : ab_B} : decode (ab_code (zx σ n0 bf).1 8237) 21 = .ok (.invokevirtual 1291, 3) := zd zm_8237 (by decide +kernel)
theorem d_8237_24 {σ : Nat → Nat} {n0 : Nat} {bf : ab_B} : decode (ab_code (zx σ n0 bf).1 8237) 24 = .ok (.aload_n 0, 1) := zd zm_8237 (by decide +kernel)
theorem d_8237_25 {σ : Nat → Nat} {n0 : Nat} {bf : ab_B} : decode (ab_code (zx σ n0 bf).1 8237) 25 = .ok (.getfield 105, 3) := zd zm_8237 (by decide +kernel)
theorem d_8237_28 {σ : Nat → Nat} {n0 : Nat} {bf : ab_B} : decode (ab_code (zx σ n0 bf).1 8237) 28 = .ok (.iload 4, 2) := zd zm_8237 (by decide +kernel)
theorem d_8237_30 {σ : Nat → Nat} {n0 : Nat} {bf : ab_B} : decode (ab_code (zx σ n0 bf).1 8237) 30 = .ok (.baload, 1) := zd zm_8237 (by decide +kernel)
theorem d_8237_31 {σ : Nat → Nat} {n0 : Nat} {bf : ab_B} : decode (ab_code (zx σ n0 bf).1 8237) 31 = .ok (.ifCond .eq 11, 3) := zd zm_8237 (by decide +kernel)
theorem d_8237_34 {σ : Nat → Nat} {n0 : Nat} {bf : ab_B} : decode (ab_code (zx σ n0 bf).1 8237) 34 = .ok (.aload_n 0, 1) := zd zm_8237 (by decide +kernel)
theorem d_8237_35 {σ : Nat → Nat} {n0 : Nat} {bf : ab_B} : decode (ab_code (zx σ n0 bf).1 8237) 35 = .ok (.iload 4, 2) := zd zm_8237 (by decide +kernel)
theorem d_8237_37 {σ : Nat → Nat} {n0 : Nat} {bf : ab_B} : decode (ab_code (zx σ n0 bf).1 8237) 37 = .ok (.invokevirtual 837, 3) := zd zm_8237 (by decide +kernel)
theorem d_8237_40 {σ : Nat → Nat} {n0 : Nat} {bf : ab_B} : decode (ab_code (zx σ n0 bf).1 8237) 40 = .ok (.istore 5, 2) := zd zm_8237 (by decide +kernel)
theorem d_8237_42 {σ : Nat → Nat} {n0 : Nat} {bf : ab_B} : decode (ab_code (zx σ n0 bf).1 8237) 42 = .ok (.aload_n 0, 1) := zd zm_8237 (by decide +kernel)
theorem d_8237_43 {σ : Nat → Nat} {n0 : Nat} {bf : ab_B} : decode (ab_code (zx σ n0 bf).1 8237) 43 = .ok (.getfield 409, 3) := zd zm_8237 (by decide +kernel)
theorem d_8237_46 {σ : Nat → Nat} {n0 : Nat} {bf : ab_B} : decode (ab_code (zx σ n0 bf).1 8237) 46 = .ok (.iload_n 3, 1) := zd zm_8237 (by decide +kernel)
theorem d_8237_47 {σ : Nat → Nat} {n0 : Nat} {bf : ab_B} : decode (ab_code (zx σ n0 bf).1 8237) 47 = .ok (.iaload, 1) := zd zm_8237 (by decide +kernel)
theorem d_8237_48 {σ : Nat → Nat} {n0 : Nat} {bf : ab_B} : decode (ab_code (zx σ n0 bf).1 8237) 48 = .ok (.istore 5, 2) := zd zm_8237 (by decide +kernel)
theorem d_8237_50 {σ : Nat → Nat} {n0 : Nat} {bf : ab_B} : decode (ab_code (zx σ n0 bf).1 8237) 50 = .ok (.iconst 0, 1) := zd zm_8237 (by decide +kernel)
theorem d_8237_51 {σ : Nat → Nat} {n0 : Nat} {bf : ab_B} : decode (ab_code (zx σ n0 bf).1 8237) 51 = .ok (.istore 6, 2) := zd zm_8237 (by decide +kernel)
theorem d_8237_53 {σ : Nat → Nat} {n0 : Nat} {bf : ab_B} : decode (ab_code (zx σ n0 bf).1 8237) 53 = .ok (.aload_n 0, 1) := zd zm_8237 (by decide +kernel)
theorem d_8237_54 {σ : Nat → Nat} {n0 : Nat} {bf : ab_B} : decode (ab_code (zx σ n0 bf).1 8237) 54 = .ok (.getfield 145, 3) := zd zm_8237 (by decide +kernel)
theorem d_8237_57 {σ : Nat → Nat} {n0 : Nat} {bf : ab_B} : decode (ab_code (zx σ n0 bf).1 8237) 57 = .ok (.iload_n 1, 1) := zd zm_8237 (by decide +kernel)
theorem d_8237_58 {σ : Nat → Nat} {n0 : Nat} {bf : ab_B} : decode (ab_code (zx σ n0 bf).1 8237) 58 = .ok (.iaload, 1) := zd zm_8237 (by decide +kernel)
theorem d_8237_59 {σ : Nat → Nat} {n0 : Nat} {bf : ab_B} : decode (ab_code (zx σ n0 bf).1 8237) 59 = .ok (.istore 7, 2) := zd zm_8237 (by decide +kernel)
theorem d_8237_61 {σ : Nat → Nat} {n0 : Nat} {bf : ab_B} : decode (ab_code (zx σ n0 bf).1 8237) 61 = .ok (.iload 7, 2) := zd zm_8237 (by decide +kernel)
theorem d_8237_63 {σ : Nat → Nat} {n0 : Nat} {bf : ab_B} : decode (ab_code (zx σ n0 bf).1 8237) 63 = .ok (.ifCond .le 32, 3) := zd zm_8237 (by decide +kernel)
theorem d_8237_66 {σ : Nat → Nat} {n0 : Nat} {bf : ab_B} : decode (ab_code (zx σ n0 bf).1 8237) 66 = .ok (.aload_n 0, 1) := zd zm_8237 (by decide +kernel)
theorem d_8237_67 {σ : Nat → Nat} {n0 : Nat} {bf : ab_B} : decode (ab_code (zx σ n0 bf).1 8237) 67 = .ok (.getfield 438, 3) := zd zm_8237 (by decide +kernel)
theorem d_8237_70 {σ : Nat → Nat} {n0 : Nat} {bf : ab_B} : decode (ab_code (zx σ n0 bf).1 8237) 70 = .ok (.iload 6, 2) := zd zm_8237 (by decide +kernel)
theorem d_8237_72 {σ : Nat → Nat} {n0 : Nat} {bf : ab_B} : decode (ab_code (zx σ n0 bf).1 8237) 72 = .ok (.iload 7, 2) := zd zm_8237 (by decide +kernel)
theorem d_8237_74 {σ : Nat → Nat} {n0 : Nat} {bf : ab_B} : decode (ab_code (zx σ n0 bf).1 8237) 74 = .ok (.iastore, 1) := zd zm_8237 (by decide +kernel)
theorem d_8237_75 {σ : Nat → Nat} {n0 : Nat} {bf : ab_B} : decode (ab_code (zx σ n0 bf).1 8237) 75 = .ok (.iinc 6 1, 3) := zd zm_8237 (by decide +kernel)
theorem d_8237_78 {σ : Nat → Nat} {n0 : Nat} {bf : ab_B} : decode (ab_code (zx σ n0 bf).1 8237) 78 = .ok (.aload_n 0, 1) := zd zm_8237 (by decide +kernel)
theorem d_8237_79 {σ : Nat → Nat} {n0 : Nat} {bf : ab_B} : decode (ab_code (zx σ n0 bf).1 8237) 79 = .ok (.getfield 145, 3) := zd zm_8237 (by decide +kernel)
theorem d_8237_82 {σ : Nat → Nat} {n0 : Nat} {bf : ab_B} : decode (ab_code (zx σ n0 bf).1 8237) 82 = .ok (.aload_n 0, 1) := zd zm_8237 (by decide +kernel)
theorem d_8237_83 {σ : Nat → Nat} {n0 : Nat} {bf : ab_B} : decode (ab_code (zx σ n0 bf).1 8237) 83 = .ok (.getfield 154, 3) := zd zm_8237 (by decide +kernel)
theorem d_8237_86 {σ : Nat → Nat} {n0 : Nat} {bf : ab_B} : decode (ab_code (zx σ n0 bf).1 8237) 86 = .ok (.iload 7, 2) := zd zm_8237 (by decide +kernel)
theorem d_8237_88 {σ : Nat → Nat} {n0 : Nat} {bf : ab_B} : decode (ab_code (zx σ n0 bf).1 8237) 88 = .ok (.iaload, 1) := zd zm_8237 (by decide +kernel)
theorem d_8237_89 {σ : Nat → Nat} {n0 : Nat} {bf : ab_B} : decode (ab_code (zx σ n0 bf).1 8237) 89 = .ok (.iaload, 1) := zd zm_8237 (by decide +kernel)
theorem d_8237_90 {σ : Nat → Nat} {n0 : Nat} {bf : ab_B} : decode (ab_code (zx σ n0 bf).1 8237) 90 = .ok (.istore 7, 2) := zd zm_8237 (by decide +kernel)
theorem d_8237_92 {σ : Nat → Nat} {n0 : Nat} {bf : ab_B} : decode (ab_code (zx σ n0 bf).1 8237) 92 = .ok (.goto (-31), 3) := zd zm_8237 (by decide +kernel)
theorem d_8237_95 {σ : Nat → Nat} {n0 : Nat} {bf : ab_B} : decode (ab_code (zx σ n0 bf).1 8237) 95 = .ok (.iload 6, 2) := zd zm_8237 (by decide +kernel)
theorem d_8237_97 {σ : Nat → Nat} {n0 : Nat} {bf : ab_B} : decode (ab_code (zx σ n0 bf).1 8237) 97 = .ok (.iconst 1, 1) := zd zm_8237 (by decide +kernel)
theorem d_8237_98 {σ : Nat → Nat} {n0 : Nat} {bf : ab_B} : decode (ab_code (zx σ n0 bf).1 8237) 98 = .ok (.isub, 1) := zd zm_8237 (by decide +kernel)
theorem d_8237_99 {σ : Nat → Nat} {n0 : Nat} {bf : ab_B} : decode (ab_code (zx σ n0 bf).1 8237) 99 = .ok (.istore 7, 2) := zd zm_8237 (by decide +kernel)
theorem d_8237_101 {σ : Nat → Nat} {n0 : Nat} {bf : ab_B} : decode (ab_code (zx σ n0 bf).1 8237) 101 = .ok (.iload 7, 2) := zd zm_8237 (by decide +kernel)
theorem d_8237_103 {σ : Nat → Nat} {n0 : Nat} {bf : ab_B} : decode (ab_code (zx σ n0 bf).1 8237) 103 = .ok (.ifCond .lt 96, 3) := zd zm_8237 (by decide +kernel)
theorem d_8237_106 {σ : Nat → Nat} {n0 : Nat} {bf : ab_B} : decode (ab_code (zx σ n0 bf).1 8237) 106 = .ok (.aload_n 0, 1) := zd zm_8237 (by decide +kernel)
theorem d_8237_107 {σ : Nat → Nat} {n0 : Nat} {bf : ab_B} : decode (ab_code (zx σ n0 bf).1 8237) 107 = .ok (.getfield 1273, 3) := zd zm_8237 (by decide +kernel)
theorem d_8237_110 {σ : Nat → Nat} {n0 : Nat} {bf : ab_B} : decode (ab_code (zx σ n0 bf).1 8237) 110 = .ok (.ifCond .ne 89, 3) := zd zm_8237 (by decide +kernel)
theorem d_8237_113 {σ : Nat → Nat} {n0 : Nat} {bf : ab_B} : decode (ab_code (zx σ n0 bf).1 8237) 113 = .ok (.aload_n 0, 1) := zd zm_8237 (by decide +kernel)
theorem d_8237_114 {σ : Nat → Nat} {n0 : Nat} {bf : ab_B} : decode (ab_code (zx σ n0 bf).1 8237) 114 = .ok (.getfield 154, 3) := zd zm_8237 (by decide +kernel)
theorem d_8237_117 {σ : Nat → Nat} {n0 : Nat} {bf : ab_B} : decode (ab_code (zx σ n0 bf).1 8237) 117 = .ok (.aload_n 0, 1) := zd zm_8237 (by decide +kernel)
theorem d_8237_118 {σ : Nat → Nat} {n0 : Nat} {bf : ab_B} : decode (ab_code (zx σ n0 bf).1 8237) 118 = .ok (.getfield 438, 3) := zd zm_8237 (by decide +kernel)
theorem d_8237_121 {σ : Nat → Nat} {n0 : Nat} {bf : ab_B} : decode (ab_code (zx σ n0 bf).1 8237) 121 = .ok (.iload 7, 2) := zd zm_8237 (by decide +kernel)
theorem d_8237_123 {σ : Nat → Nat} {n0 : Nat} {bf : ab_B} : decode (ab_code (zx σ n0 bf).1 8237) 123 = .ok (.iaload, 1) := zd zm_8237 (by decide +kernel)
theorem d_8237_124 {σ : Nat → Nat} {n0 : Nat} {bf : ab_B} : decode (ab_code (zx σ n0 bf).1 8237) 124 = .ok (.iaload, 1) := zd zm_8237 (by decide +kernel)
theorem d_8237_125 {σ : Nat → Nat} {n0 : Nat} {bf : ab_B} : decode (ab_code (zx σ n0 bf).1 8237) 125 = .ok (.istore 8, 2) := zd zm_8237 (by decide +kernel)
theorem d_8237_127 {σ : Nat → Nat} {n0 : Nat} {bf : ab_B} : decode (ab_code (zx σ n0 bf).1 8237) 127 = .ok (.iload 5, 2) := zd zm_8237 (by decide +kernel)
theorem d_8237_129 {σ : Nat → Nat} {n0 : Nat} {bf : ab_B} : decode (ab_code (zx σ n0 bf).1 8237) 129 = .ok (.aload_n 0, 1) := zd zm_8237 (by decide +kernel)
theorem d_8237_130 {σ : Nat → Nat} {n0 : Nat} {bf : ab_B} : decode (ab_code (zx σ n0 bf).1 8237) 130 = .ok (.getfield 257, 3) := zd zm_8237 (by decide +kernel)
theorem d_8237_133 {σ : Nat → Nat} {n0 : Nat} {bf : ab_B} : decode (ab_code (zx σ n0 bf).1 8237) 133 = .ok (.iload 8, 2) := zd zm_8237 (by decide +kernel)
theorem d_8237_135 {σ : Nat → Nat} {n0 : Nat} {bf : ab_B} : decode (ab_code (zx σ n0 bf).1 8237) 135 = .ok (.iaload, 1) := zd zm_8237 (by decide +kernel)
theorem d_8237_136 {σ : Nat → Nat} {n0 : Nat} {bf : ab_B} : decode (ab_code (zx σ n0 bf).1 8237) 136 = .ok (.iadd, 1) := zd zm_8237 (by decide +kernel)
theorem d_8237_137 {σ : Nat → Nat} {n0 : Nat} {bf : ab_B} : decode (ab_code (zx σ n0 bf).1 8237) 137 = .ok (.istore 9, 2) := zd zm_8237 (by decide +kernel)
theorem d_8237_139 {σ : Nat → Nat} {n0 : Nat} {bf : ab_B} : decode (ab_code (zx σ n0 bf).1 8237) 139 = .ok (.aload_n 0, 1) := zd zm_8237 (by decide +kernel)
theorem d_8237_140 {σ : Nat → Nat} {n0 : Nat} {bf : ab_B} : decode (ab_code (zx σ n0 bf).1 8237) 140 = .ok (.iload 9, 2) := zd zm_8237 (by decide +kernel)
theorem d_8237_142 {σ : Nat → Nat} {n0 : Nat} {bf : ab_B} : decode (ab_code (zx σ n0 bf).1 8237) 142 = .ok (.aload_n 0, 1) := zd zm_8237 (by decide +kernel)
theorem d_8237_143 {σ : Nat → Nat} {n0 : Nat} {bf : ab_B} : decode (ab_code (zx σ n0 bf).1 8237) 143 = .ok (.getfield 142, 3) := zd zm_8237 (by decide +kernel)
theorem d_8237_146 {σ : Nat → Nat} {n0 : Nat} {bf : ab_B} : decode (ab_code (zx σ n0 bf).1 8237) 146 = .ok (.iload 8, 2) := zd zm_8237 (by decide +kernel)
theorem d_8237_148 {σ : Nat → Nat} {n0 : Nat} {bf : ab_B} : decode (ab_code (zx σ n0 bf).1 8237) 148 = .ok (.iaload, 1) := zd zm_8237 (by decide +kernel)
theorem d_8237_149 {σ : Nat → Nat} {n0 : Nat} {bf : ab_B} : decode (ab_code (zx σ n0 bf).1 8237) 149 = .ok (.invokevirtual 1294, 3) := zd zm_8237 (by decide +kernel)
theorem d_8237_152 {σ : Nat → Nat} {n0 : Nat} {bf : ab_B} : decode (ab_code (zx σ n0 bf).1 8237) 152 = .ok (.ifCond .ne 12, 3) := zd zm_8237 (by decide +kernel)
theorem d_8237_155 {σ : Nat → Nat} {n0 : Nat} {bf : ab_B} : decode (ab_code (zx σ n0 bf).1 8237) 155 = .ok (.aload_n 0, 1) := zd zm_8237 (by decide +kernel)
theorem d_8237_156 {σ : Nat → Nat} {n0 : Nat} {bf : ab_B} : decode (ab_code (zx σ n0 bf).1 8237) 156 = .ok (.iconst 1, 1) := zd zm_8237 (by decide +kernel)
theorem d_8237_157 {σ : Nat → Nat} {n0 : Nat} {bf : ab_B} : decode (ab_code (zx σ n0 bf).1 8237) 157 = .ok (.iload_n 2, 1) := zd zm_8237 (by decide +kernel)
theorem d_8237_158 {σ : Nat → Nat} {n0 : Nat} {bf : ab_B} : decode (ab_code (zx σ n0 bf).1 8237) 158 = .ok (.invokevirtual 1297, 3) := zd zm_8237 (by decide +kernel)
theorem d_8237_161 {σ : Nat → Nat} {n0 : Nat} {bf : ab_B} : decode (ab_code (zx σ n0 bf).1 8237) 161 = .ok (.goto 32, 3) := zd zm_8237 (by decide +kernel)
theorem d_8237_164 {σ : Nat → Nat} {n0 : Nat} {bf : ab_B} : decode (ab_code (zx σ n0 bf).1 8237) 164 = .ok (.aload_n 0, 1) := zd zm_8237 (by decide +kernel)
theorem d_8237_165 {σ : Nat → Nat} {n0 : Nat} {bf : ab_B} : decode (ab_code (zx σ n0 bf).1 8237) 165 = .ok (.iload 8, 2) := zd zm_8237 (by decide +kernel)
theorem d_8237_167 {σ : Nat → Nat} {n0 : Nat} {bf : ab_B} : decode (ab_code (zx σ n0 bf).1 8237) 167 = .ok (.aload_n 0, 1) := zd zm_8237 (by decide +kernel)
theorem d_8237_168 {σ : Nat → Nat} {n0 : Nat} {bf : ab_B} : decode (ab_code (zx σ n0 bf).1 8237) 168 = .ok (.getfield 373, 3) := zd zm_8237 (by decide +kernel)
theorem d_8237_171 {σ : Nat → Nat} {n0 : Nat} {bf : ab_B} : decode (ab_code (zx σ n0 bf).1 8237) 171 = .ok (.iload 9, 2) := zd zm_8237 (by decide +kernel)
theorem d_8237_173 {σ : Nat → Nat} {n0 : Nat} {bf : ab_B} : decode (ab_code (zx σ n0 bf).1 8237) 173 = .ok (.laload, 1) := zd zm_8237 (by decide +kernel)
theorem d_8237_174 {σ : Nat → Nat} {n0 : Nat} {bf : ab_B} : decode (ab_code (zx σ n0 bf).1 8237) 174 = .ok (.invokevirtual 1300, 3) := zd zm_8237 (by decide +kernel)
theorem d_8237_177 {σ : Nat → Nat} {n0 : Nat} {bf : ab_B} : decode (ab_code (zx σ n0 bf).1 8237) 177 = .ok (.aload_n 0, 1) := zd zm_8237 (by decide +kernel)
theorem d_8237_178 {σ : Nat → Nat} {n0 : Nat} {bf : ab_B} : decode (ab_code (zx σ n0 bf).1 8237) 178 = .ok (.getfield 438, 3) := zd zm_8237 (by decide +kernel)
theorem d_8237_181 {σ : Nat → Nat} {n0 : Nat} {bf : ab_B} : decode (ab_code (zx σ n0 bf).1 8237) 181 = .ok (.iload 7, 2) := zd zm_8237 (by decide +kernel)
theorem d_8237_183 {σ : Nat → Nat} {n0 : Nat} {bf : ab_B} : decode (ab_code (zx σ n0 bf).1 8237) 183 = .ok (.iaload, 1) := zd zm_8237 (by decide +kernel)
theorem d_8237_184 {σ : Nat → Nat} {n0 : Nat} {bf : ab_B} : decode (ab_code (zx σ n0 bf).1 8237) 184 = .ok (.if_icmp .eq 9, 3) := zd zm_8237 (by decide +kernel)
theorem d_8237_187 {σ : Nat → Nat} {n0 : Nat} {bf : ab_B} : decode (ab_code (zx σ n0 bf).1 8237) 187 = .ok (.aload_n 0, 1) := zd zm_8237 (by decide +kernel)
theorem d_8237_188 {σ : Nat → Nat} {n0 : Nat} {bf : ab_B} : decode (ab_code (zx σ n0 bf).1 8237) 188 = .ok (.iconst 3, 1) := zd zm_8237 (by decide +kernel)
theorem d_8237_189 {σ : Nat → Nat} {n0 : Nat} {bf : ab_B} : decode (ab_code (zx σ n0 bf).1 8237) 189 = .ok (.iload_n 2, 1) := zd zm_8237 (by decide +kernel)
theorem d_8237_190 {σ : Nat → Nat} {n0 : Nat} {bf : ab_B} : decode (ab_code (zx σ n0 bf).1 8237) 190 = .ok (.invokevirtual 1297, 3) := zd zm_8237 (by decide +kernel)
theorem d_8237_193 {σ : Nat → Nat} {n0 : Nat} {bf : ab_B} : decode (ab_code (zx σ n0 bf).1 8237) 193 = .ok (.iinc 7 (-1), 3) := zd zm_8237 (by decide +kernel)
theorem d_8237_196 {σ : Nat → Nat} {n0 : Nat} {bf : ab_B} : decode (ab_code (zx σ n0 bf).1 8237) 196 = .ok (.goto (-95), 3) := zd zm_8237 (by decide +kernel)
theorem d_8237_199 {σ : Nat → Nat} {n0 : Nat} {bf : ab_B} : decode (ab_code (zx σ n0 bf).1 8237) 199 = .ok (.aload_n 0, 1) := zd zm_8237 (by decide +kernel)
theorem d_8237_200 {σ : Nat → Nat} {n0 : Nat} {bf : ab_B} : decode (ab_code (zx σ n0 bf).1 8237) 200 = .ok (.getfield 419, 3) := zd zm_8237 (by decide +kernel)
theorem d_8237_203 {σ : Nat → Nat} {n0 : Nat} {bf : ab_B} : decode (ab_code (zx σ n0 bf).1 8237) 203 = .ok (.iload_n 3, 1) := zd zm_8237 (by decide +kernel)
theorem d_8237_204 {σ : Nat → Nat} {n0 : Nat} {bf : ab_B} : decode (ab_code (zx σ n0 bf).1 8237) 204 = .ok (.iload_n 1, 1) := zd zm_8237 (by decide +kernel)
theorem d_8237_205 {σ : Nat → Nat} {n0 : Nat} {bf : ab_B} : decode (ab_code (zx σ n0 bf).1 8237) 205 = .ok (.iastore, 1) := zd zm_8237 (by decide +kernel)
theorem d_8237_206 {σ : Nat → Nat} {n0 : Nat} {bf : ab_B} : decode (ab_code (zx σ n0 bf).1 8237) 206 = .ok (.aload_n 0, 1) := zd zm_8237 (by decide +kernel)
theorem d_8237_207 {σ : Nat → Nat} {n0 : Nat} {bf : ab_B} : decode (ab_code (zx σ n0 bf).1 8237) 207 = .ok (.getfield 422, 3) := zd zm_8237 (by decide +kernel)
theorem d_8237_210 {σ : Nat → Nat} {n0 : Nat} {bf : ab_B} : decode (ab_code (zx σ n0 bf).1 8237) 210 = .ok (.iload_n 3, 1) := zd zm_8237 (by decide +kernel)
theorem d_8237_211 {σ : Nat → Nat} {n0 : Nat} {bf : ab_B} : decode (ab_code (zx σ n0 bf).1 8237) 211 = .ok (.iload 5, 2) := zd zm_8237 (by decide +kernel)
theorem d_8237_213 {σ : Nat → Nat} {n0 : Nat} {bf : ab_B} : decode (ab_code (zx σ n0 bf).1 8237) 213 = .ok (.iastore, 1) := zd zm_8237 (by decide +kernel)
theorem d_8237_214 {σ : Nat → Nat} {n0 : Nat} {bf : ab_B} : decode (ab_code (zx σ n0 bf).1 8237) 214 = .ok (.aload_n 0, 1) := zd zm_8237 (by decide +kernel)
theorem d_8237_215 {σ : Nat → Nat} {n0 : Nat} {bf : ab_B} : decode (ab_code (zx σ n0 bf).1 8237) 215 = .ok (.getfield 425, 3) := zd zm_8237 (by decide +kernel)
theorem d_8237_218 {σ : Nat → Nat} {n0 : Nat} {bf : ab_B} : decode (ab_code (zx σ n0 bf).1 8237) 218 = .ok (.iload_n 3, 1) := zd zm_8237 (by decide +kernel)
theorem d_8237_219 {σ : Nat → Nat} {n0 : Nat} {bf : ab_B} : decode (ab_code (zx σ n0 bf).1 8237) 219 = .ok (.iload 4, 2) := zd zm_8237 (by decide +kernel)
theorem d_8237_221 {σ : Nat → Nat} {n0 : Nat} {bf : ab_B} : decode (ab_code (zx σ n0 bf).1 8237) 221 = .ok (.iastore, 1) := zd zm_8237 (by decide +kernel)
theorem d_8237_222 {σ : Nat → Nat} {n0 : Nat} {bf : ab_B} : decode (ab_code (zx σ n0 bf).1 8237) 222 = .ok (.aload_n 0, 1) := zd zm_8237 (by decide +kernel)
theorem d_8237_223 {σ : Nat → Nat} {n0 : Nat} {bf : ab_B} : decode (ab_code (zx σ n0 bf).1 8237) 223 = .ok (.iload 5, 2) := zd zm_8237 (by decide +kernel)
theorem d_8237_225 {σ : Nat → Nat} {n0 : Nat} {bf : ab_B} : decode (ab_code (zx σ n0 bf).1 8237) 225 = .ok (.aload_n 0, 1) := zd zm_8237 (by decide +kernel)
theorem d_8237_226 {σ : Nat → Nat} {n0 : Nat} {bf : ab_B} : decode (ab_code (zx σ n0 bf).1 8237) 226 = .ok (.getfield 257, 3) := zd zm_8237 (by decide +kernel)
theorem d_8237_229 {σ : Nat → Nat} {n0 : Nat} {bf : ab_B} : decode (ab_code (zx σ n0 bf).1 8237) 229 = .ok (.iload_n 1, 1) := zd zm_8237 (by decide +kernel)
theorem d_8237_230 {σ : Nat → Nat} {n0 : Nat} {bf : ab_B} : decode (ab_code (zx σ n0 bf).1 8237) 230 = .ok (.iaload, 1) := zd zm_8237 (by decide +kernel)
theorem d_8237_231 {σ : Nat → Nat} {n0 : Nat} {bf : ab_B} : decode (ab_code (zx σ n0 bf).1 8237) 231 = .ok (.iadd, 1) := zd zm_8237 (by decide +kernel)
theorem d_8237_232 {σ : Nat → Nat} {n0 : Nat} {bf : ab_B} : decode (ab_code (zx σ n0 bf).1 8237) 232 = .ok (.aload_n 0, 1) := zd zm_8237 (by decide +kernel)
theorem d_8237_233 {σ : Nat → Nat} {n0 : Nat} {bf : ab_B} : decode (ab_code (zx σ n0 bf).1 8237) 233 = .ok (.getfield 142, 3) := zd zm_8237 (by decide +kernel)
theorem d_8237_236 {σ : Nat → Nat} {n0 : Nat} {bf : ab_B} : decode (ab_code (zx σ n0 bf).1 8237) 236 = .ok (.iload_n 1, 1) := zd zm_8237 (by decide +kernel)
theorem d_8237_237 {σ : Nat → Nat} {n0 : Nat} {bf : ab_B} : decode (ab_code (zx σ n0 bf).1 8237) 237 = .ok (.iaload, 1) := zd zm_8237 (by decide +kernel)
theorem d_8237_238 {σ : Nat → Nat} {n0 : Nat} {bf : ab_B} : decode (ab_code (zx σ n0 bf).1 8237) 238 = .ok (.invokevirtual 1304, 3) := zd zm_8237 (by decide +kernel)
theorem d_8237_241 {σ : Nat → Nat} {n0 : Nat} {bf : ab_B} : decode (ab_code (zx σ n0 bf).1 8237) 241 = .ok (.return_, 1) := zd zm_8237 (by decide +kernel)
def w_X9_field_42 (X : zs_X) (d : Nat) (p0 : Nat) (p1 : Int32) (p2 : Int32) (p3 : Int32) (p4 : Int32) (S : zs_T) (Q : zs_Q) : Prop :=
  (zs_K S p0 = some (.inl 8) ∧ ∃ b2, (zs_R S 8189 p0) = some b2 ∧ zs_A S b2 0 p3 ∧ ∃ b5, (zs_R S 8066 p0) = some b5 ∧ zs_A S b5 0 p1 ∧ zs_U X d 8237 61 [(0, .ref p0), (1, .int p1), (2, .int p2), (3, .int p3), (4, .int p4), (5, .int (zs_i S b2 p3.toNatClampNeg)), (6, .int (0 : Int32)), (7, .int (zs_i S b5 p1.toNatClampNeg))] [] S Q)
theorem u_X9_field_42 {σ : Nat → Nat} {n0 : Nat} {bf : ab_B} {d : Nat} {p0 : Nat} {p1 : Int32} {p2 : Int32} {p3 : Int32} {p4 : Int32} {S : zs_T} {Q : zs_Q} (hB : zt_B bf) (h : w_X9_field_42 (zx σ n0 bf) d p0 p1 p2 p3 p4 S Q) : zs_U (zx σ n0 bf) d 8237 42 [(0, .ref p0), (1, .int p1), (2, .int p2), (3, .int p3), (4, .int p4)] [] S Q := by
  unfold w_X9_field_42 at h
  refine zu_aload_n d_8237_42 rfl (zs_ra _) ?_
  obtain ⟨k1, h⟩ := h
  refine zg_8_409 rfl d_8237_43 k1 ?_
  refine zu_iload_n d_8237_46 rfl ?_
  obtain ⟨b2, e3, h⟩ := h
  refine zs_stk1 (zs_rfe e3) ?_
  obtain ⟨k4, h⟩ := h
  refine zu_iald (k := 0) d_8237_47 rfl rfl k4 ?_
  refine zu_istore d_8237_48 (zs_lt zq_8237 rfl) ?_
  refine zu_iconst d_8237_50 zi_0 ?_
  refine zu_istore d_8237_51 (zs_lt zq_8237 rfl) ?_
  refine zu_aload_n d_8237_53 rfl (zs_ra _) ?_
  refine zg_8_145 rfl d_8237_54 k1 ?_
  refine zu_iload_n d_8237_57 rfl ?_
  obtain ⟨b5, e6, h⟩ := h
  refine zs_stk1 (zs_rfe e6) ?_
  obtain ⟨k7, h⟩ := h
  refine zu_iald (k := 0) d_8237_58 rfl rfl k7 ?_
  refine zu_istore d_8237_59 (zs_lt zq_8237 rfl) ?_
  exact h.weak ⟨rfl, rfl, rfl, rfl, rfl, rfl, rfl, rfl, trivial⟩
def w_X9_field_34 (X : zs_X) (d : Nat) (p0 : Nat) (p1 : Int32) (p2 : Int32) (p3 : Int32) (p4 : Int32) (S : zs_T) (Q : zs_Q) : Prop :=
  (zs_K S p0 = some (.inl 8) ∧ zs_C X d 8115 [.ref p0, .int p4] S (zs_kI (fun v3 S2 => (w_X9_field_42 X d p0 p1 p2 p3 p4 S2 Q)) Q))
theorem u_X9_field_34 {σ : Nat → Nat} {n0 : Nat} {bf : ab_B} {d : Nat} {p0 : Nat} {p1 : Int32} {p2 : Int32} {p3 : Int32} {p4 : Int32} {S : zs_T} {Q : zs_Q} (hB : zt_B bf) (h : w_X9_field_34 (zx σ n0 bf) d p0 p1 p2 p3 p4 S Q) : zs_U (zx σ n0 bf) d 8237 34 [(0, .ref p0), (1, .int p1), (2, .int p2), (3, .int p3), (4, .int p4)] [] S Q := by
  unfold w_X9_field_34 at h
  refine zu_aload_n d_8237_34 rfl (zs_ra _) ?_
  refine zu_iload d_8237_35 rfl ?_
  obtain ⟨k1, h⟩ := h
  refine zc_8_837 (x0 := p4) hB rfl k1 d_8237_37 (Nat.le_of_ble_eq_true rfl) h (fun v3 S2 h => ?_)
  refine zu_istore d_8237_40 (zs_lt zq_8237 rfl) ?_
  exact (u_X9_field_42 hB h).weak ⟨rfl, rfl, rfl, rfl, rfl, trivial⟩
def w_X9_field_92 (X : zs_X) (d : Nat) (p0 : Nat) (p1 : Int32) (p2 : Int32) (p3 : Int32) (p4 : Int32) (p5 : Int32) (p6 : Int32) (p7 : Int32) (S : zs_T) (Q : zs_Q) : Prop :=
  (zs_U X d 8237 61 [(0, .ref p0), (1, .int p1), (2, .int p2), (3, .int p3), (4, .int p4), (5, .int p5), (6, .int p6), (7, .int p7)] [] S Q)
theorem u_X9_field_92 {σ : Nat → Nat} {n0 : Nat} {bf : ab_B} {d : Nat} {p0 : Nat} {p1 : Int32} {p2 : Int32} {p3 : Int32} {p4 : Int32} {p5 : Int32} {p6 : Int32} {p7 : Int32} {S : zs_T} {Q : zs_Q} (hB : zt_B bf) (h : w_X9_field_92 (zx σ n0 bf) d p0 p1 p2 p3 p4 p5 p6 p7 S Q) : zs_U (zx σ n0 bf) d 8237 92 [(0, .ref p0), (1, .int p1), (2, .int p2), (3, .int p3), (4, .int p4), (5, .int p5), (6, .int p6), (7, .int p7)] [] S Q := by
  unfold w_X9_field_92 at h
  refine zu_goto (t := 61) d_8237_92 rfl ?_
  exact h.weak ⟨rfl, rfl, rfl, rfl, rfl, rfl, rfl, rfl, trivial⟩
def w_X9_field_61 (X : zs_X) (d : Nat) (p0 : Nat) (p1 : Int32) (p2 : Int32) (p3 : Int32) (p4 : Int32) (p5 : Int32) (p6 : Int32) (p7 : Int32) (S : zs_T) (Q : zs_Q) : Prop :=
  (((p7 ≤ 0 → (zs_U X d 8237 101 [(0, .ref p0), (1, .int p1), (2, .int p2), (3, .int p3), (4, .int p4), (5, .int p5), (7, .int (p6 - (1 : Int32)))] [] S Q)) ∧ (¬ (p7 ≤ 0) → (zs_K S p0 = some (.inl 8) ∧ ∃ b3, (zs_R S 8206 p0) = some b3 ∧ zs_A S b3 0 p6 ∧ ab_n0 X.1 ≤ b3 ∧ ∀ S7, S7 = zs_si S b3 p6.toNatClampNeg p7 → ∃ b10, (zs_R S7 8070 p0) = some b10 ∧ zs_A S b10 0 p7 ∧ ∃ b13, (zs_R S7 8066 p0) = some b13 ∧ zs_A S b13 0 (zs_i S7 b10 p7.toNatClampNeg) ∧ w_X9_field_92 X d p0 p1 p2 p3 p4 p5 (p6 + (1 : Int32)) (zs_i S7 b13 (zs_i S7 b10 p7.toNatClampNeg).toNatClampNeg) S7 Q))))
theorem u_X9_field_61 {σ : Nat → Nat} {n0 : Nat} {bf : ab_B} {d : Nat} {p0 : Nat} {p1 : Int32} {p2 : Int32} {p3 : Int32} {p4 : Int32} {p5 : Int32} {p6 : Int32} {p7 : Int32} {S : zs_T} {Q : zs_Q} (hB : zt_B bf) (h : w_X9_field_61 (zx σ n0 bf) d p0 p1 p2 p3 p4 p5 p6 p7 S Q) : zs_U (zx σ n0 bf) d 8237 61 [(0, .ref p0), (1, .int p1), (2, .int p2), (3, .int p3), (4, .int p4), (5, .int p5), (6, .int p6), (7, .int p7)] [] S Q := by
  unfold w_X9_field_61 at h
  refine zu_iload d_8237_61 rfl ?_
  refine zu_ifle (t := 95) d_8237_63 rfl (fun c1 => ?_) (fun c1 => ?_)
  · have h := h.1 c1
    refine zu_iload d_8237_95 rfl ?_
    refine zu_iconst d_8237_97 zi_1 ?_
    refine zu_stk d_8237_98 rfl rfl ?_
    refine zu_istore d_8237_99 (zs_lt zq_8237 rfl) ?_
    exact h.weak ⟨rfl, rfl, rfl, rfl, rfl, rfl, rfl, trivial⟩
  · have h := h.2 c1
    refine zu_aload_n d_8237_66 rfl (zs_ra _) ?_
    obtain ⟨k2, h⟩ := h
    refine zg_8_438 rfl d_8237_67 k2 ?_
    refine zu_iload d_8237_70 rfl ?_
    refine zu_iload d_8237_72 rfl ?_
    obtain ⟨b3, e4, h⟩ := h
    refine zs_stk2 (zs_rfe e4) ?_
    obtain ⟨k5, h⟩ := h
    obtain ⟨k6, h⟩ := h
    refine zu_iast (k := 0) d_8237_74 rfl rfl k6 k5 ?_
    generalize e8 : zs_si S b3 p6.toNatClampNeg p7 = S7
    have h := h S7 e8.symm
    have K9 : ∀ b, zs_K S7 b = zs_K S b := zs_Kt e8 (zs_Ksi _ _ _ _) (fun _ => rfl)
    refine zu_iinc d_8237_75 rfl zi_1 (zs_lt zq_8237 rfl) ?_
    refine zu_aload_n d_8237_78 rfl (zs_ra _) ?_
    refine zg_8_145 rfl d_8237_79 ((K9 _).trans k2) ?_
    refine zu_aload_n d_8237_82 rfl (zs_ra _) ?_
    refine zg_8_154 rfl d_8237_83 ((K9 _).trans k2) ?_
    refine zu_iload d_8237_86 rfl ?_
    obtain ⟨b10, e11, h⟩ := h
    refine zs_stk1 (zs_rfe e11) ?_
    obtain ⟨k12, h⟩ := h
    refine zu_iald (k := 0) d_8237_88 rfl rfl (zs_Ak K9 k12) ?_
    obtain ⟨b13, e14, h⟩ := h
    refine zs_stk1 (zs_rfe e14) ?_
    obtain ⟨k15, h⟩ := h
    refine zu_iald (k := 0) d_8237_89 rfl rfl (zs_Ak K9 k15) ?_
    refine zu_istore d_8237_90 (zs_lt zq_8237 rfl) ?_
    exact (u_X9_field_92 hB h).weak ⟨rfl, rfl, rfl, rfl, rfl, rfl, rfl, rfl, trivial⟩
def w_X9_field_241 (X : zs_X) (d : Nat)  (S : zs_T) (Q : zs_Q) : Prop :=
  (Q (.returned none) S)
theorem u_X9_field_241 {σ : Nat → Nat} {n0 : Nat} {bf : ab_B} {d : Nat}  {S : zs_T} {Q : zs_Q} (hB : zt_B bf) (h : w_X9_field_241 (zx σ n0 bf) d  S Q) : zs_U (zx σ n0 bf) d 8237 241 [] [] S Q := by
  unfold w_X9_field_241 at h
  exact zu_vret d_8237_241 zr_8237 h
def w_X9_field_199 (X : zs_X) (d : Nat) (p0 : Nat) (p1 : Int32) (p3 : Int32) (p4 : Int32) (p5 : Int32) (S : zs_T) (Q : zs_Q) : Prop :=
  (zs_K S p0 = some (.inl 8) ∧ ∃ b2, (zs_R S 8192 p0) = some b2 ∧ zs_A S b2 0 p3 ∧ ab_n0 X.1 ≤ b2 ∧ ∀ S6, S6 = zs_si S b2 p3.toNatClampNeg p1 → ∃ b9, (zs_R S6 8193 p0) = some b9 ∧ zs_A S b9 0 p3 ∧ ab_n0 X.1 ≤ b9 ∧ ∀ S13, S13 = zs_si S6 b9 p3.toNatClampNeg p5 → ∃ b16, (zs_R S13 8194 p0) = some b16 ∧ zs_A S b16 0 p3 ∧ ab_n0 X.1 ≤ b16 ∧ ∀ S20, S20 = zs_si S13 b16 p3.toNatClampNeg p4 → ∃ b23, (zs_R S20 8118 p0) = some b23 ∧ zs_A S b23 0 p1 ∧ ∃ b26, (zs_R S20 8065 p0) = some b26 ∧ zs_A S b26 0 p1 ∧ zs_C X d 8240 [.ref p0, .int (p5 + (zs_i S20 b23 p1.toNatClampNeg)), .int (zs_i S20 b26 p1.toNatClampNeg)] S20 (zs_kV (fun S29 => w_X9_field_241 X d  S29 Q) Q))
theorem u_X9_field_199 {σ : Nat → Nat} {n0 : Nat} {bf : ab_B} {d : Nat} {p0 : Nat} {p1 : Int32} {p3 : Int32} {p4 : Int32} {p5 : Int32} {S : zs_T} {Q : zs_Q} (hB : zt_B bf) (h : w_X9_field_199 (zx σ n0 bf) d p0 p1 p3 p4 p5 S Q) : zs_U (zx σ n0 bf) d 8237 199 [(0, .ref p0), (1, .int p1), (3, .int p3), (4, .int p4), (5, .int p5)] [] S Q := by
  unfold w_X9_field_199 at h
  refine zu_aload_n d_8237_199 rfl (zs_ra _) ?_
  obtain ⟨k1, h⟩ := h
  refine zg_8_419 rfl d_8237_200 k1 ?_
  refine zu_iload_n d_8237_203 rfl ?_
  refine zu_iload_n d_8237_204 rfl ?_
  obtain ⟨b2, e3, h⟩ := h
  refine zs_stk2 (zs_rfe e3) ?_
  obtain ⟨k4, h⟩ := h
  obtain ⟨k5, h⟩ := h
  refine zu_iast (k := 0) d_8237_205 rfl rfl k5 k4 ?_
  generalize e7 : zs_si S b2 p3.toNatClampNeg p1 = S6
  have h := h S6 e7.symm
  have K8 : ∀ b, zs_K S6 b = zs_K S b := zs_Kt e7 (zs_Ksi _ _ _ _) (fun _ => rfl)
  refine zu_aload_n d_8237_206 rfl (zs_ra _) ?_
  refine zg_8_422 rfl d_8237_207 ((K8 _).trans k1) ?_
  refine zu_iload_n d_8237_210 rfl ?_
  refine zu_iload d_8237_211 rfl ?_
  obtain ⟨b9, e10, h⟩ := h
  refine zs_stk2 (zs_rfe e10) ?_
  obtain ⟨k11, h⟩ := h
  obtain ⟨k12, h⟩ := h
  refine zu_iast (k := 0) d_8237_213 rfl rfl k12 (zs_Ak K8 k11) ?_
  generalize e14 : zs_si S6 b9 p3.toNatClampNeg p5 = S13
  have h := h S13 e14.symm
  have K15 : ∀ b, zs_K S13 b = zs_K S b := zs_Kt e14 (zs_Ksi _ _ _ _) K8
  refine zu_aload_n d_8237_214 rfl (zs_ra _) ?_
  refine zg_8_425 rfl d_8237_215 ((K15 _).trans k1) ?_
  refine zu_iload_n d_8237_218 rfl ?_
  refine zu_iload d_8237_219 rfl ?_
  obtain ⟨b16, e17, h⟩ := h
  refine zs_stk2 (zs_rfe e17) ?_
  obtain ⟨k18, h⟩ := h
  obtain ⟨k19, h⟩ := h
  refine zu_iast (k := 0) d_8237_221 rfl rfl k19 (zs_Ak K15 k18) ?_
  generalize e21 : zs_si S13 b16 p3.toNatClampNeg p4 = S20
  have h := h S20 e21.symm
  have K22 : ∀ b, zs_K S20 b = zs_K S b := zs_Kt e21 (zs_Ksi _ _ _ _) K15
  refine zu_aload_n d_8237_222 rfl (zs_ra _) ?_
  refine zu_iload d_8237_223 rfl ?_
  refine zu_aload_n d_8237_225 rfl (zs_ra _) ?_
  refine zg_8_257 rfl d_8237_226 ((K22 _).trans k1) ?_
  refine zu_iload_n d_8237_229 rfl ?_
  obtain ⟨b23, e24, h⟩ := h
  refine zs_stk1 (zs_rfe e24) ?_
  obtain ⟨k25, h⟩ := h
  refine zu_iald (k := 0) d_8237_230 rfl rfl (zs_Ak K22 k25) ?_
  refine zu_stk d_8237_231 rfl rfl ?_
  refine zu_aload_n d_8237_232 rfl (zs_ra _) ?_
  refine zg_8_142 rfl d_8237_233 ((K22 _).trans k1) ?_
  refine zu_iload_n d_8237_236 rfl ?_
  obtain ⟨b26, e27, h⟩ := h
  refine zs_stk1 (zs_rfe e27) ?_
  obtain ⟨k28, h⟩ := h
  refine zu_iald (k := 0) d_8237_237 rfl rfl (zs_Ak K22 k28) ?_
  refine zc_8_1304 (x0 := (p5 + (zs_i S20 b23 p1.toNatClampNeg))) (x1 := (zs_i S20 b26 p1.toNatClampNeg)) hB rfl ((K22 _).trans k1) d_8237_238 (Nat.le_of_ble_eq_true rfl) h (fun S29 h => ?_)
  exact (u_X9_field_241 hB h).weak trivial
def w_X9_field_193 (X : zs_X) (d : Nat) (p0 : Nat) (p1 : Int32) (p2 : Int32) (p3 : Int32) (p4 : Int32) (p5 : Int32) (p7 : Int32) (S : zs_T) (Q : zs_Q) : Prop :=
  (zs_U X d 8237 101 [(0, .ref p0), (1, .int p1), (2, .int p2), (3, .int p3), (4, .int p4), (5, .int p5), (7, .int (p7 + (-1 : Int32)))] [] S Q)
theorem u_X9_field_193 {σ : Nat → Nat} {n0 : Nat} {bf : ab_B} {d : Nat} {p0 : Nat} {p1 : Int32} {p2 : Int32} {p3 : Int32} {p4 : Int32} {p5 : Int32} {p7 : Int32} {S : zs_T} {Q : zs_Q} (hB : zt_B bf) (h : w_X9_field_193 (zx σ n0 bf) d p0 p1 p2 p3 p4 p5 p7 S Q) : zs_U (zx σ n0 bf) d 8237 193 [(0, .ref p0), (1, .int p1), (2, .int p2), (3, .int p3), (4, .int p4), (5, .int p5), (7, .int p7)] [] S Q := by
  unfold w_X9_field_193 at h
  refine zu_iinc d_8237_193 rfl zi_m1 (zs_lt zq_8237 rfl) ?_
  refine zu_goto (t := 101) d_8237_196 rfl ?_
  exact h.weak ⟨rfl, rfl, rfl, rfl, rfl, rfl, rfl, trivial⟩
def w_X9_field_187 (X : zs_X) (d : Nat) (p0 : Nat) (p1 : Int32) (p2 : Int32) (p3 : Int32) (p4 : Int32) (p5 : Int32) (p7 : Int32) (S : zs_T) (Q : zs_Q) : Prop :=
  (zs_K S p0 = some (.inl 8) ∧ zs_C X d 8208 [.ref p0, .int (3 : Int32), .int p2] S (zs_kV (fun S2 => w_X9_field_193 X d p0 p1 p2 p3 p4 p5 p7 S2 Q) Q))
theorem u_X9_field_187 {σ : Nat → Nat} {n0 : Nat} {bf : ab_B} {d : Nat} {p0 : Nat} {p1 : Int32} {p2 : Int32} {p3 : Int32} {p4 : Int32} {p5 : Int32} {p7 : Int32} {S : zs_T} {Q : zs_Q} (hB : zt_B bf) (h : w_X9_field_187 (zx σ n0 bf) d p0 p1 p2 p3 p4 p5 p7 S Q) : zs_U (zx σ n0 bf) d 8237 187 [(0, .ref p0), (1, .int p1), (2, .int p2), (3, .int p3), (4, .int p4), (5, .int p5), (7, .int p7)] [] S Q := by
  unfold w_X9_field_187 at h
  refine zu_aload_n d_8237_187 rfl (zs_ra _) ?_
  refine zu_iconst d_8237_188 zi_3 ?_
  refine zu_iload_n d_8237_189 rfl ?_
  obtain ⟨k1, h⟩ := h
  refine zc_8_1297 (x0 := (3 : Int32)) (x1 := p2) hB rfl k1 d_8237_190 (Nat.le_of_ble_eq_true rfl) h (fun S2 h => ?_)
  exact (u_X9_field_193 hB h).weak ⟨rfl, rfl, rfl, rfl, rfl, rfl, rfl, trivial⟩
def w_X9_field_139 (X : zs_X) (d : Nat) (p0 : Nat) (p1 : Int32) (p2 : Int32) (p3 : Int32) (p4 : Int32) (p5 : Int32) (p7 : Int32) (p8 : Int32) (p9 : Int32) (S : zs_T) (Q : zs_Q) : Prop :=
  (zs_K S p0 = some (.inl 8) ∧ ∃ b2, (zs_R S 8065 p0) = some b2 ∧ zs_A S b2 0 p8 ∧ zs_C X d 8238 [.ref p0, .int p9, .int (zs_i S b2 p8.toNatClampNeg)] S (zs_kI (fun v6 S5 => (((¬ v6 = 0 → (zs_K S5 p0 = some (.inl 8) ∧ ∃ b9, (zs_R S5 8170 p0) = some b9 ∧ zs_A S5 b9 3 p9 ∧ zs_C X d 8239 [.ref p0, .int p8, .long (zs_j S5 b9 p9.toNatClampNeg)] S5 (zs_kI (fun v13 S12 => (zs_K S12 p0 = some (.inl 8) ∧ ∃ b15, (zs_R S12 8206 p0) = some b15 ∧ zs_A S12 b15 0 p7 ∧ ((v13 = (zs_i S12 b15 p7.toNatClampNeg) → w_X9_field_193 X d p0 p1 p2 p3 p4 p5 p7 S12 Q) ∧ (¬ (v13 = (zs_i S12 b15 p7.toNatClampNeg)) → w_X9_field_187 X d p0 p1 p2 p3 p4 p5 p7 S12 Q)))) Q))) ∧ (¬ (¬ v6 = 0) → (zs_K S5 p0 = some (.inl 8) ∧ zs_C X d 8208 [.ref p0, .int (1 : Int32), .int p2] S5 (zs_kV (fun S20 => (w_X9_field_193 X d p0 p1 p2 p3 p4 p5 p7 S20 Q)) Q)))))) Q))
theorem u_X9_field_139 {σ : Nat → Nat} {n0 : Nat} {bf : ab_B} {d : Nat} {p0 : Nat} {p1 : Int32} {p2 : Int32} {p3 : Int32} {p4 : Int32} {p5 : Int32} {p7 : Int32} {p8 : Int32} {p9 : Int32} {S : zs_T} {Q : zs_Q} (hB : zt_B bf) (h : w_X9_field_139 (zx σ n0 bf) d p0 p1 p2 p3 p4 p5 p7 p8 p9 S Q) : zs_U (zx σ n0 bf) d 8237 139 [(0, .ref p0), (1, .int p1), (2, .int p2), (3, .int p3), (4, .int p4), (5, .int p5), (7, .int p7), (8, .int p8), (9, .int p9)] [] S Q := by
  unfold w_X9_field_139 at h
  refine zu_aload_n d_8237_139 rfl (zs_ra _) ?_
  refine zu_iload d_8237_140 rfl ?_
  refine zu_aload_n d_8237_142 rfl (zs_ra _) ?_
  obtain ⟨k1, h⟩ := h
  refine zg_8_142 rfl d_8237_143 k1 ?_
  refine zu_iload d_8237_146 rfl ?_
  obtain ⟨b2, e3, h⟩ := h
  refine zs_stk1 (zs_rfe e3) ?_
  obtain ⟨k4, h⟩ := h
  refine zu_iald (k := 0) d_8237_148 rfl rfl k4 ?_
  refine zc_8_1294 (x0 := p9) (x1 := (zs_i S b2 p8.toNatClampNeg)) hB rfl k1 d_8237_149 (Nat.le_of_ble_eq_true rfl) h (fun v6 S5 h => ?_)
  refine zu_ifne (t := 164) d_8237_152 rfl (fun c7 => ?_) (fun c7 => ?_)
  · have h := h.1 c7
    refine zu_aload_n d_8237_164 rfl (zs_ra _) ?_
    refine zu_iload d_8237_165 rfl ?_
    refine zu_aload_n d_8237_167 rfl (zs_ra _) ?_
    obtain ⟨k8, h⟩ := h
    refine zg_8_373 rfl d_8237_168 k8 ?_
    refine zu_iload d_8237_171 rfl ?_
    obtain ⟨b9, e10, h⟩ := h
    refine zs_stk1 (zs_rfe e10) ?_
    obtain ⟨k11, h⟩ := h
    refine zu_lald (k := 3) d_8237_173 rfl rfl k11 ?_
    refine zc_8_1300 (x0 := p8) (x1 := (zs_j S5 b9 p9.toNatClampNeg)) hB rfl k8 d_8237_174 (Nat.le_of_ble_eq_true rfl) h (fun v13 S12 h => ?_)
    refine zu_aload_n d_8237_177 rfl (zs_ra _) ?_
    obtain ⟨k14, h⟩ := h
    refine zg_8_438 rfl d_8237_178 k14 ?_
    refine zu_iload d_8237_181 rfl ?_
    obtain ⟨b15, e16, h⟩ := h
    refine zs_stk1 (zs_rfe e16) ?_
    obtain ⟨k17, h⟩ := h
    refine zu_iald (k := 0) d_8237_183 rfl rfl k17 ?_
    refine zu_cmpeq (t := 193) d_8237_184 rfl (fun c18 => ?_) (fun c18 => ?_)
    · have h := h.1 c18
      exact (u_X9_field_193 hB h).weak ⟨rfl, rfl, rfl, rfl, rfl, rfl, rfl, trivial⟩
    · have h := h.2 c18
      exact (u_X9_field_187 hB h).weak ⟨rfl, rfl, rfl, rfl, rfl, rfl, rfl, trivial⟩
  · have h := h.2 c7
    refine zu_aload_n d_8237_155 rfl (zs_ra _) ?_
    refine zu_iconst d_8237_156 zi_1 ?_
    refine zu_iload_n d_8237_157 rfl ?_
    obtain ⟨k19, h⟩ := h
    refine zc_8_1297 (x0 := (1 : Int32)) (x1 := p2) hB rfl k19 d_8237_158 (Nat.le_of_ble_eq_true rfl) h (fun S20 h => ?_)
    refine zu_goto (t := 193) d_8237_161 rfl ?_
    exact (u_X9_field_193 hB h).weak ⟨rfl, rfl, rfl, rfl, rfl, rfl, rfl, trivial⟩
def w_X9_field_101 (X : zs_X) (d : Nat) (p0 : Nat) (p1 : Int32) (p2 : Int32) (p3 : Int32) (p4 : Int32) (p5 : Int32) (p7 : Int32) (S : zs_T) (Q : zs_Q) : Prop :=
  (((p7 < 0 → w_X9_field_199 X d p0 p1 p3 p4 p5 S Q) ∧ (¬ (p7 < 0) → (zs_K S p0 = some (.inl 8) ∧ ((¬ (zs_I S 8197 p0) = 0 → w_X9_field_199 X d p0 p1 p3 p4 p5 S Q) ∧ (¬ (¬ (zs_I S 8197 p0) = 0) → (∃ b4, (zs_R S 8206 p0) = some b4 ∧ zs_A S b4 0 p7 ∧ ∃ b7, (zs_R S 8070 p0) = some b7 ∧ zs_A S b7 0 (zs_i S b4 p7.toNatClampNeg) ∧ ∃ b10, (zs_R S 8118 p0) = some b10 ∧ zs_A S b10 0 (zs_i S b7 (zs_i S b4 p7.toNatClampNeg).toNatClampNeg) ∧ w_X9_field_139 X d p0 p1 p2 p3 p4 p5 p7 (zs_i S b7 (zs_i S b4 p7.toNatClampNeg).toNatClampNeg) (p5 + (zs_i S b10 (zs_i S b7 (zs_i S b4 p7.toNatClampNeg).toNatClampNeg).toNatClampNeg)) S Q)))))))
theorem u_X9_field_101 {σ : Nat → Nat} {n0 : Nat} {bf : ab_B} {d : Nat} {p0 : Nat} {p1 : Int32} {p2 : Int32} {p3 : Int32} {p4 : Int32} {p5 : Int32} {p7 : Int32} {S : zs_T} {Q : zs_Q} (hB : zt_B bf) (h : w_X9_field_101 (zx σ n0 bf) d p0 p1 p2 p3 p4 p5 p7 S Q) : zs_U (zx σ n0 bf) d 8237 101 [(0, .ref p0), (1, .int p1), (2, .int p2), (3, .int p3), (4, .int p4), (5, .int p5), (7, .int p7)] [] S Q := by
  unfold w_X9_field_101 at h
  refine zu_iload d_8237_101 rfl ?_
  refine zu_iflt (t := 199) d_8237_103 rfl (fun c1 => ?_) (fun c1 => ?_)
  · have h := h.1 c1
    exact (u_X9_field_199 hB h).weak ⟨rfl, rfl, rfl, rfl, rfl, trivial⟩
  · have h := h.2 c1
    refine zu_aload_n d_8237_106 rfl (zs_ra _) ?_
    obtain ⟨k2, h⟩ := h
    refine zg_8_1273 rfl d_8237_107 k2 ?_
    refine zu_ifne (t := 199) d_8237_110 rfl (fun c3 => ?_) (fun c3 => ?_)
    · have h := h.1 c3
      exact (u_X9_field_199 hB h).weak ⟨rfl, rfl, rfl, rfl, rfl, trivial⟩
    · have h := h.2 c3
      refine zu_aload_n d_8237_113 rfl (zs_ra _) ?_
      refine zg_8_154 rfl d_8237_114 k2 ?_
      refine zu_aload_n d_8237_117 rfl (zs_ra _) ?_
      refine zg_8_438 rfl d_8237_118 k2 ?_
      refine zu_iload d_8237_121 rfl ?_
      obtain ⟨b4, e5, h⟩ := h
      refine zs_stk1 (zs_rfe e5) ?_
      obtain ⟨k6, h⟩ := h
      refine zu_iald (k := 0) d_8237_123 rfl rfl k6 ?_
      obtain ⟨b7, e8, h⟩ := h
      refine zs_stk1 (zs_rfe e8) ?_
      obtain ⟨k9, h⟩ := h
      refine zu_iald (k := 0) d_8237_124 rfl rfl k9 ?_
      refine zu_istore d_8237_125 (zs_lt zq_8237 rfl) ?_
      refine zu_iload d_8237_127 rfl ?_
      refine zu_aload_n d_8237_129 rfl (zs_ra _) ?_
      refine zg_8_257 rfl d_8237_130 k2 ?_
      refine zu_iload d_8237_133 rfl ?_
      obtain ⟨b10, e11, h⟩ := h
      refine zs_stk1 (zs_rfe e11) ?_
      obtain ⟨k12, h⟩ := h
      refine zu_iald (k := 0) d_8237_135 rfl rfl k12 ?_
      refine zu_stk d_8237_136 rfl rfl ?_
      refine zu_istore d_8237_137 (zs_lt zq_8237 rfl) ?_
      exact (u_X9_field_139 hB h).weak ⟨rfl, rfl, rfl, rfl, rfl, rfl, rfl, rfl, rfl, trivial⟩
def w_X9_field (X : zs_X) (d : Nat) (p0 : Nat) (p1 : Int32) (p2 : Int32) (S : zs_T) (Q : zs_Q) : Prop :=
  (zs_K S p0 = some (.inl 8) ∧ ∃ b2, (zs_R S 8190 p0) = some b2 ∧ zs_A S b2 0 ((zs_I S 8195 p0) - (1 : Int32)) ∧ zs_C X d 8073 [.ref p0, .int (zs_i S b2 ((zs_I S 8195 p0) - (1 : Int32)).toNatClampNeg)] S (zs_kI (fun v6 S5 => (zs_K S5 p0 = some (.inl 8) ∧ zs_C X d 8226 [.ref p0, .int ((zs_I S 8195 p0) - (1 : Int32))] S5 (zs_kV (fun S8 => (zs_K S8 p0 = some (.inl 8) ∧ ∃ b11, (zs_R S8 8049 p0) = some b11 ∧ zs_A S8 b11 2 v6 ∧ (((zs_i S8 b11 v6.toNatClampNeg) = 0 → w_X9_field_42 X d p0 p1 p2 ((zs_I S 8195 p0) - (1 : Int32)) v6 S8 Q) ∧ (¬ ((zs_i S8 b11 v6.toNatClampNeg) = 0) → w_X9_field_34 X d p0 p1 p2 ((zs_I S 8195 p0) - (1 : Int32)) v6 S8 Q)))) Q))) Q))
theorem u_X9_field {σ : Nat → Nat} {n0 : Nat} {bf : ab_B} {d : Nat} {p0 : Nat} {p1 : Int32} {p2 : Int32} {S : zs_T} {Q : zs_Q} (hB : zt_B bf) (hd : 1 ≤ d) (h : w_X9_field (zx σ n0 bf) (d - 1) p0 p1 p2 S Q) : zs_C (zx σ n0 bf) d 8237 [.ref p0, .int p1, .int p2] S Q := by
  have hL : lv_args 0 [.ref p0, .int p1, .int p2] = [(0, .ref p0), (1, .int p1), (2, .int p2)] := rfl
  refine zs_C.of1 (hB.2 8237 (by decide) (by decide)) hd (by rw [hL]; exact zs_sub_self _ (by exact ⟨rfl, rfl, rfl, trivial⟩)) ?_
  rw [hL]
  clear hL
  unfold w_X9_field at h
  refine zu_aload_n d_8237_0 rfl (zs_ra _) ?_
  obtain ⟨k1, h⟩ := h
  refine zg_8_1270 rfl d_8237_1 k1 ?_
  refine zu_iconst d_8237_4 zi_1 ?_
  refine zu_stk d_8237_5 rfl rfl ?_
  refine zu_istore_n d_8237_6 (zs_lt zq_8237 rfl) ?_
  refine zu_aload_n d_8237_7 rfl (zs_ra _) ?_
  refine zu_aload_n d_8237_8 rfl (zs_ra _) ?_
  refine zg_8_412 rfl d_8237_9 k1 ?_
  refine zu_iload_n d_8237_12 rfl ?_
  obtain ⟨b2, e3, h⟩ := h
  refine zs_stk1 (zs_rfe e3) ?_
  obtain ⟨k4, h⟩ := h
  refine zu_iald (k := 0) d_8237_13 rfl rfl k4 ?_
  refine zc_8_730 (x0 := (zs_i S b2 ((zs_I S 8195 p0) - (1 : Int32)).toNatClampNeg)) hB rfl k1 d_8237_14 (Nat.le_of_ble_eq_true rfl) h (fun v6 S5 h => ?_)
  refine zu_istore d_8237_17 (zs_lt zq_8237 rfl) ?_
  refine zu_aload_n d_8237_19 rfl (zs_ra _) ?_
  refine zu_iload_n d_8237_20 rfl ?_
  obtain ⟨k7, h⟩ := h
  refine zc_8_1291 (x0 := ((zs_I S 8195 p0) - (1 : Int32))) hB rfl k7 d_8237_21 (Nat.le_of_ble_eq_true rfl) h (fun S8 h => ?_)
  refine zu_aload_n d_8237_24 rfl (zs_ra _) ?_
  obtain ⟨k10, h⟩ := h
  refine zg_8_105 rfl d_8237_25 k10 ?_
  refine zu_iload d_8237_28 rfl ?_
  obtain ⟨b11, e12, h⟩ := h
  refine zs_stk1 (zs_rfe e12) ?_
  obtain ⟨k13, h⟩ := h
  refine zu_bald (k := 2) d_8237_30 rfl (Or.inr rfl) k13 ?_
  refine zu_ifeq (t := 42) d_8237_31 rfl (fun c14 => ?_) (fun c14 => ?_)
  · have h := h.1 c14
    exact (u_X9_field_42 hB h).weak ⟨rfl, rfl, rfl, rfl, rfl, trivial⟩
  · have h := h.2 c14
    exact (u_X9_field_34 hB h).weak ⟨rfl, rfl, rfl, rfl, rfl, trivial⟩
/-! SchemaPascalModel.has(II)Z -/
theorem zm_8238 {σ : Nat → Nat} {n0 : Nat} {bf : ab_B} : ab_code (zx σ n0 bf).1 8238 = prog_17_method_229_code := rfl
theorem zq_8238 {σ : Nat → Nat} {n0 : Nat} {bf : ab_B} : ab_maxL (zx σ n0 bf).1 8238 = 5 := rfl
theorem zr_8238 {σ : Nat → Nat} {n0 : Nat} {bf : ab_B} : ab_ret (zx σ n0 bf).1 8238 = (Option.some Jvm.ClassFile.FieldType.boolean) := rfl
theorem d_8238_0 {σ : Nat → Nat} {n0 : Nat} {bf : ab_B} : decode (ab_code (zx σ n0 bf).1 8238) 0 = .ok (.aload_n 0, 1) := zd zm_8238 (by decide +kernel)
theorem d_8238_1 {σ : Nat → Nat} {n0 : Nat} {bf : ab_B} : decode (ab_code (zx σ n0 bf).1 8238) 1 = .ok (.getfield 90, 3) := zd zm_8238 (by decide +kernel)
theorem d_8238_4 {σ : Nat → Nat} {n0 : Nat} {bf : ab_B} : decode (ab_code (zx σ n0 bf).1 8238) 4 = .ok (.iload_n 2, 1) := zd zm_8238 (by decide +kernel)
theorem d_8238_5 {σ : Nat → Nat} {n0 : Nat} {bf : ab_B} : decode (ab_code (zx σ n0 bf).1 8238) 5 = .ok (.baload, 1) := zd zm_8238 (by decide +kernel)
theorem d_8238_6 {σ : Nat → Nat} {n0 : Nat} {bf : ab_B} : decode (ab_code (zx σ n0 bf).1 8238) 6 = .ok (.bipush 7, 2) := zd zm_8238 (by decide +kernel)
theorem d_8238_8 {σ : Nat → Nat} {n0 : Nat} {bf : ab_B} : decode (ab_code (zx σ n0 bf).1 8238) 8 = .ok (.if_icmp .eq 57, 3) := zd zm_8238 (by decide +kernel)
theorem d_8238_11 {σ : Nat → Nat} {n0 : Nat} {bf : ab_B} : decode (ab_code (zx σ n0 bf).1 8238) 11 = .ok (.aload_n 0, 1) := zd zm_8238 (by decide +kernel)
theorem d_8238_12 {σ : Nat → Nat} {n0 : Nat} {bf : ab_B} : decode (ab_code (zx σ n0 bf).1 8238) 12 = .ok (.getfield 376, 3) := zd zm_8238 (by decide +kernel)
theorem d_8238_15 {σ : Nat → Nat} {n0 : Nat} {bf : ab_B} : decode (ab_code (zx σ n0 bf).1 8238) 15 = .ok (.iload_n 1, 1) := zd zm_8238 (by decide +kernel)
theorem d_8238_16 {σ : Nat → Nat} {n0 : Nat} {bf : ab_B} : decode (ab_code (zx σ n0 bf).1 8238) 16 = .ok (.baload, 1) := zd zm_8238 (by decide +kernel)
theorem d_8238_17 {σ : Nat → Nat} {n0 : Nat} {bf : ab_B} : decode (ab_code (zx σ n0 bf).1 8238) 17 = .ok (.ifCond .eq 46, 3) := zd zm_8238 (by decide +kernel)
theorem d_8238_20 {σ : Nat → Nat} {n0 : Nat} {bf : ab_B} : decode (ab_code (zx σ n0 bf).1 8238) 20 = .ok (.aload_n 0, 1) := zd zm_8238 (by decide +kernel)
theorem d_8238_21 {σ : Nat → Nat} {n0 : Nat} {bf : ab_B} : decode (ab_code (zx σ n0 bf).1 8238) 21 = .ok (.getfield 379, 3) := zd zm_8238 (by decide +kernel)
theorem d_8238_24 {σ : Nat → Nat} {n0 : Nat} {bf : ab_B} : decode (ab_code (zx σ n0 bf).1 8238) 24 = .ok (.iload_n 1, 1) := zd zm_8238 (by decide +kernel)
theorem d_8238_25 {σ : Nat → Nat} {n0 : Nat} {bf : ab_B} : decode (ab_code (zx σ n0 bf).1 8238) 25 = .ok (.iaload, 1) := zd zm_8238 (by decide +kernel)
theorem d_8238_26 {σ : Nat → Nat} {n0 : Nat} {bf : ab_B} : decode (ab_code (zx σ n0 bf).1 8238) 26 = .ok (.aload_n 0, 1) := zd zm_8238 (by decide +kernel)
theorem d_8238_27 {σ : Nat → Nat} {n0 : Nat} {bf : ab_B} : decode (ab_code (zx σ n0 bf).1 8238) 27 = .ok (.iload_n 2, 1) := zd zm_8238 (by decide +kernel)
theorem d_8238_28 {σ : Nat → Nat} {n0 : Nat} {bf : ab_B} : decode (ab_code (zx σ n0 bf).1 8238) 28 = .ok (.invokevirtual 1332, 3) := zd zm_8238 (by decide +kernel)
theorem d_8238_31 {σ : Nat → Nat} {n0 : Nat} {bf : ab_B} : decode (ab_code (zx σ n0 bf).1 8238) 31 = .ok (.if_icmp .ne 32, 3) := zd zm_8238 (by decide +kernel)
theorem d_8238_34 {σ : Nat → Nat} {n0 : Nat} {bf : ab_B} : decode (ab_code (zx σ n0 bf).1 8238) 34 = .ok (.aload_n 0, 1) := zd zm_8238 (by decide +kernel)
theorem d_8238_35 {σ : Nat → Nat} {n0 : Nat} {bf : ab_B} : decode (ab_code (zx σ n0 bf).1 8238) 35 = .ok (.getfield 90, 3) := zd zm_8238 (by decide +kernel)
theorem d_8238_38 {σ : Nat → Nat} {n0 : Nat} {bf : ab_B} : decode (ab_code (zx σ n0 bf).1 8238) 38 = .ok (.iload_n 2, 1) := zd zm_8238 (by decide +kernel)
theorem d_8238_39 {σ : Nat → Nat} {n0 : Nat} {bf : ab_B} : decode (ab_code (zx σ n0 bf).1 8238) 39 = .ok (.baload, 1) := zd zm_8238 (by decide +kernel)
theorem d_8238_40 {σ : Nat → Nat} {n0 : Nat} {bf : ab_B} : decode (ab_code (zx σ n0 bf).1 8238) 40 = .ok (.bipush 10, 2) := zd zm_8238 (by decide +kernel)
theorem d_8238_42 {σ : Nat → Nat} {n0 : Nat} {bf : ab_B} : decode (ab_code (zx σ n0 bf).1 8238) 42 = .ok (.if_icmp .eq 17, 3) := zd zm_8238 (by decide +kernel)
theorem d_8238_45 {σ : Nat → Nat} {n0 : Nat} {bf : ab_B} : decode (ab_code (zx σ n0 bf).1 8238) 45 = .ok (.aload_n 0, 1) := zd zm_8238 (by decide +kernel)
theorem d_8238_46 {σ : Nat → Nat} {n0 : Nat} {bf : ab_B} : decode (ab_code (zx σ n0 bf).1 8238) 46 = .ok (.iload_n 2, 1) := zd zm_8238 (by decide +kernel)
theorem d_8238_47 {σ : Nat → Nat} {n0 : Nat} {bf : ab_B} : decode (ab_code (zx σ n0 bf).1 8238) 47 = .ok (.aload_n 0, 1) := zd zm_8238 (by decide +kernel)
theorem d_8238_48 {σ : Nat → Nat} {n0 : Nat} {bf : ab_B} : decode (ab_code (zx σ n0 bf).1 8238) 48 = .ok (.getfield 373, 3) := zd zm_8238 (by decide +kernel)
theorem d_8238_51 {σ : Nat → Nat} {n0 : Nat} {bf : ab_B} : decode (ab_code (zx σ n0 bf).1 8238) 51 = .ok (.iload_n 1, 1) := zd zm_8238 (by decide +kernel)
theorem d_8238_52 {σ : Nat → Nat} {n0 : Nat} {bf : ab_B} : decode (ab_code (zx σ n0 bf).1 8238) 52 = .ok (.laload, 1) := zd zm_8238 (by decide +kernel)
theorem d_8238_53 {σ : Nat → Nat} {n0 : Nat} {bf : ab_B} : decode (ab_code (zx σ n0 bf).1 8238) 53 = .ok (.invokevirtual 1335, 3) := zd zm_8238 (by decide +kernel)
theorem d_8238_56 {σ : Nat → Nat} {n0 : Nat} {bf : ab_B} : decode (ab_code (zx σ n0 bf).1 8238) 56 = .ok (.ifCond .eq 7, 3) := zd zm_8238 (by decide +kernel)
theorem d_8238_59 {σ : Nat → Nat} {n0 : Nat} {bf : ab_B} : decode (ab_code (zx σ n0 bf).1 8238) 59 = .ok (.iconst 1, 1) := zd zm_8238 (by decide +kernel)
theorem d_8238_60 {σ : Nat → Nat} {n0 : Nat} {bf : ab_B} : decode (ab_code (zx σ n0 bf).1 8238) 60 = .ok (.goto 4, 3) := zd zm_8238 (by decide +kernel)
theorem d_8238_63 {σ : Nat → Nat} {n0 : Nat} {bf : ab_B} : decode (ab_code (zx σ n0 bf).1 8238) 63 = .ok (.iconst 0, 1) := zd zm_8238 (by decide +kernel)
theorem d_8238_64 {σ : Nat → Nat} {n0 : Nat} {bf : ab_B} : decode (ab_code (zx σ n0 bf).1 8238) 64 = .ok (.ireturn, 1) := zd zm_8238 (by decide +kernel)
theorem d_8238_65 {σ : Nat → Nat} {n0 : Nat} {bf : ab_B} : decode (ab_code (zx σ n0 bf).1 8238) 65 = .ok (.aload_n 0, 1) := zd zm_8238 (by decide +kernel)
theorem d_8238_66 {σ : Nat → Nat} {n0 : Nat} {bf : ab_B} : decode (ab_code (zx σ n0 bf).1 8238) 66 = .ok (.getfield 376, 3) := zd zm_8238 (by decide +kernel)
theorem d_8238_69 {σ : Nat → Nat} {n0 : Nat} {bf : ab_B} : decode (ab_code (zx σ n0 bf).1 8238) 69 = .ok (.iload_n 1, 1) := zd zm_8238 (by decide +kernel)
theorem d_8238_70 {σ : Nat → Nat} {n0 : Nat} {bf : ab_B} : decode (ab_code (zx σ n0 bf).1 8238) 70 = .ok (.baload, 1) := zd zm_8238 (by decide +kernel)
theorem d_8238_71 {σ : Nat → Nat} {n0 : Nat} {bf : ab_B} : decode (ab_code (zx σ n0 bf).1 8238) 71 = .ok (.ifCond .eq 34, 3) := zd zm_8238 (by decide +kernel)
theorem d_8238_74 {σ : Nat → Nat} {n0 : Nat} {bf : ab_B} : decode (ab_code (zx σ n0 bf).1 8238) 74 = .ok (.aload_n 0, 1) := zd zm_8238 (by decide +kernel)
theorem d_8238_75 {σ : Nat → Nat} {n0 : Nat} {bf : ab_B} : decode (ab_code (zx σ n0 bf).1 8238) 75 = .ok (.getfield 379, 3) := zd zm_8238 (by decide +kernel)
theorem d_8238_78 {σ : Nat → Nat} {n0 : Nat} {bf : ab_B} : decode (ab_code (zx σ n0 bf).1 8238) 78 = .ok (.iload_n 1, 1) := zd zm_8238 (by decide +kernel)
theorem d_8238_79 {σ : Nat → Nat} {n0 : Nat} {bf : ab_B} : decode (ab_code (zx σ n0 bf).1 8238) 79 = .ok (.iaload, 1) := zd zm_8238 (by decide +kernel)
theorem d_8238_80 {σ : Nat → Nat} {n0 : Nat} {bf : ab_B} : decode (ab_code (zx σ n0 bf).1 8238) 80 = .ok (.ldc_w 1339, 3) := zd zm_8238 (by decide +kernel)
theorem d_8238_83 {σ : Nat → Nat} {n0 : Nat} {bf : ab_B} : decode (ab_code (zx σ n0 bf).1 8238) 83 = .ok (.if_icmp .ne 22, 3) := zd zm_8238 (by decide +kernel)
theorem d_8238_86 {σ : Nat → Nat} {n0 : Nat} {bf : ab_B} : decode (ab_code (zx σ n0 bf).1 8238) 86 = .ok (.aload_n 0, 1) := zd zm_8238 (by decide +kernel)
theorem d_8238_87 {σ : Nat → Nat} {n0 : Nat} {bf : ab_B} : decode (ab_code (zx σ n0 bf).1 8238) 87 = .ok (.getfield 373, 3) := zd zm_8238 (by decide +kernel)
theorem d_8238_90 {σ : Nat → Nat} {n0 : Nat} {bf : ab_B} : decode (ab_code (zx σ n0 bf).1 8238) 90 = .ok (.iload_n 1, 1) := zd zm_8238 (by decide +kernel)
theorem d_8238_91 {σ : Nat → Nat} {n0 : Nat} {bf : ab_B} : decode (ab_code (zx σ n0 bf).1 8238) 91 = .ok (.laload, 1) := zd zm_8238 (by decide +kernel)
theorem d_8238_92 {σ : Nat → Nat} {n0 : Nat} {bf : ab_B} : decode (ab_code (zx σ n0 bf).1 8238) 92 = .ok (.aload_n 0, 1) := zd zm_8238 (by decide +kernel)
theorem d_8238_93 {σ : Nat → Nat} {n0 : Nat} {bf : ab_B} : decode (ab_code (zx σ n0 bf).1 8238) 93 = .ok (.iload_n 2, 1) := zd zm_8238 (by decide +kernel)
theorem d_8238_94 {σ : Nat → Nat} {n0 : Nat} {bf : ab_B} : decode (ab_code (zx σ n0 bf).1 8238) 94 = .ok (.invokevirtual 795, 3) := zd zm_8238 (by decide +kernel)
theorem d_8238_97 {σ : Nat → Nat} {n0 : Nat} {bf : ab_B} : decode (ab_code (zx σ n0 bf).1 8238) 97 = .ok (.lcmp, 1) := zd zm_8238 (by decide +kernel)
theorem d_8238_98 {σ : Nat → Nat} {n0 : Nat} {bf : ab_B} : decode (ab_code (zx σ n0 bf).1 8238) 98 = .ok (.ifCond .gt 7, 3) := zd zm_8238 (by decide +kernel)
theorem d_8238_101 {σ : Nat → Nat} {n0 : Nat} {bf : ab_B} : decode (ab_code (zx σ n0 bf).1 8238) 101 = .ok (.iconst 1, 1) := zd zm_8238 (by decide +kernel)
theorem d_8238_102 {σ : Nat → Nat} {n0 : Nat} {bf : ab_B} : decode (ab_code (zx σ n0 bf).1 8238) 102 = .ok (.goto 4, 3) := zd zm_8238 (by decide +kernel)
theorem d_8238_105 {σ : Nat → Nat} {n0 : Nat} {bf : ab_B} : decode (ab_code (zx σ n0 bf).1 8238) 105 = .ok (.iconst 0, 1) := zd zm_8238 (by decide +kernel)
theorem d_8238_106 {σ : Nat → Nat} {n0 : Nat} {bf : ab_B} : decode (ab_code (zx σ n0 bf).1 8238) 106 = .ok (.istore_n 3, 1) := zd zm_8238 (by decide +kernel)
theorem d_8238_107 {σ : Nat → Nat} {n0 : Nat} {bf : ab_B} : decode (ab_code (zx σ n0 bf).1 8238) 107 = .ok (.iconst 1, 1) := zd zm_8238 (by decide +kernel)
theorem d_8238_108 {σ : Nat → Nat} {n0 : Nat} {bf : ab_B} : decode (ab_code (zx σ n0 bf).1 8238) 108 = .ok (.istore 4, 2) := zd zm_8238 (by decide +kernel)
theorem d_8238_110 {σ : Nat → Nat} {n0 : Nat} {bf : ab_B} : decode (ab_code (zx σ n0 bf).1 8238) 110 = .ok (.iload_n 3, 1) := zd zm_8238 (by decide +kernel)
theorem d_8238_111 {σ : Nat → Nat} {n0 : Nat} {bf : ab_B} : decode (ab_code (zx σ n0 bf).1 8238) 111 = .ok (.ifCond .eq 55, 3) := zd zm_8238 (by decide +kernel)
theorem d_8238_114 {σ : Nat → Nat} {n0 : Nat} {bf : ab_B} : decode (ab_code (zx σ n0 bf).1 8238) 114 = .ok (.iload 4, 2) := zd zm_8238 (by decide +kernel)
theorem d_8238_116 {σ : Nat → Nat} {n0 : Nat} {bf : ab_B} : decode (ab_code (zx σ n0 bf).1 8238) 116 = .ok (.i2l, 1) := zd zm_8238 (by decide +kernel)
theorem d_8238_117 {σ : Nat → Nat} {n0 : Nat} {bf : ab_B} : decode (ab_code (zx σ n0 bf).1 8238) 117 = .ok (.aload_n 0, 1) := zd zm_8238 (by decide +kernel)
theorem d_8238_118 {σ : Nat → Nat} {n0 : Nat} {bf : ab_B} : decode (ab_code (zx σ n0 bf).1 8238) 118 = .ok (.getfield 373, 3) := zd zm_8238 (by decide +kernel)
theorem d_8238_121 {σ : Nat → Nat} {n0 : Nat} {bf : ab_B} : decode (ab_code (zx σ n0 bf).1 8238) 121 = .ok (.iload_n 1, 1) := zd zm_8238 (by decide +kernel)
theorem d_8238_122 {σ : Nat → Nat} {n0 : Nat} {bf : ab_B} : decode (ab_code (zx σ n0 bf).1 8238) 122 = .ok (.laload, 1) := zd zm_8238 (by decide +kernel)
theorem d_8238_123 {σ : Nat → Nat} {n0 : Nat} {bf : ab_B} : decode (ab_code (zx σ n0 bf).1 8238) 123 = .ok (.lcmp, 1) := zd zm_8238 (by decide +kernel)
theorem d_8238_124 {σ : Nat → Nat} {n0 : Nat} {bf : ab_B} : decode (ab_code (zx σ n0 bf).1 8238) 124 = .ok (.ifCond .gt 42, 3) := zd zm_8238 (by decide +kernel)
theorem d_8238_127 {σ : Nat → Nat} {n0 : Nat} {bf : ab_B} : decode (ab_code (zx σ n0 bf).1 8238) 127 = .ok (.aload_n 0, 1) := zd zm_8238 (by decide +kernel)
theorem d_8238_128 {σ : Nat → Nat} {n0 : Nat} {bf : ab_B} : decode (ab_code (zx σ n0 bf).1 8238) 128 = .ok (.getfield 376, 3) := zd zm_8238 (by decide +kernel)
theorem d_8238_131 {σ : Nat → Nat} {n0 : Nat} {bf : ab_B} : decode (ab_code (zx σ n0 bf).1 8238) 131 = .ok (.iload_n 1, 1) := zd zm_8238 (by decide +kernel)
theorem d_8238_132 {σ : Nat → Nat} {n0 : Nat} {bf : ab_B} : decode (ab_code (zx σ n0 bf).1 8238) 132 = .ok (.iload 4, 2) := zd zm_8238 (by decide +kernel)
theorem d_8238_134 {σ : Nat → Nat} {n0 : Nat} {bf : ab_B} : decode (ab_code (zx σ n0 bf).1 8238) 134 = .ok (.iadd, 1) := zd zm_8238 (by decide +kernel)
theorem d_8238_135 {σ : Nat → Nat} {n0 : Nat} {bf : ab_B} : decode (ab_code (zx σ n0 bf).1 8238) 135 = .ok (.baload, 1) := zd zm_8238 (by decide +kernel)
theorem d_8238_136 {σ : Nat → Nat} {n0 : Nat} {bf : ab_B} : decode (ab_code (zx σ n0 bf).1 8238) 136 = .ok (.ifCond .eq 22, 3) := zd zm_8238 (by decide +kernel)
theorem d_8238_139 {σ : Nat → Nat} {n0 : Nat} {bf : ab_B} : decode (ab_code (zx σ n0 bf).1 8238) 139 = .ok (.aload_n 0, 1) := zd zm_8238 (by decide +kernel)
theorem d_8238_140 {σ : Nat → Nat} {n0 : Nat} {bf : ab_B} : decode (ab_code (zx σ n0 bf).1 8238) 140 = .ok (.getfield 379, 3) := zd zm_8238 (by decide +kernel)
theorem d_8238_143 {σ : Nat → Nat} {n0 : Nat} {bf : ab_B} : decode (ab_code (zx σ n0 bf).1 8238) 143 = .ok (.iload_n 1, 1) := zd zm_8238 (by decide +kernel)
theorem d_8238_144 {σ : Nat → Nat} {n0 : Nat} {bf : ab_B} : decode (ab_code (zx σ n0 bf).1 8238) 144 = .ok (.iload 4, 2) := zd zm_8238 (by decide +kernel)
theorem d_8238_146 {σ : Nat → Nat} {n0 : Nat} {bf : ab_B} : decode (ab_code (zx σ n0 bf).1 8238) 146 = .ok (.iadd, 1) := zd zm_8238 (by decide +kernel)
theorem d_8238_147 {σ : Nat → Nat} {n0 : Nat} {bf : ab_B} : decode (ab_code (zx σ n0 bf).1 8238) 147 = .ok (.iaload, 1) := zd zm_8238 (by decide +kernel)
theorem d_8238_148 {σ : Nat → Nat} {n0 : Nat} {bf : ab_B} : decode (ab_code (zx σ n0 bf).1 8238) 148 = .ok (.ldc_w 1340, 3) := zd zm_8238 (by decide +kernel)
theorem d_8238_151 {σ : Nat → Nat} {n0 : Nat} {bf : ab_B} : decode (ab_code (zx σ n0 bf).1 8238) 151 = .ok (.if_icmp .ne 7, 3) := zd zm_8238 (by decide +kernel)
theorem d_8238_154 {σ : Nat → Nat} {n0 : Nat} {bf : ab_B} : decode (ab_code (zx σ n0 bf).1 8238) 154 = .ok (.iconst 1, 1) := zd zm_8238 (by decide +kernel)
theorem d_8238_155 {σ : Nat → Nat} {n0 : Nat} {bf : ab_B} : decode (ab_code (zx σ n0 bf).1 8238) 155 = .ok (.goto 4, 3) := zd zm_8238 (by decide +kernel)
theorem d_8238_158 {σ : Nat → Nat} {n0 : Nat} {bf : ab_B} : decode (ab_code (zx σ n0 bf).1 8238) 158 = .ok (.iconst 0, 1) := zd zm_8238 (by decide +kernel)
theorem d_8238_159 {σ : Nat → Nat} {n0 : Nat} {bf : ab_B} : decode (ab_code (zx σ n0 bf).1 8238) 159 = .ok (.istore_n 3, 1) := zd zm_8238 (by decide +kernel)
theorem d_8238_160 {σ : Nat → Nat} {n0 : Nat} {bf : ab_B} : decode (ab_code (zx σ n0 bf).1 8238) 160 = .ok (.iinc 4 1, 3) := zd zm_8238 (by decide +kernel)
theorem d_8238_163 {σ : Nat → Nat} {n0 : Nat} {bf : ab_B} : decode (ab_code (zx σ n0 bf).1 8238) 163 = .ok (.goto (-53), 3) := zd zm_8238 (by decide +kernel)
theorem d_8238_166 {σ : Nat → Nat} {n0 : Nat} {bf : ab_B} : decode (ab_code (zx σ n0 bf).1 8238) 166 = .ok (.iload_n 3, 1) := zd zm_8238 (by decide +kernel)
theorem d_8238_167 {σ : Nat → Nat} {n0 : Nat} {bf : ab_B} : decode (ab_code (zx σ n0 bf).1 8238) 167 = .ok (.ireturn, 1) := zd zm_8238 (by decide +kernel)
def w_X9_has_63 (X : zs_X) (d : Nat)  (S : zs_T) (Q : zs_Q) : Prop :=
  (Q (.returned (some (.int (0 : Int32)))) S)
theorem u_X9_has_63 {σ : Nat → Nat} {n0 : Nat} {bf : ab_B} {d : Nat}  {S : zs_T} {Q : zs_Q} (hB : zt_B bf) (h : w_X9_has_63 (zx σ n0 bf) d  S Q) : zs_U (zx σ n0 bf) d 8238 63 [] [] S Q := by
  unfold w_X9_has_63 at h
  refine zu_iconst d_8238_63 zi_0 ?_
  exact zu_iret d_8238_64 zr_8238 (zs_b_n (Or.inl rfl)) h
def w_X9_has_34 (X : zs_X) (d : Nat) (p0 : Nat) (p1 : Int32) (p2 : Int32) (S : zs_T) (Q : zs_Q) : Prop :=
  (zs_K S p0 = some (.inl 8) ∧ ∃ b2, (zs_R S 8044 p0) = some b2 ∧ zs_A S b2 1 p2 ∧ (((zs_i S b2 p2.toNatClampNeg) = (10 : Int32) → (Q (.returned (some (.int (1 : Int32)))) S)) ∧ (¬ ((zs_i S b2 p2.toNatClampNeg) = (10 : Int32)) → (∃ b6, (zs_R S 8170 p0) = some b6 ∧ zs_A S b6 3 p1 ∧ zs_C X d 8219 [.ref p0, .int p2, .long (zs_j S b6 p1.toNatClampNeg)] S (zs_kI (fun v10 S9 => (((v10 = 0 → w_X9_has_63 X d  S9 Q) ∧ (¬ (v10 = 0) → (Q (.returned (some (.int (1 : Int32)))) S9))))) Q)))))
theorem u_X9_has_34 {σ : Nat → Nat} {n0 : Nat} {bf : ab_B} {d : Nat} {p0 : Nat} {p1 : Int32} {p2 : Int32} {S : zs_T} {Q : zs_Q} (hB : zt_B bf) (h : w_X9_has_34 (zx σ n0 bf) d p0 p1 p2 S Q) : zs_U (zx σ n0 bf) d 8238 34 [(0, .ref p0), (1, .int p1), (2, .int p2)] [] S Q := by
  unfold w_X9_has_34 at h
  refine zu_aload_n d_8238_34 rfl (zs_ra _) ?_
  obtain ⟨k1, h⟩ := h
  refine zg_8_90 rfl d_8238_35 k1 ?_
  refine zu_iload_n d_8238_38 rfl ?_
  obtain ⟨b2, e3, h⟩ := h
  refine zs_stk1 (zs_rfe e3) ?_
  obtain ⟨k4, h⟩ := h
  refine zu_bald (k := 1) d_8238_39 rfl (Or.inl rfl) k4 ?_
  refine zu_bipush d_8238_40 zj_10 ?_
  refine zu_cmpeq (t := 59) d_8238_42 rfl (fun c5 => ?_) (fun c5 => ?_)
  · have h := h.1 c5
    refine zu_iconst d_8238_59 zi_1 ?_
    refine zu_goto (t := 64) d_8238_60 rfl ?_
    exact zu_iret d_8238_64 zr_8238 (zs_b_n (Or.inr rfl)) h
  · have h := h.2 c5
    refine zu_aload_n d_8238_45 rfl (zs_ra _) ?_
    refine zu_iload_n d_8238_46 rfl ?_
    refine zu_aload_n d_8238_47 rfl (zs_ra _) ?_
    refine zg_8_373 rfl d_8238_48 k1 ?_
    refine zu_iload_n d_8238_51 rfl ?_
    obtain ⟨b6, e7, h⟩ := h
    refine zs_stk1 (zs_rfe e7) ?_
    obtain ⟨k8, h⟩ := h
    refine zu_lald (k := 3) d_8238_52 rfl rfl k8 ?_
    refine zc_8_1335 (x0 := p2) (x1 := (zs_j S b6 p1.toNatClampNeg)) hB rfl k1 d_8238_53 (Nat.le_of_ble_eq_true rfl) h (fun v10 S9 h => ?_)
    refine zu_ifeq (t := 63) d_8238_56 rfl (fun c11 => ?_) (fun c11 => ?_)
    · have h := h.1 c11
      exact (u_X9_has_63 hB h).weak trivial
    · have h := h.2 c11
      refine zu_iconst d_8238_59 zi_1 ?_
      refine zu_goto (t := 64) d_8238_60 rfl ?_
      exact zu_iret d_8238_64 zr_8238 (zs_b_n (Or.inr rfl)) h
def w_X9_has_105 (X : zs_X) (d : Nat) (p0 : Nat) (p1 : Int32) (S : zs_T) (Q : zs_Q) : Prop :=
  (zs_U X d 8238 110 [(0, .ref p0), (1, .int p1), (3, .int (0 : Int32)), (4, .int (1 : Int32))] [] S Q)
theorem u_X9_has_105 {σ : Nat → Nat} {n0 : Nat} {bf : ab_B} {d : Nat} {p0 : Nat} {p1 : Int32} {S : zs_T} {Q : zs_Q} (hB : zt_B bf) (h : w_X9_has_105 (zx σ n0 bf) d p0 p1 S Q) : zs_U (zx σ n0 bf) d 8238 105 [(0, .ref p0), (1, .int p1)] [] S Q := by
  unfold w_X9_has_105 at h
  refine zu_iconst d_8238_105 zi_0 ?_
  refine zu_istore_n d_8238_106 (zs_lt zq_8238 rfl) ?_
  refine zu_iconst d_8238_107 zi_1 ?_
  refine zu_istore d_8238_108 (zs_lt zq_8238 rfl) ?_
  exact h.weak ⟨rfl, rfl, rfl, rfl, trivial⟩
def w_X9_has_86 (X : zs_X) (d : Nat) (p0 : Nat) (p1 : Int32) (p2 : Int32) (S : zs_T) (Q : zs_Q) : Prop :=
  (zs_K S p0 = some (.inl 8) ∧ ∃ b2, (zs_R S 8170 p0) = some b2 ∧ zs_A S b2 3 p1 ∧ zs_C X d 8122 [.ref p0, .int p2] S (zs_kJ (fun v6 S5 => (((v6 < (zs_j S b2 p1.toNatClampNeg) → w_X9_has_105 X d p0 p1 S5 Q) ∧ (¬ (v6 < (zs_j S b2 p1.toNatClampNeg)) → (zs_U X d 8238 110 [(0, .ref p0), (1, .int p1), (3, .int (1 : Int32)), (4, .int (1 : Int32))] [] S5 Q))))) Q))
theorem u_X9_has_86 {σ : Nat → Nat} {n0 : Nat} {bf : ab_B} {d : Nat} {p0 : Nat} {p1 : Int32} {p2 : Int32} {S : zs_T} {Q : zs_Q} (hB : zt_B bf) (h : w_X9_has_86 (zx σ n0 bf) d p0 p1 p2 S Q) : zs_U (zx σ n0 bf) d 8238 86 [(0, .ref p0), (1, .int p1), (2, .int p2)] [] S Q := by
  unfold w_X9_has_86 at h
  refine zu_aload_n d_8238_86 rfl (zs_ra _) ?_
  obtain ⟨k1, h⟩ := h
  refine zg_8_373 rfl d_8238_87 k1 ?_
  refine zu_iload_n d_8238_90 rfl ?_
  obtain ⟨b2, e3, h⟩ := h
  refine zs_stk1 (zs_rfe e3) ?_
  obtain ⟨k4, h⟩ := h
  refine zu_lald (k := 3) d_8238_91 rfl rfl k4 ?_
  refine zu_aload_n d_8238_92 rfl (zs_ra _) ?_
  refine zu_iload_n d_8238_93 rfl ?_
  refine zc_8_795 (x0 := p2) hB rfl k1 d_8238_94 (Nat.le_of_ble_eq_true rfl) h (fun v6 S5 h => ?_)
  refine zu_lgt (t := 105) d_8238_97 d_8238_98 rfl (fun c7 => ?_) (fun c7 => ?_)
  · have h := h.1 c7
    exact (u_X9_has_105 hB h).weak ⟨rfl, rfl, trivial⟩
  · have h := h.2 c7
    refine zu_iconst d_8238_101 zi_1 ?_
    refine zu_goto (t := 106) d_8238_102 rfl ?_
    refine zu_istore_n d_8238_106 (zs_lt zq_8238 rfl) ?_
    refine zu_iconst d_8238_107 zi_1 ?_
    refine zu_istore d_8238_108 (zs_lt zq_8238 rfl) ?_
    exact h.weak ⟨rfl, rfl, rfl, rfl, trivial⟩
def w_X9_has_158 (X : zs_X) (d : Nat) (p0 : Nat) (p1 : Int32) (p4 : Int32) (S : zs_T) (Q : zs_Q) : Prop :=
  (zs_U X d 8238 110 [(0, .ref p0), (1, .int p1), (3, .int (0 : Int32)), (4, .int (p4 + (1 : Int32)))] [] S Q)
theorem u_X9_has_158 {σ : Nat → Nat} {n0 : Nat} {bf : ab_B} {d : Nat} {p0 : Nat} {p1 : Int32} {p4 : Int32} {S : zs_T} {Q : zs_Q} (hB : zt_B bf) (h : w_X9_has_158 (zx σ n0 bf) d p0 p1 p4 S Q) : zs_U (zx σ n0 bf) d 8238 158 [(0, .ref p0), (1, .int p1), (4, .int p4)] [] S Q := by
  unfold w_X9_has_158 at h
  refine zu_iconst d_8238_158 zi_0 ?_
  refine zu_istore_n d_8238_159 (zs_lt zq_8238 rfl) ?_
  refine zu_iinc d_8238_160 rfl zi_1 (zs_lt zq_8238 rfl) ?_
  refine zu_goto (t := 110) d_8238_163 rfl ?_
  exact h.weak ⟨rfl, rfl, rfl, rfl, trivial⟩
def w_X9_has_139 (X : zs_X) (d : Nat) (p0 : Nat) (p1 : Int32) (p4 : Int32) (S : zs_T) (Q : zs_Q) : Prop :=
  (zs_K S p0 = some (.inl 8) ∧ ∃ b2, (zs_R S 8172 p0) = some b2 ∧ zs_A S b2 0 (p1 + p4) ∧ ((¬ (zs_i S b2 (p1 + p4).toNatClampNeg) = (300001 : Int32) → w_X9_has_158 X d p0 p1 p4 S Q) ∧ (¬ (¬ (zs_i S b2 (p1 + p4).toNatClampNeg) = (300001 : Int32)) → (zs_U X d 8238 110 [(0, .ref p0), (1, .int p1), (3, .int (1 : Int32)), (4, .int (p4 + (1 : Int32)))] [] S Q))))
theorem u_X9_has_139 {σ : Nat → Nat} {n0 : Nat} {bf : ab_B} {d : Nat} {p0 : Nat} {p1 : Int32} {p4 : Int32} {S : zs_T} {Q : zs_Q} (hB : zt_B bf) (h : w_X9_has_139 (zx σ n0 bf) d p0 p1 p4 S Q) : zs_U (zx σ n0 bf) d 8238 139 [(0, .ref p0), (1, .int p1), (4, .int p4)] [] S Q := by
  unfold w_X9_has_139 at h
  refine zu_aload_n d_8238_139 rfl (zs_ra _) ?_
  obtain ⟨k1, h⟩ := h
  refine zg_8_379 rfl d_8238_140 k1 ?_
  refine zu_iload_n d_8238_143 rfl ?_
  refine zu_iload d_8238_144 rfl ?_
  refine zu_stk d_8238_146 rfl rfl ?_
  obtain ⟨b2, e3, h⟩ := h
  refine zs_stk1 (zs_rfe e3) ?_
  obtain ⟨k4, h⟩ := h
  refine zu_iald (k := 0) d_8238_147 rfl rfl k4 ?_
  refine zlw_8_1340 rfl d_8238_148 ?_
  refine zu_cmpne (t := 158) d_8238_151 rfl (fun c5 => ?_) (fun c5 => ?_)
  · have h := h.1 c5
    exact (u_X9_has_158 hB h).weak ⟨rfl, rfl, rfl, trivial⟩
  · have h := h.2 c5
    refine zu_iconst d_8238_154 zi_1 ?_
    refine zu_goto (t := 159) d_8238_155 rfl ?_
    refine zu_istore_n d_8238_159 (zs_lt zq_8238 rfl) ?_
    refine zu_iinc d_8238_160 rfl zi_1 (zs_lt zq_8238 rfl) ?_
    refine zu_goto (t := 110) d_8238_163 rfl ?_
    exact h.weak ⟨rfl, rfl, rfl, rfl, trivial⟩
def w_X9_has_110 (X : zs_X) (d : Nat) (p0 : Nat) (p1 : Int32) (p3 : Int32) (p4 : Int32) (S : zs_T) (Q : zs_Q) : Prop :=
  (((p3 = 0 → (zs_b p3 ∧ Q (.returned (some (.int p3))) S)) ∧ (¬ (p3 = 0) → (zs_K S p0 = some (.inl 8) ∧ ∃ b4, (zs_R S 8170 p0) = some b4 ∧ zs_A S b4 3 p1 ∧ (((zs_j S b4 p1.toNatClampNeg) < ((p4).toInt64) → (zs_b p3 ∧ Q (.returned (some (.int p3))) S)) ∧ (¬ ((zs_j S b4 p1.toNatClampNeg) < ((p4).toInt64)) → (∃ b9, (zs_R S 8171 p0) = some b9 ∧ zs_A S b9 2 (p1 + p4) ∧ (((zs_i S b9 (p1 + p4).toNatClampNeg) = 0 → w_X9_has_158 X d p0 p1 p4 S Q) ∧ (¬ ((zs_i S b9 (p1 + p4).toNatClampNeg) = 0) → w_X9_has_139 X d p0 p1 p4 S Q)))))))))
theorem u_X9_has_110 {σ : Nat → Nat} {n0 : Nat} {bf : ab_B} {d : Nat} {p0 : Nat} {p1 : Int32} {p3 : Int32} {p4 : Int32} {S : zs_T} {Q : zs_Q} (hB : zt_B bf) (h : w_X9_has_110 (zx σ n0 bf) d p0 p1 p3 p4 S Q) : zs_U (zx σ n0 bf) d 8238 110 [(0, .ref p0), (1, .int p1), (3, .int p3), (4, .int p4)] [] S Q := by
  unfold w_X9_has_110 at h
  refine zu_iload_n d_8238_110 rfl ?_
  refine zu_ifeq (t := 166) d_8238_111 rfl (fun c1 => ?_) (fun c1 => ?_)
  · have h := h.1 c1
    refine zu_iload_n d_8238_166 rfl ?_
    obtain ⟨k2, h⟩ := h
    exact zu_iret d_8238_167 zr_8238 (zs_b_n k2) h
  · have h := h.2 c1
    refine zu_iload d_8238_114 rfl ?_
    refine zu_stk d_8238_116 rfl rfl ?_
    refine zu_aload_n d_8238_117 rfl (zs_ra _) ?_
    obtain ⟨k3, h⟩ := h
    refine zg_8_373 rfl d_8238_118 k3 ?_
    refine zu_iload_n d_8238_121 rfl ?_
    obtain ⟨b4, e5, h⟩ := h
    refine zs_stk1 (zs_rfe e5) ?_
    obtain ⟨k6, h⟩ := h
    refine zu_lald (k := 3) d_8238_122 rfl rfl k6 ?_
    refine zu_lgt (t := 166) d_8238_123 d_8238_124 rfl (fun c7 => ?_) (fun c7 => ?_)
    · have h := h.1 c7
      refine zu_iload_n d_8238_166 rfl ?_
      obtain ⟨k8, h⟩ := h
      exact zu_iret d_8238_167 zr_8238 (zs_b_n k8) h
    · have h := h.2 c7
      refine zu_aload_n d_8238_127 rfl (zs_ra _) ?_
      refine zg_8_376 rfl d_8238_128 k3 ?_
      refine zu_iload_n d_8238_131 rfl ?_
      refine zu_iload d_8238_132 rfl ?_
      refine zu_stk d_8238_134 rfl rfl ?_
      obtain ⟨b9, e10, h⟩ := h
      refine zs_stk1 (zs_rfe e10) ?_
      obtain ⟨k11, h⟩ := h
      refine zu_bald (k := 2) d_8238_135 rfl (Or.inr rfl) k11 ?_
      refine zu_ifeq (t := 158) d_8238_136 rfl (fun c12 => ?_) (fun c12 => ?_)
      · have h := h.1 c12
        exact (u_X9_has_158 hB h).weak ⟨rfl, rfl, rfl, trivial⟩
      · have h := h.2 c12
        exact (u_X9_has_139 hB h).weak ⟨rfl, rfl, rfl, trivial⟩
def w_X9_has (X : zs_X) (d : Nat) (p0 : Nat) (p1 : Int32) (p2 : Int32) (S : zs_T) (Q : zs_Q) : Prop :=
  (zs_K S p0 = some (.inl 8) ∧ ∃ b2, (zs_R S 8044 p0) = some b2 ∧ zs_A S b2 1 p2 ∧ (((zs_i S b2 p2.toNatClampNeg) = (7 : Int32) → (∃ b6, (zs_R S 8171 p0) = some b6 ∧ zs_A S b6 2 p1 ∧ (((zs_i S b6 p1.toNatClampNeg) = 0 → w_X9_has_105 X d p0 p1 S Q) ∧ (¬ ((zs_i S b6 p1.toNatClampNeg) = 0) → (∃ b10, (zs_R S 8172 p0) = some b10 ∧ zs_A S b10 0 p1 ∧ ((¬ (zs_i S b10 p1.toNatClampNeg) = (300000 : Int32) → w_X9_has_105 X d p0 p1 S Q) ∧ (¬ (¬ (zs_i S b10 p1.toNatClampNeg) = (300000 : Int32)) → w_X9_has_86 X d p0 p1 p2 S Q))))))) ∧ (¬ ((zs_i S b2 p2.toNatClampNeg) = (7 : Int32)) → (∃ b14, (zs_R S 8171 p0) = some b14 ∧ zs_A S b14 2 p1 ∧ (((zs_i S b14 p1.toNatClampNeg) = 0 → w_X9_has_63 X d  S Q) ∧ (¬ ((zs_i S b14 p1.toNatClampNeg) = 0) → (∃ b18, (zs_R S 8172 p0) = some b18 ∧ zs_A S b18 0 p1 ∧ zs_C X d 8220 [.ref p0, .int p2] S (zs_kI (fun v22 S21 => (((¬ (zs_i S b18 p1.toNatClampNeg) = v22 → w_X9_has_63 X d  S21 Q) ∧ (¬ (¬ (zs_i S b18 p1.toNatClampNeg) = v22) → w_X9_has_34 X d p0 p1 p2 S21 Q)))) Q))))))))
theorem u_X9_has {σ : Nat → Nat} {n0 : Nat} {bf : ab_B} {d : Nat} {p0 : Nat} {p1 : Int32} {p2 : Int32} {S : zs_T} {Q : zs_Q} (hB : zt_B bf) (hd : 1 ≤ d) (h : w_X9_has (zx σ n0 bf) (d - 1) p0 p1 p2 S Q) : zs_C (zx σ n0 bf) d 8238 [.ref p0, .int p1, .int p2] S Q := by
  have hL : lv_args 0 [.ref p0, .int p1, .int p2] = [(0, .ref p0), (1, .int p1), (2, .int p2)] := rfl
  refine zs_C.of1 (hB.2 8238 (by decide) (by decide)) hd (by rw [hL]; exact zs_sub_self _ (by exact ⟨rfl, rfl, rfl, trivial⟩)) ?_
  rw [hL]
  clear hL
  unfold w_X9_has at h
  refine zu_aload_n d_8238_0 rfl (zs_ra _) ?_
  obtain ⟨k1, h⟩ := h
  refine zg_8_90 rfl d_8238_1 k1 ?_
  refine zu_iload_n d_8238_4 rfl ?_
  obtain ⟨b2, e3, h⟩ := h
  refine zs_stk1 (zs_rfe e3) ?_
  obtain ⟨k4, h⟩ := h
  refine zu_bald (k := 1) d_8238_5 rfl (Or.inl rfl) k4 ?_
  refine zu_bipush d_8238_6 zj_7 ?_
  refine zu_cmpeq (t := 65) d_8238_8 rfl (fun c5 => ?_) (fun c5 => ?_)
  · have h := h.1 c5
    refine zu_aload_n d_8238_65 rfl (zs_ra _) ?_
    refine zg_8_376 rfl d_8238_66 k1 ?_
    refine zu_iload_n d_8238_69 rfl ?_
    obtain ⟨b6, e7, h⟩ := h
    refine zs_stk1 (zs_rfe e7) ?_
    obtain ⟨k8, h⟩ := h
    refine zu_bald (k := 2) d_8238_70 rfl (Or.inr rfl) k8 ?_
    refine zu_ifeq (t := 105) d_8238_71 rfl (fun c9 => ?_) (fun c9 => ?_)
    · have h := h.1 c9
      exact (u_X9_has_105 hB h).weak ⟨rfl, rfl, trivial⟩
    · have h := h.2 c9
      refine zu_aload_n d_8238_74 rfl (zs_ra _) ?_
      refine zg_8_379 rfl d_8238_75 k1 ?_
      refine zu_iload_n d_8238_78 rfl ?_
      obtain ⟨b10, e11, h⟩ := h
      refine zs_stk1 (zs_rfe e11) ?_
      obtain ⟨k12, h⟩ := h
      refine zu_iald (k := 0) d_8238_79 rfl rfl k12 ?_
      refine zlw_8_1339 rfl d_8238_80 ?_
      refine zu_cmpne (t := 105) d_8238_83 rfl (fun c13 => ?_) (fun c13 => ?_)
      · have h := h.1 c13
        exact (u_X9_has_105 hB h).weak ⟨rfl, rfl, trivial⟩
      · have h := h.2 c13
        exact (u_X9_has_86 hB h).weak ⟨rfl, rfl, rfl, trivial⟩
  · have h := h.2 c5
    refine zu_aload_n d_8238_11 rfl (zs_ra _) ?_
    refine zg_8_376 rfl d_8238_12 k1 ?_
    refine zu_iload_n d_8238_15 rfl ?_
    obtain ⟨b14, e15, h⟩ := h
    refine zs_stk1 (zs_rfe e15) ?_
    obtain ⟨k16, h⟩ := h
    refine zu_bald (k := 2) d_8238_16 rfl (Or.inr rfl) k16 ?_
    refine zu_ifeq (t := 63) d_8238_17 rfl (fun c17 => ?_) (fun c17 => ?_)
    · have h := h.1 c17
      exact (u_X9_has_63 hB h).weak trivial
    · have h := h.2 c17
      refine zu_aload_n d_8238_20 rfl (zs_ra _) ?_
      refine zg_8_379 rfl d_8238_21 k1 ?_
      refine zu_iload_n d_8238_24 rfl ?_
      obtain ⟨b18, e19, h⟩ := h
      refine zs_stk1 (zs_rfe e19) ?_
      obtain ⟨k20, h⟩ := h
      refine zu_iald (k := 0) d_8238_25 rfl rfl k20 ?_
      refine zu_aload_n d_8238_26 rfl (zs_ra _) ?_
      refine zu_iload_n d_8238_27 rfl ?_
      refine zc_8_1332 (x0 := p2) hB rfl k1 d_8238_28 (Nat.le_of_ble_eq_true rfl) h (fun v22 S21 h => ?_)
      refine zu_cmpne (t := 63) d_8238_31 rfl (fun c23 => ?_) (fun c23 => ?_)
      · have h := h.1 c23
        exact (u_X9_has_63 hB h).weak trivial
      · have h := h.2 c23
        exact (u_X9_has_34 hB h).weak ⟨rfl, rfl, rfl, trivial⟩
