/-! printed by gen_all.py: what the methods compute -/
set_option maxRecDepth 100000
/-! SchemaPascalModel.known(II)V -/
theorem zm_8065 {σ : Nat → Nat} {n0 : Nat} {bf : ab_B} : ab_code (zx σ n0 bf).1 8065 = prog_17_method_90_code := rfl
theorem zq_8065 {σ : Nat → Nat} {n0 : Nat} {bf : ab_B} : ab_maxL (zx σ n0 bf).1 8065 = 3 := rfl
theorem zr_8065 {σ : Nat → Nat} {n0 : Nat} {bf : ab_B} : ab_ret (zx σ n0 bf).1 8065 = (Option.none : Option Jvm.ClassFile.FieldType) := rfl
theorem d_8065_0 {σ : Nat → Nat} {n0 : Nat} {bf : ab_B} : decode (ab_code (zx σ n0 bf).1 8065) 0 = .ok (.iload_n 1, 1) := zd zm_8065 (by decide +kernel)
theorem d_8065_1 {σ : Nat → Nat} {n0 : Nat} {bf : ab_B} : decode (ab_code (zx σ n0 bf).1 8065) 1 = .ok (.bipush 18, 2) := zd zm_8065 (by decide +kernel)
theorem d_8065_3 {σ : Nat → Nat} {n0 : Nat} {bf : ab_B} : decode (ab_code (zx σ n0 bf).1 8065) 3 = .ok (.if_icmp .ne 23, 3) := zd zm_8065 (by decide +kernel)
theorem d_8065_6 {σ : Nat → Nat} {n0 : Nat} {bf : ab_B} : decode (ab_code (zx σ n0 bf).1 8065) 6 = .ok (.aload_n 0, 1) := zd zm_8065 (by decide +kernel)
theorem d_8065_7 {σ : Nat → Nat} {n0 : Nat} {bf : ab_B} : decode (ab_code (zx σ n0 bf).1 8065) 7 = .ok (.iconst 2, 1) := zd zm_8065 (by decide +kernel)
theorem d_8065_8 {σ : Nat → Nat} {n0 : Nat} {bf : ab_B} : decode (ab_code (zx σ n0 bf).1 8065) 8 = .ok (.iconst 0, 1) := zd zm_8065 (by decide +kernel)
theorem d_8065_9 {σ : Nat → Nat} {n0 : Nat} {bf : ab_B} : decode (ab_code (zx σ n0 bf).1 8065) 9 = .ok (.iconst 0, 1) := zd zm_8065 (by decide +kernel)
theorem d_8065_10 {σ : Nat → Nat} {n0 : Nat} {bf : ab_B} : decode (ab_code (zx σ n0 bf).1 8065) 10 = .ok (.bipush 8, 2) := zd zm_8065 (by decide +kernel)
theorem d_8065_12 {σ : Nat → Nat} {n0 : Nat} {bf : ab_B} : decode (ab_code (zx σ n0 bf).1 8065) 12 = .ok (.aload_n 0, 1) := zd zm_8065 (by decide +kernel)
theorem d_8065_13 {σ : Nat → Nat} {n0 : Nat} {bf : ab_B} : decode (ab_code (zx σ n0 bf).1 8065) 13 = .ok (.bipush 61, 2) := zd zm_8065 (by decide +kernel)
theorem d_8065_15 {σ : Nat → Nat} {n0 : Nat} {bf : ab_B} : decode (ab_code (zx σ n0 bf).1 8065) 15 = .ok (.iload_n 1, 1) := zd zm_8065 (by decide +kernel)
theorem d_8065_16 {σ : Nat → Nat} {n0 : Nat} {bf : ab_B} : decode (ab_code (zx σ n0 bf).1 8065) 16 = .ok (.iconst 0, 1) := zd zm_8065 (by decide +kernel)
theorem d_8065_17 {σ : Nat → Nat} {n0 : Nat} {bf : ab_B} : decode (ab_code (zx σ n0 bf).1 8065) 17 = .ok (.iload_n 2, 1) := zd zm_8065 (by decide +kernel)
theorem d_8065_18 {σ : Nat → Nat} {n0 : Nat} {bf : ab_B} : decode (ab_code (zx σ n0 bf).1 8065) 18 = .ok (.invokevirtual 656, 3) := zd zm_8065 (by decide +kernel)
theorem d_8065_21 {σ : Nat → Nat} {n0 : Nat} {bf : ab_B} : decode (ab_code (zx σ n0 bf).1 8065) 21 = .ok (.iload_n 2, 1) := zd zm_8065 (by decide +kernel)
theorem d_8065_22 {σ : Nat → Nat} {n0 : Nat} {bf : ab_B} : decode (ab_code (zx σ n0 bf).1 8065) 22 = .ok (.invokevirtual 699, 3) := zd zm_8065 (by decide +kernel)
theorem d_8065_25 {σ : Nat → Nat} {n0 : Nat} {bf : ab_B} : decode (ab_code (zx σ n0 bf).1 8065) 25 = .ok (.return_, 1) := zd zm_8065 (by decide +kernel)
theorem d_8065_26 {σ : Nat → Nat} {n0 : Nat} {bf : ab_B} : decode (ab_code (zx σ n0 bf).1 8065) 26 = .ok (.aload_n 0, 1) := zd zm_8065 (by decide +kernel)
theorem d_8065_27 {σ : Nat → Nat} {n0 : Nat} {bf : ab_B} : decode (ab_code (zx σ n0 bf).1 8065) 27 = .ok (.bipush 8, 2) := zd zm_8065 (by decide +kernel)
theorem d_8065_29 {σ : Nat → Nat} {n0 : Nat} {bf : ab_B} : decode (ab_code (zx σ n0 bf).1 8065) 29 = .ok (.invokevirtual 535, 3) := zd zm_8065 (by decide +kernel)
theorem d_8065_32 {σ : Nat → Nat} {n0 : Nat} {bf : ab_B} : decode (ab_code (zx σ n0 bf).1 8065) 32 = .ok (.ifCond .ne 9, 3) := zd zm_8065 (by decide +kernel)
theorem d_8065_35 {σ : Nat → Nat} {n0 : Nat} {bf : ab_B} : decode (ab_code (zx σ n0 bf).1 8065) 35 = .ok (.aload_n 0, 1) := zd zm_8065 (by decide +kernel)
theorem d_8065_36 {σ : Nat → Nat} {n0 : Nat} {bf : ab_B} : decode (ab_code (zx σ n0 bf).1 8065) 36 = .ok (.iconst 5, 1) := zd zm_8065 (by decide +kernel)
theorem d_8065_37 {σ : Nat → Nat} {n0 : Nat} {bf : ab_B} : decode (ab_code (zx σ n0 bf).1 8065) 37 = .ok (.invokevirtual 541, 3) := zd zm_8065 (by decide +kernel)
theorem d_8065_40 {σ : Nat → Nat} {n0 : Nat} {bf : ab_B} : decode (ab_code (zx σ n0 bf).1 8065) 40 = .ok (.return_, 1) := zd zm_8065 (by decide +kernel)
theorem d_8065_41 {σ : Nat → Nat} {n0 : Nat} {bf : ab_B} : decode (ab_code (zx σ n0 bf).1 8065) 41 = .ok (.aload_n 0, 1) := zd zm_8065 (by decide +kernel)
theorem d_8065_42 {σ : Nat → Nat} {n0 : Nat} {bf : ab_B} : decode (ab_code (zx σ n0 bf).1 8065) 42 = .ok (.bipush 23, 2) := zd zm_8065 (by decide +kernel)
theorem d_8065_44 {σ : Nat → Nat} {n0 : Nat} {bf : ab_B} : decode (ab_code (zx σ n0 bf).1 8065) 44 = .ok (.iload_n 1, 1) := zd zm_8065 (by decide +kernel)
theorem d_8065_45 {σ : Nat → Nat} {n0 : Nat} {bf : ab_B} : decode (ab_code (zx σ n0 bf).1 8065) 45 = .ok (.iload_n 2, 1) := zd zm_8065 (by decide +kernel)
theorem d_8065_46 {σ : Nat → Nat} {n0 : Nat} {bf : ab_B} : decode (ab_code (zx σ n0 bf).1 8065) 46 = .ok (.iconst 0, 1) := zd zm_8065 (by decide +kernel)
theorem d_8065_47 {σ : Nat → Nat} {n0 : Nat} {bf : ab_B} : decode (ab_code (zx σ n0 bf).1 8065) 47 = .ok (.invokevirtual 649, 3) := zd zm_8065 (by decide +kernel)
theorem d_8065_50 {σ : Nat → Nat} {n0 : Nat} {bf : ab_B} : decode (ab_code (zx σ n0 bf).1 8065) 50 = .ok (.aload_n 0, 1) := zd zm_8065 (by decide +kernel)
theorem d_8065_51 {σ : Nat → Nat} {n0 : Nat} {bf : ab_B} : decode (ab_code (zx σ n0 bf).1 8065) 51 = .ok (.invokevirtual 706, 3) := zd zm_8065 (by decide +kernel)
theorem d_8065_54 {σ : Nat → Nat} {n0 : Nat} {bf : ab_B} : decode (ab_code (zx σ n0 bf).1 8065) 54 = .ok (.aload_n 0, 1) := zd zm_8065 (by decide +kernel)
theorem d_8065_55 {σ : Nat → Nat} {n0 : Nat} {bf : ab_B} : decode (ab_code (zx σ n0 bf).1 8065) 55 = .ok (.bipush 22, 2) := zd zm_8065 (by decide +kernel)
theorem d_8065_57 {σ : Nat → Nat} {n0 : Nat} {bf : ab_B} : decode (ab_code (zx σ n0 bf).1 8065) 57 = .ok (.iload_n 1, 1) := zd zm_8065 (by decide +kernel)
theorem d_8065_58 {σ : Nat → Nat} {n0 : Nat} {bf : ab_B} : decode (ab_code (zx σ n0 bf).1 8065) 58 = .ok (.iconst 0, 1) := zd zm_8065 (by decide +kernel)
theorem d_8065_59 {σ : Nat → Nat} {n0 : Nat} {bf : ab_B} : decode (ab_code (zx σ n0 bf).1 8065) 59 = .ok (.iload_n 2, 1) := zd zm_8065 (by decide +kernel)
theorem d_8065_60 {σ : Nat → Nat} {n0 : Nat} {bf : ab_B} : decode (ab_code (zx σ n0 bf).1 8065) 60 = .ok (.invokevirtual 649, 3) := zd zm_8065 (by decide +kernel)
theorem d_8065_63 {σ : Nat → Nat} {n0 : Nat} {bf : ab_B} : decode (ab_code (zx σ n0 bf).1 8065) 63 = .ok (.aload_n 0, 1) := zd zm_8065 (by decide +kernel)
theorem d_8065_64 {σ : Nat → Nat} {n0 : Nat} {bf : ab_B} : decode (ab_code (zx σ n0 bf).1 8065) 64 = .ok (.iconst 2, 1) := zd zm_8065 (by decide +kernel)
theorem d_8065_65 {σ : Nat → Nat} {n0 : Nat} {bf : ab_B} : decode (ab_code (zx σ n0 bf).1 8065) 65 = .ok (.iconst 0, 1) := zd zm_8065 (by decide +kernel)
theorem d_8065_66 {σ : Nat → Nat} {n0 : Nat} {bf : ab_B} : decode (ab_code (zx σ n0 bf).1 8065) 66 = .ok (.iconst 0, 1) := zd zm_8065 (by decide +kernel)
theorem d_8065_67 {σ : Nat → Nat} {n0 : Nat} {bf : ab_B} : decode (ab_code (zx σ n0 bf).1 8065) 67 = .ok (.iconst 0, 1) := zd zm_8065 (by decide +kernel)
theorem d_8065_68 {σ : Nat → Nat} {n0 : Nat} {bf : ab_B} : decode (ab_code (zx σ n0 bf).1 8065) 68 = .ok (.invokevirtual 649, 3) := zd zm_8065 (by decide +kernel)
theorem d_8065_71 {σ : Nat → Nat} {n0 : Nat} {bf : ab_B} : decode (ab_code (zx σ n0 bf).1 8065) 71 = .ok (.aload_n 0, 1) := zd zm_8065 (by decide +kernel)
theorem d_8065_72 {σ : Nat → Nat} {n0 : Nat} {bf : ab_B} : decode (ab_code (zx σ n0 bf).1 8065) 72 = .ok (.invokevirtual 538, 3) := zd zm_8065 (by decide +kernel)
theorem d_8065_75 {σ : Nat → Nat} {n0 : Nat} {bf : ab_B} : decode (ab_code (zx σ n0 bf).1 8065) 75 = .ok (.return_, 1) := zd zm_8065 (by decide +kernel)
def w_X9_known_25 (X : zs_X) (d : Nat)  (S : zs_T) (Q : zs_Q) : Prop :=
  (Q (.returned none) S)
theorem u_X9_known_25 {σ : Nat → Nat} {n0 : Nat} {bf : ab_B} {d : Nat}  {S : zs_T} {Q : zs_Q} (hB : zt_B bf) (h : w_X9_known_25 (zx σ n0 bf) d  S Q) : zs_U (zx σ n0 bf) d 8065 25 [] [] S Q := by
  unfold w_X9_known_25 at h
  exact zu_vret d_8065_25 zr_8065 h
def w_X9_known_63 (X : zs_X) (d : Nat) (p0 : Nat) (S : zs_T) (Q : zs_Q) : Prop :=
  (zs_K S p0 = some (.inl 8) ∧ zs_C X d 8030 [.ref p0, .int (2 : Int32), .int (0 : Int32), .int (0 : Int32), .int (0 : Int32)] S (zs_kV (fun S2 => (zs_K S2 p0 = some (.inl 8) ∧ zs_C X d 8014 [.ref p0] S2 (zs_kV (fun S5 => (Q (.returned none) S5)) Q))) Q))
theorem u_X9_known_63 {σ : Nat → Nat} {n0 : Nat} {bf : ab_B} {d : Nat} {p0 : Nat} {S : zs_T} {Q : zs_Q} (hB : zt_B bf) (h : w_X9_known_63 (zx σ n0 bf) d p0 S Q) : zs_U (zx σ n0 bf) d 8065 63 [(0, .ref p0)] [] S Q := by
  unfold w_X9_known_63 at h
  refine zu_aload_n d_8065_63 rfl (zs_ra _) ?_
  refine zu_iconst d_8065_64 zi_2 ?_
  refine zu_iconst d_8065_65 zi_0 ?_
  refine zu_iconst d_8065_66 zi_0 ?_
  refine zu_iconst d_8065_67 zi_0 ?_
  obtain ⟨k1, h⟩ := h
  refine zc_8_649 (x0 := (2 : Int32)) (x1 := (0 : Int32)) (x2 := (0 : Int32)) (x3 := (0 : Int32)) hB rfl k1 d_8065_68 (Nat.le_of_ble_eq_true rfl) h (fun S2 h => ?_)
  refine zu_aload_n d_8065_71 rfl (zs_ra _) ?_
  obtain ⟨k4, h⟩ := h
  refine zc_8_538  hB rfl k4 d_8065_72 (Nat.le_of_ble_eq_true rfl) h (fun S5 h => ?_)
  exact zu_vret d_8065_75 zr_8065 h
def w_X9_known (X : zs_X) (d : Nat) (p0 : Nat) (p1 : Int32) (p2 : Int32) (S : zs_T) (Q : zs_Q) : Prop :=
  (((¬ p1 = (18 : Int32) → (zs_K S p0 = some (.inl 8) ∧ zs_C X d 8029 [.ref p0, .int (8 : Int32)] S (zs_kI (fun v4 S3 => (((¬ v4 = 0 → (zs_K S3 p0 = some (.inl 8) ∧ zs_C X d 8030 [.ref p0, .int (23 : Int32), .int p1, .int p2, .int (0 : Int32)] S3 (zs_kV (fun S7 => (zs_K S7 p0 = some (.inl 8) ∧ zs_C X d 8060 [.ref p0] S7 (zs_kV (fun S10 => (zs_K S10 p0 = some (.inl 8) ∧ zs_C X d 8030 [.ref p0, .int (22 : Int32), .int p1, .int (0 : Int32), .int p2] S10 (zs_kV (fun S13 => w_X9_known_63 X d p0 S13 Q) Q))) Q))) Q))) ∧ (¬ (¬ v4 = 0) → (zs_K S3 p0 = some (.inl 8) ∧ zs_C X d 8027 [.ref p0, .int (5 : Int32)] S3 (zs_kV (fun S16 => (Q (.returned none) S16)) Q)))))) Q))) ∧ (¬ (¬ p1 = (18 : Int32)) → (zs_K S p0 = some (.inl 8) ∧ zs_C X d 8012 [.ref p0, .int (61 : Int32), .int p1, .int (0 : Int32), .int p2] S (zs_kI (fun v20 S19 => (zs_K S19 p0 = some (.inl 8) ∧ zs_C X d 8058 [.ref p0, .int (2 : Int32), .int (0 : Int32), .int (0 : Int32), .int (8 : Int32), .int v20, .int p2] S19 (zs_kV (fun S22 => w_X9_known_25 X d  S22 Q) Q))) Q)))))
theorem u_X9_known {σ : Nat → Nat} {n0 : Nat} {bf : ab_B} {d : Nat} {p0 : Nat} {p1 : Int32} {p2 : Int32} {S : zs_T} {Q : zs_Q} (hB : zt_B bf) (hd : 1 ≤ d) (h : w_X9_known (zx σ n0 bf) (d - 1) p0 p1 p2 S Q) : zs_C (zx σ n0 bf) d 8065 [.ref p0, .int p1, .int p2] S Q := by
  have hL : lv_args 0 [.ref p0, .int p1, .int p2] = [(0, .ref p0), (1, .int p1), (2, .int p2)] := rfl
  refine zs_C.of1 (hB.2 8065 (by decide) (by decide)) hd (by rw [hL]; exact zs_sub_self _ (by exact ⟨rfl, rfl, rfl, trivial⟩)) ?_
  rw [hL]
  clear hL
  unfold w_X9_known at h
  refine zu_iload_n d_8065_0 rfl ?_
  refine zu_bipush d_8065_1 zj_18 ?_
  refine zu_cmpne (t := 26) d_8065_3 rfl (fun c1 => ?_) (fun c1 => ?_)
  · have h := h.1 c1
    refine zu_aload_n d_8065_26 rfl (zs_ra _) ?_
    refine zu_bipush d_8065_27 zj_8 ?_
    obtain ⟨k2, h⟩ := h
    refine zc_8_535 (x0 := (8 : Int32)) hB rfl k2 d_8065_29 (Nat.le_of_ble_eq_true rfl) h (fun v4 S3 h => ?_)
    refine zu_ifne (t := 41) d_8065_32 rfl (fun c5 => ?_) (fun c5 => ?_)
    · have h := h.1 c5
      refine zu_aload_n d_8065_41 rfl (zs_ra _) ?_
      refine zu_bipush d_8065_42 zj_23 ?_
      refine zu_iload_n d_8065_44 rfl ?_
      refine zu_iload_n d_8065_45 rfl ?_
      refine zu_iconst d_8065_46 zi_0 ?_
      obtain ⟨k6, h⟩ := h
      refine zc_8_649 (x0 := (23 : Int32)) (x1 := p1) (x2 := p2) (x3 := (0 : Int32)) hB rfl k6 d_8065_47 (Nat.le_of_ble_eq_true rfl) h (fun S7 h => ?_)
      refine zu_aload_n d_8065_50 rfl (zs_ra _) ?_
      obtain ⟨k9, h⟩ := h
      refine zc_8_706  hB rfl k9 d_8065_51 (Nat.le_of_ble_eq_true rfl) h (fun S10 h => ?_)
      refine zu_aload_n d_8065_54 rfl (zs_ra _) ?_
      refine zu_bipush d_8065_55 zj_22 ?_
      refine zu_iload_n d_8065_57 rfl ?_
      refine zu_iconst d_8065_58 zi_0 ?_
      refine zu_iload_n d_8065_59 rfl ?_
      obtain ⟨k12, h⟩ := h
      refine zc_8_649 (x0 := (22 : Int32)) (x1 := p1) (x2 := (0 : Int32)) (x3 := p2) hB rfl k12 d_8065_60 (Nat.le_of_ble_eq_true rfl) h (fun S13 h => ?_)
      exact (u_X9_known_63 hB h).weak ⟨rfl, trivial⟩
    · have h := h.2 c5
      refine zu_aload_n d_8065_35 rfl (zs_ra _) ?_
      refine zu_iconst d_8065_36 zi_5 ?_
      obtain ⟨k15, h⟩ := h
      refine zc_8_541 (x0 := (5 : Int32)) hB rfl k15 d_8065_37 (Nat.le_of_ble_eq_true rfl) h (fun S16 h => ?_)
      exact zu_vret d_8065_40 zr_8065 h
  · have h := h.2 c1
    refine zu_aload_n d_8065_6 rfl (zs_ra _) ?_
    refine zu_iconst d_8065_7 zi_2 ?_
    refine zu_iconst d_8065_8 zi_0 ?_
    refine zu_iconst d_8065_9 zi_0 ?_
    refine zu_bipush d_8065_10 zj_8 ?_
    refine zu_aload_n d_8065_12 rfl (zs_ra _) ?_
    refine zu_bipush d_8065_13 zj_61 ?_
    refine zu_iload_n d_8065_15 rfl ?_
    refine zu_iconst d_8065_16 zi_0 ?_
    refine zu_iload_n d_8065_17 rfl ?_
    obtain ⟨k18, h⟩ := h
    refine zc_8_656 (x0 := (61 : Int32)) (x1 := p1) (x2 := (0 : Int32)) (x3 := p2) hB rfl k18 d_8065_18 (Nat.le_of_ble_eq_true rfl) h (fun v20 S19 h => ?_)
    refine zu_iload_n d_8065_21 rfl ?_
    obtain ⟨k21, h⟩ := h
    refine zc_8_699 (x0 := (2 : Int32)) (x1 := (0 : Int32)) (x2 := (0 : Int32)) (x3 := (8 : Int32)) (x4 := v20) (x5 := p2) hB rfl k21 d_8065_22 (Nat.le_of_ble_eq_true rfl) h (fun S22 h => ?_)
    exact (u_X9_known_25 hB h).weak trivial
/-! SchemaPascalModel.negated(I)V -/
theorem zm_8066 {σ : Nat → Nat} {n0 : Nat} {bf : ab_B} : ab_code (zx σ n0 bf).1 8066 = prog_17_method_65_code := rfl
theorem zq_8066 {σ : Nat → Nat} {n0 : Nat} {bf : ab_B} : ab_maxL (zx σ n0 bf).1 8066 = 3 := rfl
theorem zr_8066 {σ : Nat → Nat} {n0 : Nat} {bf : ab_B} : ab_ret (zx σ n0 bf).1 8066 = (Option.none : Option Jvm.ClassFile.FieldType) := rfl
theorem d_8066_0 {σ : Nat → Nat} {n0 : Nat} {bf : ab_B} : decode (ab_code (zx σ n0 bf).1 8066) 0 = .ok (.aload_n 0, 1) := zd zm_8066 (by decide +kernel)
theorem d_8066_1 {σ : Nat → Nat} {n0 : Nat} {bf : ab_B} : decode (ab_code (zx σ n0 bf).1 8066) 1 = .ok (.invokevirtual 660, 3) := zd zm_8066 (by decide +kernel)
theorem d_8066_4 {σ : Nat → Nat} {n0 : Nat} {bf : ab_B} : decode (ab_code (zx σ n0 bf).1 8066) 4 = .ok (.aload_n 0, 1) := zd zm_8066 (by decide +kernel)
theorem d_8066_5 {σ : Nat → Nat} {n0 : Nat} {bf : ab_B} : decode (ab_code (zx σ n0 bf).1 8066) 5 = .ok (.getfield 444, 3) := zd zm_8066 (by decide +kernel)
theorem d_8066_8 {σ : Nat → Nat} {n0 : Nat} {bf : ab_B} : decode (ab_code (zx σ n0 bf).1 8066) 8 = .ok (.ifCond .le 4, 3) := zd zm_8066 (by decide +kernel)
theorem d_8066_11 {σ : Nat → Nat} {n0 : Nat} {bf : ab_B} : decode (ab_code (zx σ n0 bf).1 8066) 11 = .ok (.return_, 1) := zd zm_8066 (by decide +kernel)
theorem d_8066_12 {σ : Nat → Nat} {n0 : Nat} {bf : ab_B} : decode (ab_code (zx σ n0 bf).1 8066) 12 = .ok (.aload_n 0, 1) := zd zm_8066 (by decide +kernel)
theorem d_8066_13 {σ : Nat → Nat} {n0 : Nat} {bf : ab_B} : decode (ab_code (zx σ n0 bf).1 8066) 13 = .ok (.aload_n 0, 1) := zd zm_8066 (by decide +kernel)
theorem d_8066_14 {σ : Nat → Nat} {n0 : Nat} {bf : ab_B} : decode (ab_code (zx σ n0 bf).1 8066) 14 = .ok (.getfield 191, 3) := zd zm_8066 (by decide +kernel)
theorem d_8066_17 {σ : Nat → Nat} {n0 : Nat} {bf : ab_B} : decode (ab_code (zx σ n0 bf).1 8066) 17 = .ok (.aload_n 0, 1) := zd zm_8066 (by decide +kernel)
theorem d_8066_18 {σ : Nat → Nat} {n0 : Nat} {bf : ab_B} : decode (ab_code (zx σ n0 bf).1 8066) 18 = .ok (.getfield 653, 3) := zd zm_8066 (by decide +kernel)
theorem d_8066_21 {σ : Nat → Nat} {n0 : Nat} {bf : ab_B} : decode (ab_code (zx σ n0 bf).1 8066) 21 = .ok (.iconst 1, 1) := zd zm_8066 (by decide +kernel)
theorem d_8066_22 {σ : Nat → Nat} {n0 : Nat} {bf : ab_B} : decode (ab_code (zx σ n0 bf).1 8066) 22 = .ok (.isub, 1) := zd zm_8066 (by decide +kernel)
theorem d_8066_23 {σ : Nat → Nat} {n0 : Nat} {bf : ab_B} : decode (ab_code (zx σ n0 bf).1 8066) 23 = .ok (.iaload, 1) := zd zm_8066 (by decide +kernel)
theorem d_8066_24 {σ : Nat → Nat} {n0 : Nat} {bf : ab_B} : decode (ab_code (zx σ n0 bf).1 8066) 24 = .ok (.invokevirtual 696, 3) := zd zm_8066 (by decide +kernel)
theorem d_8066_27 {σ : Nat → Nat} {n0 : Nat} {bf : ab_B} : decode (ab_code (zx σ n0 bf).1 8066) 27 = .ok (.ifCond .ne 8, 3) := zd zm_8066 (by decide +kernel)
theorem d_8066_30 {σ : Nat → Nat} {n0 : Nat} {bf : ab_B} : decode (ab_code (zx σ n0 bf).1 8066) 30 = .ok (.aload_n 0, 1) := zd zm_8066 (by decide +kernel)
theorem d_8066_31 {σ : Nat → Nat} {n0 : Nat} {bf : ab_B} : decode (ab_code (zx σ n0 bf).1 8066) 31 = .ok (.iconst 5, 1) := zd zm_8066 (by decide +kernel)
theorem d_8066_32 {σ : Nat → Nat} {n0 : Nat} {bf : ab_B} : decode (ab_code (zx σ n0 bf).1 8066) 32 = .ok (.invokevirtual 541, 3) := zd zm_8066 (by decide +kernel)
theorem d_8066_35 {σ : Nat → Nat} {n0 : Nat} {bf : ab_B} : decode (ab_code (zx σ n0 bf).1 8066) 35 = .ok (.aload_n 0, 1) := zd zm_8066 (by decide +kernel)
theorem d_8066_36 {σ : Nat → Nat} {n0 : Nat} {bf : ab_B} : decode (ab_code (zx σ n0 bf).1 8066) 36 = .ok (.bipush 30, 2) := zd zm_8066 (by decide +kernel)
theorem d_8066_38 {σ : Nat → Nat} {n0 : Nat} {bf : ab_B} : decode (ab_code (zx σ n0 bf).1 8066) 38 = .ok (.iconst 0, 1) := zd zm_8066 (by decide +kernel)
theorem d_8066_39 {σ : Nat → Nat} {n0 : Nat} {bf : ab_B} : decode (ab_code (zx σ n0 bf).1 8066) 39 = .ok (.iconst 0, 1) := zd zm_8066 (by decide +kernel)
theorem d_8066_40 {σ : Nat → Nat} {n0 : Nat} {bf : ab_B} : decode (ab_code (zx σ n0 bf).1 8066) 40 = .ok (.iload_n 1, 1) := zd zm_8066 (by decide +kernel)
theorem d_8066_41 {σ : Nat → Nat} {n0 : Nat} {bf : ab_B} : decode (ab_code (zx σ n0 bf).1 8066) 41 = .ok (.invokevirtual 656, 3) := zd zm_8066 (by decide +kernel)
theorem d_8066_44 {σ : Nat → Nat} {n0 : Nat} {bf : ab_B} : decode (ab_code (zx σ n0 bf).1 8066) 44 = .ok (.istore_n 2, 1) := zd zm_8066 (by decide +kernel)
theorem d_8066_45 {σ : Nat → Nat} {n0 : Nat} {bf : ab_B} : decode (ab_code (zx σ n0 bf).1 8066) 45 = .ok (.aload_n 0, 1) := zd zm_8066 (by decide +kernel)
theorem d_8066_46 {σ : Nat → Nat} {n0 : Nat} {bf : ab_B} : decode (ab_code (zx σ n0 bf).1 8066) 46 = .ok (.getfield 191, 3) := zd zm_8066 (by decide +kernel)
theorem d_8066_49 {σ : Nat → Nat} {n0 : Nat} {bf : ab_B} : decode (ab_code (zx σ n0 bf).1 8066) 49 = .ok (.aload_n 0, 1) := zd zm_8066 (by decide +kernel)
theorem d_8066_50 {σ : Nat → Nat} {n0 : Nat} {bf : ab_B} : decode (ab_code (zx σ n0 bf).1 8066) 50 = .ok (.getfield 653, 3) := zd zm_8066 (by decide +kernel)
theorem d_8066_53 {σ : Nat → Nat} {n0 : Nat} {bf : ab_B} : decode (ab_code (zx σ n0 bf).1 8066) 53 = .ok (.iconst 1, 1) := zd zm_8066 (by decide +kernel)
theorem d_8066_54 {σ : Nat → Nat} {n0 : Nat} {bf : ab_B} : decode (ab_code (zx σ n0 bf).1 8066) 54 = .ok (.isub, 1) := zd zm_8066 (by decide +kernel)
theorem d_8066_55 {σ : Nat → Nat} {n0 : Nat} {bf : ab_B} : decode (ab_code (zx σ n0 bf).1 8066) 55 = .ok (.iconst 2, 1) := zd zm_8066 (by decide +kernel)
theorem d_8066_56 {σ : Nat → Nat} {n0 : Nat} {bf : ab_B} : decode (ab_code (zx σ n0 bf).1 8066) 56 = .ok (.iastore, 1) := zd zm_8066 (by decide +kernel)
theorem d_8066_57 {σ : Nat → Nat} {n0 : Nat} {bf : ab_B} : decode (ab_code (zx σ n0 bf).1 8066) 57 = .ok (.aload_n 0, 1) := zd zm_8066 (by decide +kernel)
theorem d_8066_58 {σ : Nat → Nat} {n0 : Nat} {bf : ab_B} : decode (ab_code (zx σ n0 bf).1 8066) 58 = .ok (.getfield 200, 3) := zd zm_8066 (by decide +kernel)
theorem d_8066_61 {σ : Nat → Nat} {n0 : Nat} {bf : ab_B} : decode (ab_code (zx σ n0 bf).1 8066) 61 = .ok (.aload_n 0, 1) := zd zm_8066 (by decide +kernel)
theorem d_8066_62 {σ : Nat → Nat} {n0 : Nat} {bf : ab_B} : decode (ab_code (zx σ n0 bf).1 8066) 62 = .ok (.getfield 653, 3) := zd zm_8066 (by decide +kernel)
theorem d_8066_65 {σ : Nat → Nat} {n0 : Nat} {bf : ab_B} : decode (ab_code (zx σ n0 bf).1 8066) 65 = .ok (.iconst 1, 1) := zd zm_8066 (by decide +kernel)
theorem d_8066_66 {σ : Nat → Nat} {n0 : Nat} {bf : ab_B} : decode (ab_code (zx σ n0 bf).1 8066) 66 = .ok (.isub, 1) := zd zm_8066 (by decide +kernel)
theorem d_8066_67 {σ : Nat → Nat} {n0 : Nat} {bf : ab_B} : decode (ab_code (zx σ n0 bf).1 8066) 67 = .ok (.aload_n 0, 1) := zd zm_8066 (by decide +kernel)
theorem d_8066_68 {σ : Nat → Nat} {n0 : Nat} {bf : ab_B} : decode (ab_code (zx σ n0 bf).1 8066) 68 = .ok (.getfield 200, 3) := zd zm_8066 (by decide +kernel)
theorem d_8066_71 {σ : Nat → Nat} {n0 : Nat} {bf : ab_B} : decode (ab_code (zx σ n0 bf).1 8066) 71 = .ok (.aload_n 0, 1) := zd zm_8066 (by decide +kernel)
theorem d_8066_72 {σ : Nat → Nat} {n0 : Nat} {bf : ab_B} : decode (ab_code (zx σ n0 bf).1 8066) 72 = .ok (.getfield 653, 3) := zd zm_8066 (by decide +kernel)
theorem d_8066_75 {σ : Nat → Nat} {n0 : Nat} {bf : ab_B} : decode (ab_code (zx σ n0 bf).1 8066) 75 = .ok (.iconst 1, 1) := zd zm_8066 (by decide +kernel)
theorem d_8066_76 {σ : Nat → Nat} {n0 : Nat} {bf : ab_B} : decode (ab_code (zx σ n0 bf).1 8066) 76 = .ok (.isub, 1) := zd zm_8066 (by decide +kernel)
theorem d_8066_77 {σ : Nat → Nat} {n0 : Nat} {bf : ab_B} : decode (ab_code (zx σ n0 bf).1 8066) 77 = .ok (.iaload, 1) := zd zm_8066 (by decide +kernel)
theorem d_8066_78 {σ : Nat → Nat} {n0 : Nat} {bf : ab_B} : decode (ab_code (zx σ n0 bf).1 8066) 78 = .ok (.bipush 16, 2) := zd zm_8066 (by decide +kernel)
theorem d_8066_80 {σ : Nat → Nat} {n0 : Nat} {bf : ab_B} : decode (ab_code (zx σ n0 bf).1 8066) 80 = .ok (.iand, 1) := zd zm_8066 (by decide +kernel)
theorem d_8066_81 {σ : Nat → Nat} {n0 : Nat} {bf : ab_B} : decode (ab_code (zx σ n0 bf).1 8066) 81 = .ok (.bipush 8, 2) := zd zm_8066 (by decide +kernel)
theorem d_8066_83 {σ : Nat → Nat} {n0 : Nat} {bf : ab_B} : decode (ab_code (zx σ n0 bf).1 8066) 83 = .ok (.ior, 1) := zd zm_8066 (by decide +kernel)
theorem d_8066_84 {σ : Nat → Nat} {n0 : Nat} {bf : ab_B} : decode (ab_code (zx σ n0 bf).1 8066) 84 = .ok (.iastore, 1) := zd zm_8066 (by decide +kernel)
theorem d_8066_85 {σ : Nat → Nat} {n0 : Nat} {bf : ab_B} : decode (ab_code (zx σ n0 bf).1 8066) 85 = .ok (.aload_n 0, 1) := zd zm_8066 (by decide +kernel)
theorem d_8066_86 {σ : Nat → Nat} {n0 : Nat} {bf : ab_B} : decode (ab_code (zx σ n0 bf).1 8066) 86 = .ok (.getfield 206, 3) := zd zm_8066 (by decide +kernel)
theorem d_8066_89 {σ : Nat → Nat} {n0 : Nat} {bf : ab_B} : decode (ab_code (zx σ n0 bf).1 8066) 89 = .ok (.aload_n 0, 1) := zd zm_8066 (by decide +kernel)
theorem d_8066_90 {σ : Nat → Nat} {n0 : Nat} {bf : ab_B} : decode (ab_code (zx σ n0 bf).1 8066) 90 = .ok (.getfield 653, 3) := zd zm_8066 (by decide +kernel)
theorem d_8066_93 {σ : Nat → Nat} {n0 : Nat} {bf : ab_B} : decode (ab_code (zx σ n0 bf).1 8066) 93 = .ok (.iconst 1, 1) := zd zm_8066 (by decide +kernel)
theorem d_8066_94 {σ : Nat → Nat} {n0 : Nat} {bf : ab_B} : decode (ab_code (zx σ n0 bf).1 8066) 94 = .ok (.isub, 1) := zd zm_8066 (by decide +kernel)
theorem d_8066_95 {σ : Nat → Nat} {n0 : Nat} {bf : ab_B} : decode (ab_code (zx σ n0 bf).1 8066) 95 = .ok (.iload_n 1, 1) := zd zm_8066 (by decide +kernel)
theorem d_8066_96 {σ : Nat → Nat} {n0 : Nat} {bf : ab_B} : decode (ab_code (zx σ n0 bf).1 8066) 96 = .ok (.iastore, 1) := zd zm_8066 (by decide +kernel)
theorem d_8066_97 {σ : Nat → Nat} {n0 : Nat} {bf : ab_B} : decode (ab_code (zx σ n0 bf).1 8066) 97 = .ok (.return_, 1) := zd zm_8066 (by decide +kernel)
def w_X9_negated_85 (X : zs_X) (d : Nat) (p0 : Nat) (p1 : Int32) (S : zs_T) (Q : zs_Q) : Prop :=
  (zs_K S p0 = some (.inl 8) ∧ ∃ b2, (zs_R S 8096 p0) = some b2 ∧ zs_A S b2 0 ((zs_I S 8097 p0) - (1 : Int32)) ∧ ab_n0 X.1 ≤ b2 ∧ ∀ S6, S6 = zs_si S b2 ((zs_I S 8097 p0) - (1 : Int32)).toNatClampNeg p1 → Q (.returned none) S6)
theorem u_X9_negated_85 {σ : Nat → Nat} {n0 : Nat} {bf : ab_B} {d : Nat} {p0 : Nat} {p1 : Int32} {S : zs_T} {Q : zs_Q} (hB : zt_B bf) (h : w_X9_negated_85 (zx σ n0 bf) d p0 p1 S Q) : zs_U (zx σ n0 bf) d 8066 85 [(0, .ref p0), (1, .int p1)] [] S Q := by
  unfold w_X9_negated_85 at h
  refine zu_aload_n d_8066_85 rfl (zs_ra _) ?_
  obtain ⟨k1, h⟩ := h
  refine zg_8_206 rfl d_8066_86 k1 ?_
  refine zu_aload_n d_8066_89 rfl (zs_ra _) ?_
  refine zg_8_653 rfl d_8066_90 k1 ?_
  refine zu_iconst d_8066_93 zi_1 ?_
  refine zu_stk d_8066_94 rfl rfl ?_
  refine zu_iload_n d_8066_95 rfl ?_
  obtain ⟨b2, e3, h⟩ := h
  refine zs_stk2 (zs_rfe e3) ?_
  obtain ⟨k4, h⟩ := h
  obtain ⟨k5, h⟩ := h
  refine zu_iast (k := 0) d_8066_96 rfl rfl k5 k4 ?_
  generalize e7 : zs_si S b2 ((zs_I S 8097 p0) - (1 : Int32)).toNatClampNeg p1 = S6
  have h := h S6 e7.symm
  have K8 : ∀ b, zs_K S6 b = zs_K S b := zs_Kt e7 (zs_Ksi _ _ _ _) (fun _ => rfl)
  exact zu_vret d_8066_97 zr_8066 h
def w_X9_negated_35 (X : zs_X) (d : Nat) (p0 : Nat) (p1 : Int32) (S : zs_T) (Q : zs_Q) : Prop :=
  (zs_K S p0 = some (.inl 8) ∧ zs_C X d 8012 [.ref p0, .int (30 : Int32), .int (0 : Int32), .int (0 : Int32), .int p1] S (zs_kI (fun v3 S2 => (zs_K S2 p0 = some (.inl 8) ∧ ∃ b5, (zs_R S2 8091 p0) = some b5 ∧ zs_A S2 b5 0 ((zs_I S2 8097 p0) - (1 : Int32)) ∧ ab_n0 X.1 ≤ b5 ∧ ∀ S9, S9 = zs_si S2 b5 ((zs_I S2 8097 p0) - (1 : Int32)).toNatClampNeg (2 : Int32) → ∃ b12, (zs_R S9 8094 p0) = some b12 ∧ zs_A S2 b12 0 ((zs_I S9 8097 p0) - (1 : Int32)) ∧ ab_n0 X.1 ≤ b12 ∧ ∀ S16, S16 = zs_si S9 b12 ((zs_I S9 8097 p0) - (1 : Int32)).toNatClampNeg (((zs_i S9 b12 ((zs_I S9 8097 p0) - (1 : Int32)).toNatClampNeg) &&& (16 : Int32)) ||| (8 : Int32)) → w_X9_negated_85 X d p0 p1 S16 Q)) Q))
theorem u_X9_negated_35 {σ : Nat → Nat} {n0 : Nat} {bf : ab_B} {d : Nat} {p0 : Nat} {p1 : Int32} {S : zs_T} {Q : zs_Q} (hB : zt_B bf) (h : w_X9_negated_35 (zx σ n0 bf) d p0 p1 S Q) : zs_U (zx σ n0 bf) d 8066 35 [(0, .ref p0), (1, .int p1)] [] S Q := by
  unfold w_X9_negated_35 at h
  refine zu_aload_n d_8066_35 rfl (zs_ra _) ?_
  refine zu_bipush d_8066_36 zj_30 ?_
  refine zu_iconst d_8066_38 zi_0 ?_
  refine zu_iconst d_8066_39 zi_0 ?_
  refine zu_iload_n d_8066_40 rfl ?_
  obtain ⟨k1, h⟩ := h
  refine zc_8_656 (x0 := (30 : Int32)) (x1 := (0 : Int32)) (x2 := (0 : Int32)) (x3 := p1) hB rfl k1 d_8066_41 (Nat.le_of_ble_eq_true rfl) h (fun v3 S2 h => ?_)
  refine zu_istore_n d_8066_44 (zs_lt zq_8066 rfl) ?_
  refine zu_aload_n d_8066_45 rfl (zs_ra _) ?_
  obtain ⟨k4, h⟩ := h
  refine zg_8_191 rfl d_8066_46 k4 ?_
  refine zu_aload_n d_8066_49 rfl (zs_ra _) ?_
  refine zg_8_653 rfl d_8066_50 k4 ?_
  refine zu_iconst d_8066_53 zi_1 ?_
  refine zu_stk d_8066_54 rfl rfl ?_
  refine zu_iconst d_8066_55 zi_2 ?_
  obtain ⟨b5, e6, h⟩ := h
  refine zs_stk2 (zs_rfe e6) ?_
  obtain ⟨k7, h⟩ := h
  obtain ⟨k8, h⟩ := h
  refine zu_iast (k := 0) d_8066_56 rfl rfl k8 k7 ?_
  generalize e10 : zs_si S2 b5 ((zs_I S2 8097 p0) - (1 : Int32)).toNatClampNeg (2 : Int32) = S9
  have h := h S9 e10.symm
  have K11 : ∀ b, zs_K S9 b = zs_K S2 b := zs_Kt e10 (zs_Ksi _ _ _ _) (fun _ => rfl)
  refine zu_aload_n d_8066_57 rfl (zs_ra _) ?_
  refine zg_8_200 rfl d_8066_58 ((K11 _).trans k4) ?_
  refine zu_aload_n d_8066_61 rfl (zs_ra _) ?_
  refine zg_8_653 rfl d_8066_62 ((K11 _).trans k4) ?_
  refine zu_iconst d_8066_65 zi_1 ?_
  refine zu_stk d_8066_66 rfl rfl ?_
  refine zu_aload_n d_8066_67 rfl (zs_ra _) ?_
  refine zg_8_200 rfl d_8066_68 ((K11 _).trans k4) ?_
  refine zu_aload_n d_8066_71 rfl (zs_ra _) ?_
  refine zg_8_653 rfl d_8066_72 ((K11 _).trans k4) ?_
  refine zu_iconst d_8066_75 zi_1 ?_
  refine zu_stk d_8066_76 rfl rfl ?_
  obtain ⟨b12, e13, h⟩ := h
  refine zs_stk1 (zs_rfe e13) ?_
  obtain ⟨k14, h⟩ := h
  refine zu_iald (k := 0) d_8066_77 rfl rfl (zs_Ak K11 k14) ?_
  refine zu_bipush d_8066_78 zj_16 ?_
  refine zu_stk d_8066_80 rfl rfl ?_
  refine zu_bipush d_8066_81 zj_8 ?_
  refine zu_stk d_8066_83 rfl rfl ?_
  refine zs_stk2 (zs_rfe e13) ?_
  obtain ⟨k15, h⟩ := h
  refine zu_iast (k := 0) d_8066_84 rfl rfl k15 (zs_Ak K11 k14) ?_
  generalize e17 : zs_si S9 b12 ((zs_I S9 8097 p0) - (1 : Int32)).toNatClampNeg (((zs_i S9 b12 ((zs_I S9 8097 p0) - (1 : Int32)).toNatClampNeg) &&& (16 : Int32)) ||| (8 : Int32)) = S16
  have h := h S16 e17.symm
  have K18 : ∀ b, zs_K S16 b = zs_K S2 b := zs_Kt e17 (zs_Ksi _ _ _ _) K11
  exact (u_X9_negated_85 hB h).weak ⟨rfl, rfl, trivial⟩
def w_X9_negated (X : zs_X) (d : Nat) (p0 : Nat) (p1 : Int32) (S : zs_T) (Q : zs_Q) : Prop :=
  (zs_K S p0 = some (.inl 8) ∧ zs_C X d 8037 [.ref p0] S (zs_kV (fun S2 => (zs_K S2 p0 = some (.inl 8) ∧ (((zs_I S2 8010 p0) ≤ 0 → (∃ b6, (zs_R S2 8091 p0) = some b6 ∧ zs_A S2 b6 0 ((zs_I S2 8097 p0) - (1 : Int32)) ∧ zs_C X d 8054 [.ref p0, .int (zs_i S2 b6 ((zs_I S2 8097 p0) - (1 : Int32)).toNatClampNeg)] S2 (zs_kI (fun v10 S9 => (((¬ v10 = 0 → w_X9_negated_35 X d p0 p1 S9 Q) ∧ (¬ (¬ v10 = 0) → (zs_K S9 p0 = some (.inl 8) ∧ zs_C X d 8027 [.ref p0, .int (5 : Int32)] S9 (zs_kV (fun S13 => w_X9_negated_35 X d p0 p1 S13 Q) Q)))))) Q))) ∧ (¬ ((zs_I S2 8010 p0) ≤ 0) → (Q (.returned none) S2))))) Q))
theorem u_X9_negated {σ : Nat → Nat} {n0 : Nat} {bf : ab_B} {d : Nat} {p0 : Nat} {p1 : Int32} {S : zs_T} {Q : zs_Q} (hB : zt_B bf) (hd : 1 ≤ d) (h : w_X9_negated (zx σ n0 bf) (d - 1) p0 p1 S Q) : zs_C (zx σ n0 bf) d 8066 [.ref p0, .int p1] S Q := by
  have hL : lv_args 0 [.ref p0, .int p1] = [(0, .ref p0), (1, .int p1)] := rfl
  refine zs_C.of1 (hB.2 8066 (by decide) (by decide)) hd (by rw [hL]; exact zs_sub_self _ (by exact ⟨rfl, rfl, trivial⟩)) ?_
  rw [hL]
  clear hL
  unfold w_X9_negated at h
  refine zu_aload_n d_8066_0 rfl (zs_ra _) ?_
  obtain ⟨k1, h⟩ := h
  refine zc_8_660  hB rfl k1 d_8066_1 (Nat.le_of_ble_eq_true rfl) h (fun S2 h => ?_)
  refine zu_aload_n d_8066_4 rfl (zs_ra _) ?_
  obtain ⟨k4, h⟩ := h
  refine zg_8_444 rfl d_8066_5 k4 ?_
  refine zu_ifle (t := 12) d_8066_8 rfl (fun c5 => ?_) (fun c5 => ?_)
  · have h := h.1 c5
    refine zu_aload_n d_8066_12 rfl (zs_ra _) ?_
    refine zu_aload_n d_8066_13 rfl (zs_ra _) ?_
    refine zg_8_191 rfl d_8066_14 k4 ?_
    refine zu_aload_n d_8066_17 rfl (zs_ra _) ?_
    refine zg_8_653 rfl d_8066_18 k4 ?_
    refine zu_iconst d_8066_21 zi_1 ?_
    refine zu_stk d_8066_22 rfl rfl ?_
    obtain ⟨b6, e7, h⟩ := h
    refine zs_stk1 (zs_rfe e7) ?_
    obtain ⟨k8, h⟩ := h
    refine zu_iald (k := 0) d_8066_23 rfl rfl k8 ?_
    refine zc_8_696 (x0 := (zs_i S2 b6 ((zs_I S2 8097 p0) - (1 : Int32)).toNatClampNeg)) hB rfl k4 d_8066_24 (Nat.le_of_ble_eq_true rfl) h (fun v10 S9 h => ?_)
    refine zu_ifne (t := 35) d_8066_27 rfl (fun c11 => ?_) (fun c11 => ?_)
    · have h := h.1 c11
      exact (u_X9_negated_35 hB h).weak ⟨rfl, rfl, trivial⟩
    · have h := h.2 c11
      refine zu_aload_n d_8066_30 rfl (zs_ra _) ?_
      refine zu_iconst d_8066_31 zi_5 ?_
      obtain ⟨k12, h⟩ := h
      refine zc_8_541 (x0 := (5 : Int32)) hB rfl k12 d_8066_32 (Nat.le_of_ble_eq_true rfl) h (fun S13 h => ?_)
      exact (u_X9_negated_35 hB h).weak ⟨rfl, rfl, trivial⟩
  · have h := h.2 c5
    exact zu_vret d_8066_11 zr_8066 h
/-! SchemaPascalModel.members()V -/
theorem zm_8067 {σ : Nat → Nat} {n0 : Nat} {bf : ab_B} : ab_code (zx σ n0 bf).1 8067 = prog_17_method_85_code := rfl
theorem zq_8067 {σ : Nat → Nat} {n0 : Nat} {bf : ab_B} : ab_maxL (zx σ n0 bf).1 8067 = 1 := rfl
theorem zr_8067 {σ : Nat → Nat} {n0 : Nat} {bf : ab_B} : ab_ret (zx σ n0 bf).1 8067 = (Option.none : Option Jvm.ClassFile.FieldType) := rfl
theorem d_8067_0 {σ : Nat → Nat} {n0 : Nat} {bf : ab_B} : decode (ab_code (zx σ n0 bf).1 8067) 0 = .ok (.aload_n 0, 1) := zd zm_8067 (by decide +kernel)
theorem d_8067_1 {σ : Nat → Nat} {n0 : Nat} {bf : ab_B} : decode (ab_code (zx σ n0 bf).1 8067) 1 = .ok (.bipush 11, 2) := zd zm_8067 (by decide +kernel)
theorem d_8067_3 {σ : Nat → Nat} {n0 : Nat} {bf : ab_B} : decode (ab_code (zx σ n0 bf).1 8067) 3 = .ok (.invokevirtual 535, 3) := zd zm_8067 (by decide +kernel)
theorem d_8067_6 {σ : Nat → Nat} {n0 : Nat} {bf : ab_B} : decode (ab_code (zx σ n0 bf).1 8067) 6 = .ok (.ifCond .eq 10, 3) := zd zm_8067 (by decide +kernel)
theorem d_8067_9 {σ : Nat → Nat} {n0 : Nat} {bf : ab_B} : decode (ab_code (zx σ n0 bf).1 8067) 9 = .ok (.aload_n 0, 1) := zd zm_8067 (by decide +kernel)
theorem d_8067_10 {σ : Nat → Nat} {n0 : Nat} {bf : ab_B} : decode (ab_code (zx σ n0 bf).1 8067) 10 = .ok (.invokevirtual 538, 3) := zd zm_8067 (by decide +kernel)
theorem d_8067_13 {σ : Nat → Nat} {n0 : Nat} {bf : ab_B} : decode (ab_code (zx σ n0 bf).1 8067) 13 = .ok (.goto 23, 3) := zd zm_8067 (by decide +kernel)
theorem d_8067_16 {σ : Nat → Nat} {n0 : Nat} {bf : ab_B} : decode (ab_code (zx σ n0 bf).1 8067) 16 = .ok (.aload_n 0, 1) := zd zm_8067 (by decide +kernel)
theorem d_8067_17 {σ : Nat → Nat} {n0 : Nat} {bf : ab_B} : decode (ab_code (zx σ n0 bf).1 8067) 17 = .ok (.bipush 16, 2) := zd zm_8067 (by decide +kernel)
theorem d_8067_19 {σ : Nat → Nat} {n0 : Nat} {bf : ab_B} : decode (ab_code (zx σ n0 bf).1 8067) 19 = .ok (.aload_n 0, 1) := zd zm_8067 (by decide +kernel)
theorem d_8067_20 {σ : Nat → Nat} {n0 : Nat} {bf : ab_B} : decode (ab_code (zx σ n0 bf).1 8067) 20 = .ok (.getfield 450, 3) := zd zm_8067 (by decide +kernel)
theorem d_8067_23 {σ : Nat → Nat} {n0 : Nat} {bf : ab_B} : decode (ab_code (zx σ n0 bf).1 8067) 23 = .ok (.iconst 0, 1) := zd zm_8067 (by decide +kernel)
theorem d_8067_24 {σ : Nat → Nat} {n0 : Nat} {bf : ab_B} : decode (ab_code (zx σ n0 bf).1 8067) 24 = .ok (.iconst 0, 1) := zd zm_8067 (by decide +kernel)
theorem d_8067_25 {σ : Nat → Nat} {n0 : Nat} {bf : ab_B} : decode (ab_code (zx σ n0 bf).1 8067) 25 = .ok (.invokevirtual 649, 3) := zd zm_8067 (by decide +kernel)
theorem d_8067_28 {σ : Nat → Nat} {n0 : Nat} {bf : ab_B} : decode (ab_code (zx σ n0 bf).1 8067) 28 = .ok (.aload_n 0, 1) := zd zm_8067 (by decide +kernel)
theorem d_8067_29 {σ : Nat → Nat} {n0 : Nat} {bf : ab_B} : decode (ab_code (zx σ n0 bf).1 8067) 29 = .ok (.iconst 2, 1) := zd zm_8067 (by decide +kernel)
theorem d_8067_30 {σ : Nat → Nat} {n0 : Nat} {bf : ab_B} : decode (ab_code (zx σ n0 bf).1 8067) 30 = .ok (.iconst 0, 1) := zd zm_8067 (by decide +kernel)
theorem d_8067_31 {σ : Nat → Nat} {n0 : Nat} {bf : ab_B} : decode (ab_code (zx σ n0 bf).1 8067) 31 = .ok (.iconst 0, 1) := zd zm_8067 (by decide +kernel)
theorem d_8067_32 {σ : Nat → Nat} {n0 : Nat} {bf : ab_B} : decode (ab_code (zx σ n0 bf).1 8067) 32 = .ok (.iconst 0, 1) := zd zm_8067 (by decide +kernel)
theorem d_8067_33 {σ : Nat → Nat} {n0 : Nat} {bf : ab_B} : decode (ab_code (zx σ n0 bf).1 8067) 33 = .ok (.invokevirtual 649, 3) := zd zm_8067 (by decide +kernel)
theorem d_8067_36 {σ : Nat → Nat} {n0 : Nat} {bf : ab_B} : decode (ab_code (zx σ n0 bf).1 8067) 36 = .ok (.return_, 1) := zd zm_8067 (by decide +kernel)
def w_X9_members_36 (X : zs_X) (d : Nat)  (S : zs_T) (Q : zs_Q) : Prop :=
  (Q (.returned none) S)
theorem u_X9_members_36 {σ : Nat → Nat} {n0 : Nat} {bf : ab_B} {d : Nat}  {S : zs_T} {Q : zs_Q} (hB : zt_B bf) (h : w_X9_members_36 (zx σ n0 bf) d  S Q) : zs_U (zx σ n0 bf) d 8067 36 [] [] S Q := by
  unfold w_X9_members_36 at h
  exact zu_vret d_8067_36 zr_8067 h
def w_X9_members (X : zs_X) (d : Nat) (p0 : Nat) (S : zs_T) (Q : zs_Q) : Prop :=
  (zs_K S p0 = some (.inl 8) ∧ zs_C X d 8029 [.ref p0, .int (11 : Int32)] S (zs_kI (fun v3 S2 => (((v3 = 0 → (zs_K S2 p0 = some (.inl 8) ∧ zs_C X d 8030 [.ref p0, .int (16 : Int32), .int (zs_I S2 8007 p0), .int (0 : Int32), .int (0 : Int32)] S2 (zs_kV (fun S6 => (zs_K S6 p0 = some (.inl 8) ∧ zs_C X d 8030 [.ref p0, .int (2 : Int32), .int (0 : Int32), .int (0 : Int32), .int (0 : Int32)] S6 (zs_kV (fun S9 => w_X9_members_36 X d  S9 Q) Q))) Q))) ∧ (¬ (v3 = 0) → (zs_K S2 p0 = some (.inl 8) ∧ zs_C X d 8014 [.ref p0] S2 (zs_kV (fun S12 => (w_X9_members_36 X d  S12 Q)) Q)))))) Q))
theorem u_X9_members {σ : Nat → Nat} {n0 : Nat} {bf : ab_B} {d : Nat} {p0 : Nat} {S : zs_T} {Q : zs_Q} (hB : zt_B bf) (hd : 1 ≤ d) (h : w_X9_members (zx σ n0 bf) (d - 1) p0 S Q) : zs_C (zx σ n0 bf) d 8067 [.ref p0] S Q := by
  have hL : lv_args 0 [.ref p0] = [(0, .ref p0)] := rfl
  refine zs_C.of1 (hB.2 8067 (by decide) (by decide)) hd (by rw [hL]; exact zs_sub_self _ (by exact ⟨rfl, trivial⟩)) ?_
  rw [hL]
  clear hL
  unfold w_X9_members at h
  refine zu_aload_n d_8067_0 rfl (zs_ra _) ?_
  refine zu_bipush d_8067_1 zj_11 ?_
  obtain ⟨k1, h⟩ := h
  refine zc_8_535 (x0 := (11 : Int32)) hB rfl k1 d_8067_3 (Nat.le_of_ble_eq_true rfl) h (fun v3 S2 h => ?_)
  refine zu_ifeq (t := 16) d_8067_6 rfl (fun c4 => ?_) (fun c4 => ?_)
  · have h := h.1 c4
    refine zu_aload_n d_8067_16 rfl (zs_ra _) ?_
    refine zu_bipush d_8067_17 zj_16 ?_
    refine zu_aload_n d_8067_19 rfl (zs_ra _) ?_
    obtain ⟨k5, h⟩ := h
    refine zg_8_450 rfl d_8067_20 k5 ?_
    refine zu_iconst d_8067_23 zi_0 ?_
    refine zu_iconst d_8067_24 zi_0 ?_
    refine zc_8_649 (x0 := (16 : Int32)) (x1 := (zs_I S2 8007 p0)) (x2 := (0 : Int32)) (x3 := (0 : Int32)) hB rfl k5 d_8067_25 (Nat.le_of_ble_eq_true rfl) h (fun S6 h => ?_)
    refine zu_aload_n d_8067_28 rfl (zs_ra _) ?_
    refine zu_iconst d_8067_29 zi_2 ?_
    refine zu_iconst d_8067_30 zi_0 ?_
    refine zu_iconst d_8067_31 zi_0 ?_
    refine zu_iconst d_8067_32 zi_0 ?_
    obtain ⟨k8, h⟩ := h
    refine zc_8_649 (x0 := (2 : Int32)) (x1 := (0 : Int32)) (x2 := (0 : Int32)) (x3 := (0 : Int32)) hB rfl k8 d_8067_33 (Nat.le_of_ble_eq_true rfl) h (fun S9 h => ?_)
    exact (u_X9_members_36 hB h).weak trivial
  · have h := h.2 c4
    refine zu_aload_n d_8067_9 rfl (zs_ra _) ?_
    obtain ⟨k11, h⟩ := h
    refine zc_8_538  hB rfl k11 d_8067_10 (Nat.le_of_ble_eq_true rfl) h (fun S12 h => ?_)
    refine zu_goto (t := 36) d_8067_13 rfl ?_
    exact (u_X9_members_36 hB h).weak trivial
/-! SchemaPascalModel.member(I)V -/
theorem zm_8068 {σ : Nat → Nat} {n0 : Nat} {bf : ab_B} : ab_code (zx σ n0 bf).1 8068 = prog_17_method_87_code := rfl
theorem zq_8068 {σ : Nat → Nat} {n0 : Nat} {bf : ab_B} : ab_maxL (zx σ n0 bf).1 8068 = 2 := rfl
theorem zr_8068 {σ : Nat → Nat} {n0 : Nat} {bf : ab_B} : ab_ret (zx σ n0 bf).1 8068 = (Option.none : Option Jvm.ClassFile.FieldType) := rfl
theorem d_8068_0 {σ : Nat → Nat} {n0 : Nat} {bf : ab_B} : decode (ab_code (zx σ n0 bf).1 8068) 0 = .ok (.aload_n 0, 1) := zd zm_8068 (by decide +kernel)
theorem d_8068_1 {σ : Nat → Nat} {n0 : Nat} {bf : ab_B} : decode (ab_code (zx σ n0 bf).1 8068) 1 = .ok (.invokevirtual 764, 3) := zd zm_8068 (by decide +kernel)
theorem d_8068_4 {σ : Nat → Nat} {n0 : Nat} {bf : ab_B} : decode (ab_code (zx σ n0 bf).1 8068) 4 = .ok (.aload_n 0, 1) := zd zm_8068 (by decide +kernel)
theorem d_8068_5 {σ : Nat → Nat} {n0 : Nat} {bf : ab_B} : decode (ab_code (zx σ n0 bf).1 8068) 5 = .ok (.bipush 21, 2) := zd zm_8068 (by decide +kernel)
theorem d_8068_7 {σ : Nat → Nat} {n0 : Nat} {bf : ab_B} : decode (ab_code (zx σ n0 bf).1 8068) 7 = .ok (.invokevirtual 535, 3) := zd zm_8068 (by decide +kernel)
theorem d_8068_10 {σ : Nat → Nat} {n0 : Nat} {bf : ab_B} : decode (ab_code (zx σ n0 bf).1 8068) 10 = .ok (.ifCond .eq 27, 3) := zd zm_8068 (by decide +kernel)
theorem d_8068_13 {σ : Nat → Nat} {n0 : Nat} {bf : ab_B} : decode (ab_code (zx σ n0 bf).1 8068) 13 = .ok (.aload_n 0, 1) := zd zm_8068 (by decide +kernel)
theorem d_8068_14 {σ : Nat → Nat} {n0 : Nat} {bf : ab_B} : decode (ab_code (zx σ n0 bf).1 8068) 14 = .ok (.bipush 17, 2) := zd zm_8068 (by decide +kernel)
theorem d_8068_16 {σ : Nat → Nat} {n0 : Nat} {bf : ab_B} : decode (ab_code (zx σ n0 bf).1 8068) 16 = .ok (.iload_n 1, 1) := zd zm_8068 (by decide +kernel)
theorem d_8068_17 {σ : Nat → Nat} {n0 : Nat} {bf : ab_B} : decode (ab_code (zx σ n0 bf).1 8068) 17 = .ok (.iconst 1, 1) := zd zm_8068 (by decide +kernel)
theorem d_8068_18 {σ : Nat → Nat} {n0 : Nat} {bf : ab_B} : decode (ab_code (zx σ n0 bf).1 8068) 18 = .ok (.iconst 0, 1) := zd zm_8068 (by decide +kernel)
theorem d_8068_19 {σ : Nat → Nat} {n0 : Nat} {bf : ab_B} : decode (ab_code (zx σ n0 bf).1 8068) 19 = .ok (.invokevirtual 649, 3) := zd zm_8068 (by decide +kernel)
theorem d_8068_22 {σ : Nat → Nat} {n0 : Nat} {bf : ab_B} : decode (ab_code (zx σ n0 bf).1 8068) 22 = .ok (.aload_n 0, 1) := zd zm_8068 (by decide +kernel)
theorem d_8068_23 {σ : Nat → Nat} {n0 : Nat} {bf : ab_B} : decode (ab_code (zx σ n0 bf).1 8068) 23 = .ok (.iconst 2, 1) := zd zm_8068 (by decide +kernel)
theorem d_8068_24 {σ : Nat → Nat} {n0 : Nat} {bf : ab_B} : decode (ab_code (zx σ n0 bf).1 8068) 24 = .ok (.iconst 0, 1) := zd zm_8068 (by decide +kernel)
theorem d_8068_25 {σ : Nat → Nat} {n0 : Nat} {bf : ab_B} : decode (ab_code (zx σ n0 bf).1 8068) 25 = .ok (.iconst 0, 1) := zd zm_8068 (by decide +kernel)
theorem d_8068_26 {σ : Nat → Nat} {n0 : Nat} {bf : ab_B} : decode (ab_code (zx σ n0 bf).1 8068) 26 = .ok (.iconst 0, 1) := zd zm_8068 (by decide +kernel)
theorem d_8068_27 {σ : Nat → Nat} {n0 : Nat} {bf : ab_B} : decode (ab_code (zx σ n0 bf).1 8068) 27 = .ok (.invokevirtual 649, 3) := zd zm_8068 (by decide +kernel)
theorem d_8068_30 {σ : Nat → Nat} {n0 : Nat} {bf : ab_B} : decode (ab_code (zx σ n0 bf).1 8068) 30 = .ok (.aload_n 0, 1) := zd zm_8068 (by decide +kernel)
theorem d_8068_31 {σ : Nat → Nat} {n0 : Nat} {bf : ab_B} : decode (ab_code (zx σ n0 bf).1 8068) 31 = .ok (.invokevirtual 538, 3) := zd zm_8068 (by decide +kernel)
theorem d_8068_34 {σ : Nat → Nat} {n0 : Nat} {bf : ab_B} : decode (ab_code (zx σ n0 bf).1 8068) 34 = .ok (.goto 9, 3) := zd zm_8068 (by decide +kernel)
theorem d_8068_37 {σ : Nat → Nat} {n0 : Nat} {bf : ab_B} : decode (ab_code (zx σ n0 bf).1 8068) 37 = .ok (.aload_n 0, 1) := zd zm_8068 (by decide +kernel)
theorem d_8068_38 {σ : Nat → Nat} {n0 : Nat} {bf : ab_B} : decode (ab_code (zx σ n0 bf).1 8068) 38 = .ok (.iload_n 1, 1) := zd zm_8068 (by decide +kernel)
theorem d_8068_39 {σ : Nat → Nat} {n0 : Nat} {bf : ab_B} : decode (ab_code (zx σ n0 bf).1 8068) 39 = .ok (.iconst 0, 1) := zd zm_8068 (by decide +kernel)
theorem d_8068_40 {σ : Nat → Nat} {n0 : Nat} {bf : ab_B} : decode (ab_code (zx σ n0 bf).1 8068) 40 = .ok (.invokevirtual 767, 3) := zd zm_8068 (by decide +kernel)
theorem d_8068_43 {σ : Nat → Nat} {n0 : Nat} {bf : ab_B} : decode (ab_code (zx σ n0 bf).1 8068) 43 = .ok (.return_, 1) := zd zm_8068 (by decide +kernel)
def w_X9_member_30 (X : zs_X) (d : Nat) (p0 : Nat) (S : zs_T) (Q : zs_Q) : Prop :=
  (zs_K S p0 = some (.inl 8) ∧ zs_C X d 8014 [.ref p0] S (zs_kV (fun S2 => (Q (.returned none) S2)) Q))
theorem u_X9_member_30 {σ : Nat → Nat} {n0 : Nat} {bf : ab_B} {d : Nat} {p0 : Nat} {S : zs_T} {Q : zs_Q} (hB : zt_B bf) (h : w_X9_member_30 (zx σ n0 bf) d p0 S Q) : zs_U (zx σ n0 bf) d 8068 30 [(0, .ref p0)] [] S Q := by
  unfold w_X9_member_30 at h
  refine zu_aload_n d_8068_30 rfl (zs_ra _) ?_
  obtain ⟨k1, h⟩ := h
  refine zc_8_538  hB rfl k1 d_8068_31 (Nat.le_of_ble_eq_true rfl) h (fun S2 h => ?_)
  refine zu_goto (t := 43) d_8068_34 rfl ?_
  exact zu_vret d_8068_43 zr_8068 h
def w_X9_member (X : zs_X) (d : Nat) (p0 : Nat) (p1 : Int32) (S : zs_T) (Q : zs_Q) : Prop :=
  (zs_K S p0 = some (.inl 8) ∧ zs_C X d 8069 [.ref p0] S (zs_kV (fun S2 => (zs_K S2 p0 = some (.inl 8) ∧ zs_C X d 8029 [.ref p0, .int (21 : Int32)] S2 (zs_kI (fun v6 S5 => (((v6 = 0 → (zs_K S5 p0 = some (.inl 8) ∧ zs_C X d 8071 [.ref p0, .int p1, .int (0 : Int32)] S5 (zs_kV (fun S9 => (Q (.returned none) S9)) Q))) ∧ (¬ (v6 = 0) → (zs_K S5 p0 = some (.inl 8) ∧ zs_C X d 8030 [.ref p0, .int (17 : Int32), .int p1, .int (1 : Int32), .int (0 : Int32)] S5 (zs_kV (fun S12 => (zs_K S12 p0 = some (.inl 8) ∧ zs_C X d 8030 [.ref p0, .int (2 : Int32), .int (0 : Int32), .int (0 : Int32), .int (0 : Int32)] S12 (zs_kV (fun S15 => w_X9_member_30 X d p0 S15 Q) Q))) Q)))))) Q))) Q))
theorem u_X9_member {σ : Nat → Nat} {n0 : Nat} {bf : ab_B} {d : Nat} {p0 : Nat} {p1 : Int32} {S : zs_T} {Q : zs_Q} (hB : zt_B bf) (hd : 1 ≤ d) (h : w_X9_member (zx σ n0 bf) (d - 1) p0 p1 S Q) : zs_C (zx σ n0 bf) d 8068 [.ref p0, .int p1] S Q := by
  have hL : lv_args 0 [.ref p0, .int p1] = [(0, .ref p0), (1, .int p1)] := rfl
  refine zs_C.of1 (hB.2 8068 (by decide) (by decide)) hd (by rw [hL]; exact zs_sub_self _ (by exact ⟨rfl, rfl, trivial⟩)) ?_
  rw [hL]
  clear hL
  unfold w_X9_member at h
  refine zu_aload_n d_8068_0 rfl (zs_ra _) ?_
  obtain ⟨k1, h⟩ := h
  refine zc_8_764  hB rfl k1 d_8068_1 (Nat.le_of_ble_eq_true rfl) h (fun S2 h => ?_)
  refine zu_aload_n d_8068_4 rfl (zs_ra _) ?_
  refine zu_bipush d_8068_5 zj_21 ?_
  obtain ⟨k4, h⟩ := h
  refine zc_8_535 (x0 := (21 : Int32)) hB rfl k4 d_8068_7 (Nat.le_of_ble_eq_true rfl) h (fun v6 S5 h => ?_)
  refine zu_ifeq (t := 37) d_8068_10 rfl (fun c7 => ?_) (fun c7 => ?_)
  · have h := h.1 c7
    refine zu_aload_n d_8068_37 rfl (zs_ra _) ?_
    refine zu_iload_n d_8068_38 rfl ?_
    refine zu_iconst d_8068_39 zi_0 ?_
    obtain ⟨k8, h⟩ := h
    refine zc_8_767 (x0 := p1) (x1 := (0 : Int32)) hB rfl k8 d_8068_40 (Nat.le_of_ble_eq_true rfl) h (fun S9 h => ?_)
    exact zu_vret d_8068_43 zr_8068 h
  · have h := h.2 c7
    refine zu_aload_n d_8068_13 rfl (zs_ra _) ?_
    refine zu_bipush d_8068_14 zj_17 ?_
    refine zu_iload_n d_8068_16 rfl ?_
    refine zu_iconst d_8068_17 zi_1 ?_
    refine zu_iconst d_8068_18 zi_0 ?_
    obtain ⟨k11, h⟩ := h
    refine zc_8_649 (x0 := (17 : Int32)) (x1 := p1) (x2 := (1 : Int32)) (x3 := (0 : Int32)) hB rfl k11 d_8068_19 (Nat.le_of_ble_eq_true rfl) h (fun S12 h => ?_)
    refine zu_aload_n d_8068_22 rfl (zs_ra _) ?_
    refine zu_iconst d_8068_23 zi_2 ?_
    refine zu_iconst d_8068_24 zi_0 ?_
    refine zu_iconst d_8068_25 zi_0 ?_
    refine zu_iconst d_8068_26 zi_0 ?_
    obtain ⟨k14, h⟩ := h
    refine zc_8_649 (x0 := (2 : Int32)) (x1 := (0 : Int32)) (x2 := (0 : Int32)) (x3 := (0 : Int32)) hB rfl k14 d_8068_27 (Nat.le_of_ble_eq_true rfl) h (fun S15 h => ?_)
    exact (u_X9_member_30 hB h).weak ⟨rfl, trivial⟩
/-! SchemaPascalModel.memberHere()V -/
theorem zm_8069 {σ : Nat → Nat} {n0 : Nat} {bf : ab_B} : ab_code (zx σ n0 bf).1 8069 = prog_17_method_86_code := rfl
theorem zq_8069 {σ : Nat → Nat} {n0 : Nat} {bf : ab_B} : ab_maxL (zx σ n0 bf).1 8069 = 3 := rfl
theorem zr_8069 {σ : Nat → Nat} {n0 : Nat} {bf : ab_B} : ab_ret (zx σ n0 bf).1 8069 = (Option.none : Option Jvm.ClassFile.FieldType) := rfl
theorem d_8069_0 {σ : Nat → Nat} {n0 : Nat} {bf : ab_B} : decode (ab_code (zx σ n0 bf).1 8069) 0 = .ok (.aload_n 0, 1) := zd zm_8069 (by decide +kernel)
theorem d_8069_1 {σ : Nat → Nat} {n0 : Nat} {bf : ab_B} : decode (ab_code (zx σ n0 bf).1 8069) 1 = .ok (.invokevirtual 660, 3) := zd zm_8069 (by decide +kernel)
theorem d_8069_4 {σ : Nat → Nat} {n0 : Nat} {bf : ab_B} : decode (ab_code (zx σ n0 bf).1 8069) 4 = .ok (.aload_n 0, 1) := zd zm_8069 (by decide +kernel)
theorem d_8069_5 {σ : Nat → Nat} {n0 : Nat} {bf : ab_B} : decode (ab_code (zx σ n0 bf).1 8069) 5 = .ok (.getfield 444, 3) := zd zm_8069 (by decide +kernel)
theorem d_8069_8 {σ : Nat → Nat} {n0 : Nat} {bf : ab_B} : decode (ab_code (zx σ n0 bf).1 8069) 8 = .ok (.ifCond .le 4, 3) := zd zm_8069 (by decide +kernel)
theorem d_8069_11 {σ : Nat → Nat} {n0 : Nat} {bf : ab_B} : decode (ab_code (zx σ n0 bf).1 8069) 11 = .ok (.return_, 1) := zd zm_8069 (by decide +kernel)
theorem d_8069_12 {σ : Nat → Nat} {n0 : Nat} {bf : ab_B} : decode (ab_code (zx σ n0 bf).1 8069) 12 = .ok (.aload_n 0, 1) := zd zm_8069 (by decide +kernel)
theorem d_8069_13 {σ : Nat → Nat} {n0 : Nat} {bf : ab_B} : decode (ab_code (zx σ n0 bf).1 8069) 13 = .ok (.getfield 191, 3) := zd zm_8069 (by decide +kernel)
theorem d_8069_16 {σ : Nat → Nat} {n0 : Nat} {bf : ab_B} : decode (ab_code (zx σ n0 bf).1 8069) 16 = .ok (.aload_n 0, 1) := zd zm_8069 (by decide +kernel)
theorem d_8069_17 {σ : Nat → Nat} {n0 : Nat} {bf : ab_B} : decode (ab_code (zx σ n0 bf).1 8069) 17 = .ok (.getfield 653, 3) := zd zm_8069 (by decide +kernel)
theorem d_8069_20 {σ : Nat → Nat} {n0 : Nat} {bf : ab_B} : decode (ab_code (zx σ n0 bf).1 8069) 20 = .ok (.iconst 1, 1) := zd zm_8069 (by decide +kernel)
theorem d_8069_21 {σ : Nat → Nat} {n0 : Nat} {bf : ab_B} : decode (ab_code (zx σ n0 bf).1 8069) 21 = .ok (.isub, 1) := zd zm_8069 (by decide +kernel)
theorem d_8069_22 {σ : Nat → Nat} {n0 : Nat} {bf : ab_B} : decode (ab_code (zx σ n0 bf).1 8069) 22 = .ok (.iaload, 1) := zd zm_8069 (by decide +kernel)
theorem d_8069_23 {σ : Nat → Nat} {n0 : Nat} {bf : ab_B} : decode (ab_code (zx σ n0 bf).1 8069) 23 = .ok (.istore_n 1, 1) := zd zm_8069 (by decide +kernel)
theorem d_8069_24 {σ : Nat → Nat} {n0 : Nat} {bf : ab_B} : decode (ab_code (zx σ n0 bf).1 8069) 24 = .ok (.aload_n 0, 1) := zd zm_8069 (by decide +kernel)
theorem d_8069_25 {σ : Nat → Nat} {n0 : Nat} {bf : ab_B} : decode (ab_code (zx σ n0 bf).1 8069) 25 = .ok (.getfield 191, 3) := zd zm_8069 (by decide +kernel)
theorem d_8069_28 {σ : Nat → Nat} {n0 : Nat} {bf : ab_B} : decode (ab_code (zx σ n0 bf).1 8069) 28 = .ok (.aload_n 0, 1) := zd zm_8069 (by decide +kernel)
theorem d_8069_29 {σ : Nat → Nat} {n0 : Nat} {bf : ab_B} : decode (ab_code (zx σ n0 bf).1 8069) 29 = .ok (.getfield 653, 3) := zd zm_8069 (by decide +kernel)
theorem d_8069_32 {σ : Nat → Nat} {n0 : Nat} {bf : ab_B} : decode (ab_code (zx σ n0 bf).1 8069) 32 = .ok (.iconst 2, 1) := zd zm_8069 (by decide +kernel)
theorem d_8069_33 {σ : Nat → Nat} {n0 : Nat} {bf : ab_B} : decode (ab_code (zx σ n0 bf).1 8069) 33 = .ok (.isub, 1) := zd zm_8069 (by decide +kernel)
theorem d_8069_34 {σ : Nat → Nat} {n0 : Nat} {bf : ab_B} : decode (ab_code (zx σ n0 bf).1 8069) 34 = .ok (.iaload, 1) := zd zm_8069 (by decide +kernel)
theorem d_8069_35 {σ : Nat → Nat} {n0 : Nat} {bf : ab_B} : decode (ab_code (zx σ n0 bf).1 8069) 35 = .ok (.istore_n 2, 1) := zd zm_8069 (by decide +kernel)
theorem d_8069_36 {σ : Nat → Nat} {n0 : Nat} {bf : ab_B} : decode (ab_code (zx σ n0 bf).1 8069) 36 = .ok (.aload_n 0, 1) := zd zm_8069 (by decide +kernel)
theorem d_8069_37 {σ : Nat → Nat} {n0 : Nat} {bf : ab_B} : decode (ab_code (zx σ n0 bf).1 8069) 37 = .ok (.iload_n 1, 1) := zd zm_8069 (by decide +kernel)
theorem d_8069_38 {σ : Nat → Nat} {n0 : Nat} {bf : ab_B} : decode (ab_code (zx σ n0 bf).1 8069) 38 = .ok (.invokevirtual 564, 3) := zd zm_8069 (by decide +kernel)
theorem d_8069_41 {σ : Nat → Nat} {n0 : Nat} {bf : ab_B} : decode (ab_code (zx σ n0 bf).1 8069) 41 = .ok (.ifCond .eq 27, 3) := zd zm_8069 (by decide +kernel)
theorem d_8069_44 {σ : Nat → Nat} {n0 : Nat} {bf : ab_B} : decode (ab_code (zx σ n0 bf).1 8069) 44 = .ok (.aload_n 0, 1) := zd zm_8069 (by decide +kernel)
theorem d_8069_45 {σ : Nat → Nat} {n0 : Nat} {bf : ab_B} : decode (ab_code (zx σ n0 bf).1 8069) 45 = .ok (.getfield 90, 3) := zd zm_8069 (by decide +kernel)
theorem d_8069_48 {σ : Nat → Nat} {n0 : Nat} {bf : ab_B} : decode (ab_code (zx σ n0 bf).1 8069) 48 = .ok (.iload_n 2, 1) := zd zm_8069 (by decide +kernel)
theorem d_8069_49 {σ : Nat → Nat} {n0 : Nat} {bf : ab_B} : decode (ab_code (zx σ n0 bf).1 8069) 49 = .ok (.baload, 1) := zd zm_8069 (by decide +kernel)
theorem d_8069_50 {σ : Nat → Nat} {n0 : Nat} {bf : ab_B} : decode (ab_code (zx σ n0 bf).1 8069) 50 = .ok (.bipush 13, 2) := zd zm_8069 (by decide +kernel)
theorem d_8069_52 {σ : Nat → Nat} {n0 : Nat} {bf : ab_B} : decode (ab_code (zx σ n0 bf).1 8069) 52 = .ok (.if_icmp .eq 24, 3) := zd zm_8069 (by decide +kernel)
theorem d_8069_55 {σ : Nat → Nat} {n0 : Nat} {bf : ab_B} : decode (ab_code (zx σ n0 bf).1 8069) 55 = .ok (.aload_n 0, 1) := zd zm_8069 (by decide +kernel)
theorem d_8069_56 {σ : Nat → Nat} {n0 : Nat} {bf : ab_B} : decode (ab_code (zx σ n0 bf).1 8069) 56 = .ok (.iload_n 2, 1) := zd zm_8069 (by decide +kernel)
theorem d_8069_57 {σ : Nat → Nat} {n0 : Nat} {bf : ab_B} : decode (ab_code (zx σ n0 bf).1 8069) 57 = .ok (.invokevirtual 570, 3) := zd zm_8069 (by decide +kernel)
theorem d_8069_60 {σ : Nat → Nat} {n0 : Nat} {bf : ab_B} : decode (ab_code (zx σ n0 bf).1 8069) 60 = .ok (.aload_n 0, 1) := zd zm_8069 (by decide +kernel)
theorem d_8069_61 {σ : Nat → Nat} {n0 : Nat} {bf : ab_B} : decode (ab_code (zx σ n0 bf).1 8069) 61 = .ok (.iload_n 1, 1) := zd zm_8069 (by decide +kernel)
theorem d_8069_62 {σ : Nat → Nat} {n0 : Nat} {bf : ab_B} : decode (ab_code (zx σ n0 bf).1 8069) 62 = .ok (.invokevirtual 561, 3) := zd zm_8069 (by decide +kernel)
theorem d_8069_65 {σ : Nat → Nat} {n0 : Nat} {bf : ab_B} : decode (ab_code (zx σ n0 bf).1 8069) 65 = .ok (.if_icmp .eq 11, 3) := zd zm_8069 (by decide +kernel)
theorem d_8069_68 {σ : Nat → Nat} {n0 : Nat} {bf : ab_B} : decode (ab_code (zx σ n0 bf).1 8069) 68 = .ok (.aload_n 0, 1) := zd zm_8069 (by decide +kernel)
theorem d_8069_69 {σ : Nat → Nat} {n0 : Nat} {bf : ab_B} : decode (ab_code (zx σ n0 bf).1 8069) 69 = .ok (.iconst 5, 1) := zd zm_8069 (by decide +kernel)
theorem d_8069_70 {σ : Nat → Nat} {n0 : Nat} {bf : ab_B} : decode (ab_code (zx σ n0 bf).1 8069) 70 = .ok (.invokevirtual 541, 3) := zd zm_8069 (by decide +kernel)
theorem d_8069_73 {σ : Nat → Nat} {n0 : Nat} {bf : ab_B} : decode (ab_code (zx σ n0 bf).1 8069) 73 = .ok (.goto 23, 3) := zd zm_8069 (by decide +kernel)
theorem d_8069_76 {σ : Nat → Nat} {n0 : Nat} {bf : ab_B} : decode (ab_code (zx σ n0 bf).1 8069) 76 = .ok (.aload_n 0, 1) := zd zm_8069 (by decide +kernel)
theorem d_8069_77 {σ : Nat → Nat} {n0 : Nat} {bf : ab_B} : decode (ab_code (zx σ n0 bf).1 8069) 77 = .ok (.getfield 191, 3) := zd zm_8069 (by decide +kernel)
theorem d_8069_80 {σ : Nat → Nat} {n0 : Nat} {bf : ab_B} : decode (ab_code (zx σ n0 bf).1 8069) 80 = .ok (.aload_n 0, 1) := zd zm_8069 (by decide +kernel)
theorem d_8069_81 {σ : Nat → Nat} {n0 : Nat} {bf : ab_B} : decode (ab_code (zx σ n0 bf).1 8069) 81 = .ok (.getfield 653, 3) := zd zm_8069 (by decide +kernel)
theorem d_8069_84 {σ : Nat → Nat} {n0 : Nat} {bf : ab_B} : decode (ab_code (zx σ n0 bf).1 8069) 84 = .ok (.iconst 2, 1) := zd zm_8069 (by decide +kernel)
theorem d_8069_85 {σ : Nat → Nat} {n0 : Nat} {bf : ab_B} : decode (ab_code (zx σ n0 bf).1 8069) 85 = .ok (.isub, 1) := zd zm_8069 (by decide +kernel)
theorem d_8069_86 {σ : Nat → Nat} {n0 : Nat} {bf : ab_B} : decode (ab_code (zx σ n0 bf).1 8069) 86 = .ok (.aload_n 0, 1) := zd zm_8069 (by decide +kernel)
theorem d_8069_87 {σ : Nat → Nat} {n0 : Nat} {bf : ab_B} : decode (ab_code (zx σ n0 bf).1 8069) 87 = .ok (.aload_n 0, 1) := zd zm_8069 (by decide +kernel)
theorem d_8069_88 {σ : Nat → Nat} {n0 : Nat} {bf : ab_B} : decode (ab_code (zx σ n0 bf).1 8069) 88 = .ok (.iload_n 1, 1) := zd zm_8069 (by decide +kernel)
theorem d_8069_89 {σ : Nat → Nat} {n0 : Nat} {bf : ab_B} : decode (ab_code (zx σ n0 bf).1 8069) 89 = .ok (.invokevirtual 561, 3) := zd zm_8069 (by decide +kernel)
theorem d_8069_92 {σ : Nat → Nat} {n0 : Nat} {bf : ab_B} : decode (ab_code (zx σ n0 bf).1 8069) 92 = .ok (.invokevirtual 761, 3) := zd zm_8069 (by decide +kernel)
theorem d_8069_95 {σ : Nat → Nat} {n0 : Nat} {bf : ab_B} : decode (ab_code (zx σ n0 bf).1 8069) 95 = .ok (.iastore, 1) := zd zm_8069 (by decide +kernel)
theorem d_8069_96 {σ : Nat → Nat} {n0 : Nat} {bf : ab_B} : decode (ab_code (zx σ n0 bf).1 8069) 96 = .ok (.aload_n 0, 1) := zd zm_8069 (by decide +kernel)
theorem d_8069_97 {σ : Nat → Nat} {n0 : Nat} {bf : ab_B} : decode (ab_code (zx σ n0 bf).1 8069) 97 = .ok (.dup, 1) := zd zm_8069 (by decide +kernel)
theorem d_8069_98 {σ : Nat → Nat} {n0 : Nat} {bf : ab_B} : decode (ab_code (zx σ n0 bf).1 8069) 98 = .ok (.getfield 653, 3) := zd zm_8069 (by decide +kernel)
theorem d_8069_101 {σ : Nat → Nat} {n0 : Nat} {bf : ab_B} : decode (ab_code (zx σ n0 bf).1 8069) 101 = .ok (.iconst 1, 1) := zd zm_8069 (by decide +kernel)
theorem d_8069_102 {σ : Nat → Nat} {n0 : Nat} {bf : ab_B} : decode (ab_code (zx σ n0 bf).1 8069) 102 = .ok (.isub, 1) := zd zm_8069 (by decide +kernel)
theorem d_8069_103 {σ : Nat → Nat} {n0 : Nat} {bf : ab_B} : decode (ab_code (zx σ n0 bf).1 8069) 103 = .ok (.putfield 653, 3) := zd zm_8069 (by decide +kernel)
theorem d_8069_106 {σ : Nat → Nat} {n0 : Nat} {bf : ab_B} : decode (ab_code (zx σ n0 bf).1 8069) 106 = .ok (.return_, 1) := zd zm_8069 (by decide +kernel)
def w_X9_memberHere_96 (X : zs_X) (d : Nat) (p0 : Nat) (S : zs_T) (Q : zs_Q) : Prop :=
  (zs_K S p0 = some (.inl 8) ∧ ab_n0 X.1 ≤ p0 ∧ ∀ S3, S3 = zs_sI S 8097 p0 ((zs_I S 8097 p0) - (1 : Int32)) → Q (.returned none) S3)
theorem u_X9_memberHere_96 {σ : Nat → Nat} {n0 : Nat} {bf : ab_B} {d : Nat} {p0 : Nat} {S : zs_T} {Q : zs_Q} (hB : zt_B bf) (h : w_X9_memberHere_96 (zx σ n0 bf) d p0 S Q) : zs_U (zx σ n0 bf) d 8069 96 [(0, .ref p0)] [] S Q := by
  unfold w_X9_memberHere_96 at h
  refine zu_aload_n d_8069_96 rfl (zs_ra _) ?_
  refine zu_dup d_8069_97 rfl ?_
  obtain ⟨k1, h⟩ := h
  refine zg_8_653 rfl d_8069_98 k1 ?_
  refine zu_iconst d_8069_101 zi_1 ?_
  refine zu_stk d_8069_102 rfl rfl ?_
  obtain ⟨k2, h⟩ := h
  refine zp_8_653 (v := ((zs_I S 8097 p0) - (1 : Int32))) rfl d_8069_103 k1 k2 ?_
  generalize e4 : zs_sI S 8097 p0 ((zs_I S 8097 p0) - (1 : Int32)) = S3
  have h := h S3 e4.symm
  have K5 : ∀ b, zs_K S3 b = zs_K S b := zs_Kt e4 (zs_KsI _ _ _ _) (fun _ => rfl)
  exact zu_vret d_8069_106 zr_8069 h
def w_X9_memberHere_68 (X : zs_X) (d : Nat) (p0 : Nat) (S : zs_T) (Q : zs_Q) : Prop :=
  (zs_K S p0 = some (.inl 8) ∧ zs_C X d 8027 [.ref p0, .int (5 : Int32)] S (zs_kV (fun S2 => (w_X9_memberHere_96 X d p0 S2 Q)) Q))
theorem u_X9_memberHere_68 {σ : Nat → Nat} {n0 : Nat} {bf : ab_B} {d : Nat} {p0 : Nat} {S : zs_T} {Q : zs_Q} (hB : zt_B bf) (h : w_X9_memberHere_68 (zx σ n0 bf) d p0 S Q) : zs_U (zx σ n0 bf) d 8069 68 [(0, .ref p0)] [] S Q := by
  unfold w_X9_memberHere_68 at h
  refine zu_aload_n d_8069_68 rfl (zs_ra _) ?_
  refine zu_iconst d_8069_69 zi_5 ?_
  obtain ⟨k1, h⟩ := h
  refine zc_8_541 (x0 := (5 : Int32)) hB rfl k1 d_8069_70 (Nat.le_of_ble_eq_true rfl) h (fun S2 h => ?_)
  refine zu_goto (t := 96) d_8069_73 rfl ?_
  exact (u_X9_memberHere_96 hB h).weak ⟨rfl, trivial⟩
def w_X9_memberHere_76 (X : zs_X) (d : Nat) (p0 : Nat) (p1 : Int32) (S : zs_T) (Q : zs_Q) : Prop :=
  (zs_K S p0 = some (.inl 8) ∧ zs_C X d 8042 [.ref p0, .int p1] S (zs_kI (fun v3 S2 => (zs_K S2 p0 = some (.inl 8) ∧ zs_C X d 8070 [.ref p0, .int v3] S2 (zs_kI (fun v6 S5 => (∃ b7, (zs_R S 8091 p0) = some b7 ∧ zs_A S5 b7 0 ((zs_I S 8097 p0) - (2 : Int32)) ∧ ab_n0 X.1 ≤ b7 ∧ ∀ S11, S11 = zs_si S5 b7 ((zs_I S 8097 p0) - (2 : Int32)).toNatClampNeg v6 → w_X9_memberHere_96 X d p0 S11 Q)) Q))) Q))
theorem u_X9_memberHere_76 {σ : Nat → Nat} {n0 : Nat} {bf : ab_B} {d : Nat} {p0 : Nat} {p1 : Int32} {S : zs_T} {Q : zs_Q} (hB : zt_B bf) (h : w_X9_memberHere_76 (zx σ n0 bf) d p0 p1 S Q) : zs_U (zx σ n0 bf) d 8069 76 [(0, .ref p0), (1, .int p1)] [] S Q := by
  unfold w_X9_memberHere_76 at h
  refine zu_aload_n d_8069_76 rfl (zs_ra _) ?_
  obtain ⟨k1, h⟩ := h
  refine zg_8_191 rfl d_8069_77 k1 ?_
  refine zu_aload_n d_8069_80 rfl (zs_ra _) ?_
  refine zg_8_653 rfl d_8069_81 k1 ?_
  refine zu_iconst d_8069_84 zi_2 ?_
  refine zu_stk d_8069_85 rfl rfl ?_
  refine zu_aload_n d_8069_86 rfl (zs_ra _) ?_
  refine zu_aload_n d_8069_87 rfl (zs_ra _) ?_
  refine zu_iload_n d_8069_88 rfl ?_
  refine zc_8_561 (x0 := p1) hB rfl k1 d_8069_89 (by simp only [List.map_cons, List.map_nil, List.sum_cons, List.sum_nil, zs_cat, zs_cI, zs_cJ, zs_cA]; exact Nat.le_of_ble_eq_true rfl) h (fun v3 S2 h => ?_)
  obtain ⟨k4, h⟩ := h
  refine zc_8_761 (x0 := v3) hB rfl k4 d_8069_92 (by simp only [List.map_cons, List.map_nil, List.sum_cons, List.sum_nil, zs_cat, zs_cI, zs_cJ, zs_cA]; exact Nat.le_of_ble_eq_true rfl) h (fun v6 S5 h => ?_)
  obtain ⟨b7, e8, h⟩ := h
  refine zs_stk2 (zs_rfe e8) ?_
  obtain ⟨k9, h⟩ := h
  obtain ⟨k10, h⟩ := h
  refine zu_iast (k := 0) d_8069_95 rfl rfl k10 k9 ?_
  generalize e12 : zs_si S5 b7 ((zs_I S 8097 p0) - (2 : Int32)).toNatClampNeg v6 = S11
  have h := h S11 e12.symm
  have K13 : ∀ b, zs_K S11 b = zs_K S5 b := zs_Kt e12 (zs_Ksi _ _ _ _) (fun _ => rfl)
  exact (u_X9_memberHere_96 hB h).weak ⟨rfl, trivial⟩
def w_X9_memberHere_36 (X : zs_X) (d : Nat) (p0 : Nat) (p1 : Int32) (p2 : Int32) (S : zs_T) (Q : zs_Q) : Prop :=
  (zs_K S p0 = some (.inl 8) ∧ zs_C X d 8036 [.ref p0, .int p1] S (zs_kI (fun v3 S2 => (((v3 = 0 → w_X9_memberHere_68 X d p0 S2 Q) ∧ (¬ (v3 = 0) → (zs_K S2 p0 = some (.inl 8) ∧ ∃ b6, (zs_R S2 8044 p0) = some b6 ∧ zs_A S2 b6 1 p2 ∧ (((zs_i S2 b6 p2.toNatClampNeg) = (13 : Int32) → w_X9_memberHere_76 X d p0 p1 S2 Q) ∧ (¬ ((zs_i S2 b6 p2.toNatClampNeg) = (13 : Int32)) → (zs_C X d 8041 [.ref p0, .int p2] S2 (zs_kI (fun v11 S10 => (zs_K S10 p0 = some (.inl 8) ∧ zs_C X d 8042 [.ref p0, .int p1] S10 (zs_kI (fun v14 S13 => (((v11 = v14 → w_X9_memberHere_76 X d p0 p1 S13 Q) ∧ (¬ (v11 = v14) → w_X9_memberHere_68 X d p0 S13 Q)))) Q))) Q))))))))) Q))
theorem u_X9_memberHere_36 {σ : Nat → Nat} {n0 : Nat} {bf : ab_B} {d : Nat} {p0 : Nat} {p1 : Int32} {p2 : Int32} {S : zs_T} {Q : zs_Q} (hB : zt_B bf) (h : w_X9_memberHere_36 (zx σ n0 bf) d p0 p1 p2 S Q) : zs_U (zx σ n0 bf) d 8069 36 [(0, .ref p0), (1, .int p1), (2, .int p2)] [] S Q := by
  unfold w_X9_memberHere_36 at h
  refine zu_aload_n d_8069_36 rfl (zs_ra _) ?_
  refine zu_iload_n d_8069_37 rfl ?_
  obtain ⟨k1, h⟩ := h
  refine zc_8_564 (x0 := p1) hB rfl k1 d_8069_38 (Nat.le_of_ble_eq_true rfl) h (fun v3 S2 h => ?_)
  refine zu_ifeq (t := 68) d_8069_41 rfl (fun c4 => ?_) (fun c4 => ?_)
  · have h := h.1 c4
    exact (u_X9_memberHere_68 hB h).weak ⟨rfl, trivial⟩
  · have h := h.2 c4
    refine zu_aload_n d_8069_44 rfl (zs_ra _) ?_
    obtain ⟨k5, h⟩ := h
    refine zg_8_90 rfl d_8069_45 k5 ?_
    refine zu_iload_n d_8069_48 rfl ?_
    obtain ⟨b6, e7, h⟩ := h
    refine zs_stk1 (zs_rfe e7) ?_
    obtain ⟨k8, h⟩ := h
    refine zu_bald (k := 1) d_8069_49 rfl (Or.inl rfl) k8 ?_
    refine zu_bipush d_8069_50 zj_13 ?_
    refine zu_cmpeq (t := 76) d_8069_52 rfl (fun c9 => ?_) (fun c9 => ?_)
    · have h := h.1 c9
      exact (u_X9_memberHere_76 hB h).weak ⟨rfl, rfl, trivial⟩
    · have h := h.2 c9
      refine zu_aload_n d_8069_55 rfl (zs_ra _) ?_
      refine zu_iload_n d_8069_56 rfl ?_
      refine zc_8_570 (x0 := p2) hB rfl k5 d_8069_57 (Nat.le_of_ble_eq_true rfl) h (fun v11 S10 h => ?_)
      refine zu_aload_n d_8069_60 rfl (zs_ra _) ?_
      refine zu_iload_n d_8069_61 rfl ?_
      obtain ⟨k12, h⟩ := h
      refine zc_8_561 (x0 := p1) hB rfl k12 d_8069_62 (Nat.le_of_ble_eq_true rfl) h (fun v14 S13 h => ?_)
      refine zu_cmpeq (t := 76) d_8069_65 rfl (fun c15 => ?_) (fun c15 => ?_)
      · have h := h.1 c15
        exact (u_X9_memberHere_76 hB h).weak ⟨rfl, rfl, trivial⟩
      · have h := h.2 c15
        exact (u_X9_memberHere_68 hB h).weak ⟨rfl, trivial⟩
def w_X9_memberHere (X : zs_X) (d : Nat) (p0 : Nat) (S : zs_T) (Q : zs_Q) : Prop :=
  (zs_K S p0 = some (.inl 8) ∧ zs_C X d 8037 [.ref p0] S (zs_kV (fun S2 => (zs_K S2 p0 = some (.inl 8) ∧ (((zs_I S2 8010 p0) ≤ 0 → (∃ b6, (zs_R S2 8091 p0) = some b6 ∧ zs_A S2 b6 0 ((zs_I S2 8097 p0) - (1 : Int32)) ∧ zs_A S2 b6 0 ((zs_I S2 8097 p0) - (2 : Int32)) ∧ w_X9_memberHere_36 X d p0 (zs_i S2 b6 ((zs_I S2 8097 p0) - (1 : Int32)).toNatClampNeg) (zs_i S2 b6 ((zs_I S2 8097 p0) - (2 : Int32)).toNatClampNeg) S2 Q)) ∧ (¬ ((zs_I S2 8010 p0) ≤ 0) → (Q (.returned none) S2))))) Q))
theorem u_X9_memberHere {σ : Nat → Nat} {n0 : Nat} {bf : ab_B} {d : Nat} {p0 : Nat} {S : zs_T} {Q : zs_Q} (hB : zt_B bf) (hd : 1 ≤ d) (h : w_X9_memberHere (zx σ n0 bf) (d - 1) p0 S Q) : zs_C (zx σ n0 bf) d 8069 [.ref p0] S Q := by
  have hL : lv_args 0 [.ref p0] = [(0, .ref p0)] := rfl
  refine zs_C.of1 (hB.2 8069 (by decide) (by decide)) hd (by rw [hL]; exact zs_sub_self _ (by exact ⟨rfl, trivial⟩)) ?_
  rw [hL]
  clear hL
  unfold w_X9_memberHere at h
  refine zu_aload_n d_8069_0 rfl (zs_ra _) ?_
  obtain ⟨k1, h⟩ := h
  refine zc_8_660  hB rfl k1 d_8069_1 (Nat.le_of_ble_eq_true rfl) h (fun S2 h => ?_)
  refine zu_aload_n d_8069_4 rfl (zs_ra _) ?_
  obtain ⟨k4, h⟩ := h
  refine zg_8_444 rfl d_8069_5 k4 ?_
  refine zu_ifle (t := 12) d_8069_8 rfl (fun c5 => ?_) (fun c5 => ?_)
  · have h := h.1 c5
    refine zu_aload_n d_8069_12 rfl (zs_ra _) ?_
    refine zg_8_191 rfl d_8069_13 k4 ?_
    refine zu_aload_n d_8069_16 rfl (zs_ra _) ?_
    refine zg_8_653 rfl d_8069_17 k4 ?_
    refine zu_iconst d_8069_20 zi_1 ?_
    refine zu_stk d_8069_21 rfl rfl ?_
    obtain ⟨b6, e7, h⟩ := h
    refine zs_stk1 (zs_rfe e7) ?_
    obtain ⟨k8, h⟩ := h
    refine zu_iald (k := 0) d_8069_22 rfl rfl k8 ?_
    refine zu_istore_n d_8069_23 (zs_lt zq_8069 rfl) ?_
    refine zu_aload_n d_8069_24 rfl (zs_ra _) ?_
    refine zg_8_191 rfl d_8069_25 k4 ?_
    refine zu_aload_n d_8069_28 rfl (zs_ra _) ?_
    refine zg_8_653 rfl d_8069_29 k4 ?_
    refine zu_iconst d_8069_32 zi_2 ?_
    refine zu_stk d_8069_33 rfl rfl ?_
    refine zs_stk1 (zs_rfe e7) ?_
    obtain ⟨k9, h⟩ := h
    refine zu_iald (k := 0) d_8069_34 rfl rfl k9 ?_
    refine zu_istore_n d_8069_35 (zs_lt zq_8069 rfl) ?_
    exact (u_X9_memberHere_36 hB h).weak ⟨rfl, rfl, rfl, trivial⟩
  · have h := h.2 c5
    exact zu_vret d_8069_11 zr_8069 h
/-! SchemaPascalModel.setOf(I)I -/
theorem zm_8070 {σ : Nat → Nat} {n0 : Nat} {bf : ab_B} : ab_code (zx σ n0 bf).1 8070 = prog_17_method_84_code := rfl
theorem zq_8070 {σ : Nat → Nat} {n0 : Nat} {bf : ab_B} : ab_maxL (zx σ n0 bf).1 8070 = 2 := rfl
theorem zr_8070 {σ : Nat → Nat} {n0 : Nat} {bf : ab_B} : ab_ret (zx σ n0 bf).1 8070 = (Option.some Jvm.ClassFile.FieldType.int) := rfl
theorem d_8070_0 {σ : Nat → Nat} {n0 : Nat} {bf : ab_B} : decode (ab_code (zx σ n0 bf).1 8070) 0 = .ok (.aload_n 0, 1) := zd zm_8070 (by decide +kernel)
theorem d_8070_1 {σ : Nat → Nat} {n0 : Nat} {bf : ab_B} : decode (ab_code (zx σ n0 bf).1 8070) 1 = .ok (.getfield 251, 3) := zd zm_8070 (by decide +kernel)
theorem d_8070_4 {σ : Nat → Nat} {n0 : Nat} {bf : ab_B} : decode (ab_code (zx σ n0 bf).1 8070) 4 = .ok (.iload_n 1, 1) := zd zm_8070 (by decide +kernel)
theorem d_8070_5 {σ : Nat → Nat} {n0 : Nat} {bf : ab_B} : decode (ab_code (zx σ n0 bf).1 8070) 5 = .ok (.iaload, 1) := zd zm_8070 (by decide +kernel)
theorem d_8070_6 {σ : Nat → Nat} {n0 : Nat} {bf : ab_B} : decode (ab_code (zx σ n0 bf).1 8070) 6 = .ok (.ifCond .ne 17, 3) := zd zm_8070 (by decide +kernel)
theorem d_8070_9 {σ : Nat → Nat} {n0 : Nat} {bf : ab_B} : decode (ab_code (zx σ n0 bf).1 8070) 9 = .ok (.aload_n 0, 1) := zd zm_8070 (by decide +kernel)
theorem d_8070_10 {σ : Nat → Nat} {n0 : Nat} {bf : ab_B} : decode (ab_code (zx σ n0 bf).1 8070) 10 = .ok (.getfield 251, 3) := zd zm_8070 (by decide +kernel)
theorem d_8070_13 {σ : Nat → Nat} {n0 : Nat} {bf : ab_B} : decode (ab_code (zx σ n0 bf).1 8070) 13 = .ok (.iload_n 1, 1) := zd zm_8070 (by decide +kernel)
theorem d_8070_14 {σ : Nat → Nat} {n0 : Nat} {bf : ab_B} : decode (ab_code (zx σ n0 bf).1 8070) 14 = .ok (.aload_n 0, 1) := zd zm_8070 (by decide +kernel)
theorem d_8070_15 {σ : Nat → Nat} {n0 : Nat} {bf : ab_B} : decode (ab_code (zx σ n0 bf).1 8070) 15 = .ok (.bipush 6, 2) := zd zm_8070 (by decide +kernel)
theorem d_8070_17 {σ : Nat → Nat} {n0 : Nat} {bf : ab_B} : decode (ab_code (zx σ n0 bf).1 8070) 17 = .ok (.iload_n 1, 1) := zd zm_8070 (by decide +kernel)
theorem d_8070_18 {σ : Nat → Nat} {n0 : Nat} {bf : ab_B} : decode (ab_code (zx σ n0 bf).1 8070) 18 = .ok (.iconst 2, 1) := zd zm_8070 (by decide +kernel)
theorem d_8070_19 {σ : Nat → Nat} {n0 : Nat} {bf : ab_B} : decode (ab_code (zx σ n0 bf).1 8070) 19 = .ok (.invokevirtual 599, 3) := zd zm_8070 (by decide +kernel)
theorem d_8070_22 {σ : Nat → Nat} {n0 : Nat} {bf : ab_B} : decode (ab_code (zx σ n0 bf).1 8070) 22 = .ok (.iastore, 1) := zd zm_8070 (by decide +kernel)
theorem d_8070_23 {σ : Nat → Nat} {n0 : Nat} {bf : ab_B} : decode (ab_code (zx σ n0 bf).1 8070) 23 = .ok (.aload_n 0, 1) := zd zm_8070 (by decide +kernel)
theorem d_8070_24 {σ : Nat → Nat} {n0 : Nat} {bf : ab_B} : decode (ab_code (zx σ n0 bf).1 8070) 24 = .ok (.getfield 251, 3) := zd zm_8070 (by decide +kernel)
theorem d_8070_27 {σ : Nat → Nat} {n0 : Nat} {bf : ab_B} : decode (ab_code (zx σ n0 bf).1 8070) 27 = .ok (.iload_n 1, 1) := zd zm_8070 (by decide +kernel)
theorem d_8070_28 {σ : Nat → Nat} {n0 : Nat} {bf : ab_B} : decode (ab_code (zx σ n0 bf).1 8070) 28 = .ok (.iaload, 1) := zd zm_8070 (by decide +kernel)
theorem d_8070_29 {σ : Nat → Nat} {n0 : Nat} {bf : ab_B} : decode (ab_code (zx σ n0 bf).1 8070) 29 = .ok (.ireturn, 1) := zd zm_8070 (by decide +kernel)
def w_X9_setOf_23 (X : zs_X) (d : Nat) (p0 : Nat) (p1 : Int32) (S : zs_T) (Q : zs_Q) : Prop :=
  (zs_K S p0 = some (.inl 8) ∧ ∃ b2, (zs_R S 8116 p0) = some b2 ∧ zs_A S b2 0 p1 ∧ Q (.returned (some (.int (zs_i S b2 p1.toNatClampNeg)))) S)
theorem u_X9_setOf_23 {σ : Nat → Nat} {n0 : Nat} {bf : ab_B} {d : Nat} {p0 : Nat} {p1 : Int32} {S : zs_T} {Q : zs_Q} (hB : zt_B bf) (h : w_X9_setOf_23 (zx σ n0 bf) d p0 p1 S Q) : zs_U (zx σ n0 bf) d 8070 23 [(0, .ref p0), (1, .int p1)] [] S Q := by
  unfold w_X9_setOf_23 at h
  refine zu_aload_n d_8070_23 rfl (zs_ra _) ?_
  obtain ⟨k1, h⟩ := h
  refine zg_8_251 rfl d_8070_24 k1 ?_
  refine zu_iload_n d_8070_27 rfl ?_
  obtain ⟨b2, e3, h⟩ := h
  refine zs_stk1 (zs_rfe e3) ?_
  obtain ⟨k4, h⟩ := h
  refine zu_iald (k := 0) d_8070_28 rfl rfl k4 ?_
  exact zu_iret d_8070_29 zr_8070 rfl h
def w_X9_setOf (X : zs_X) (d : Nat) (p0 : Nat) (p1 : Int32) (S : zs_T) (Q : zs_Q) : Prop :=
  (zs_K S p0 = some (.inl 8) ∧ ∃ b2, (zs_R S 8116 p0) = some b2 ∧ zs_A S b2 0 p1 ∧ ((¬ (zs_i S b2 p1.toNatClampNeg) = 0 → w_X9_setOf_23 X d p0 p1 S Q) ∧ (¬ (¬ (zs_i S b2 p1.toNatClampNeg) = 0) → (zs_C X d 8009 [.ref p0, .int (6 : Int32), .int p1, .int (2 : Int32)] S (zs_kI (fun v7 S6 => (zs_A S6 b2 0 p1 ∧ ab_n0 X.1 ≤ b2 ∧ ∀ S10, S10 = zs_si S6 b2 p1.toNatClampNeg v7 → w_X9_setOf_23 X d p0 p1 S10 Q)) Q)))))
theorem u_X9_setOf {σ : Nat → Nat} {n0 : Nat} {bf : ab_B} {d : Nat} {p0 : Nat} {p1 : Int32} {S : zs_T} {Q : zs_Q} (hB : zt_B bf) (hd : 1 ≤ d) (h : w_X9_setOf (zx σ n0 bf) (d - 1) p0 p1 S Q) : zs_C (zx σ n0 bf) d 8070 [.ref p0, .int p1] S Q := by
  have hL : lv_args 0 [.ref p0, .int p1] = [(0, .ref p0), (1, .int p1)] := rfl
  refine zs_C.of1 (hB.2 8070 (by decide) (by decide)) hd (by rw [hL]; exact zs_sub_self _ (by exact ⟨rfl, rfl, trivial⟩)) ?_
  rw [hL]
  clear hL
  unfold w_X9_setOf at h
  refine zu_aload_n d_8070_0 rfl (zs_ra _) ?_
  obtain ⟨k1, h⟩ := h
  refine zg_8_251 rfl d_8070_1 k1 ?_
  refine zu_iload_n d_8070_4 rfl ?_
  obtain ⟨b2, e3, h⟩ := h
  refine zs_stk1 (zs_rfe e3) ?_
  obtain ⟨k4, h⟩ := h
  refine zu_iald (k := 0) d_8070_5 rfl rfl k4 ?_
  refine zu_ifne (t := 23) d_8070_6 rfl (fun c5 => ?_) (fun c5 => ?_)
  · have h := h.1 c5
    exact (u_X9_setOf_23 hB h).weak ⟨rfl, rfl, trivial⟩
  · have h := h.2 c5
    refine zu_aload_n d_8070_9 rfl (zs_ra _) ?_
    refine zg_8_251 rfl d_8070_10 k1 ?_
    refine zu_iload_n d_8070_13 rfl ?_
    refine zu_aload_n d_8070_14 rfl (zs_ra _) ?_
    refine zu_bipush d_8070_15 zj_6 ?_
    refine zu_iload_n d_8070_17 rfl ?_
    refine zu_iconst d_8070_18 zi_2 ?_
    refine zc_8_599 (x0 := (6 : Int32)) (x1 := p1) (x2 := (2 : Int32)) hB rfl k1 d_8070_19 (by simp only [List.map_cons, List.map_nil, List.sum_cons, List.sum_nil, zs_cat, zs_cI, zs_cJ, zs_cA]; exact Nat.le_of_ble_eq_true rfl) h (fun v7 S6 h => ?_)
    refine zs_stk2 (zs_rfe e3) ?_
    obtain ⟨k8, h⟩ := h
    obtain ⟨k9, h⟩ := h
    refine zu_iast (k := 0) d_8070_22 rfl rfl k9 k8 ?_
    generalize e11 : zs_si S6 b2 p1.toNatClampNeg v7 = S10
    have h := h S10 e11.symm
    have K12 : ∀ b, zs_K S10 b = zs_K S6 b := zs_Kt e11 (zs_Ksi _ _ _ _) (fun _ => rfl)
    exact (u_X9_setOf_23 hB h).weak ⟨rfl, rfl, trivial⟩
/-! SchemaPascalModel.membered(IZ)V -/
theorem zm_8071 {σ : Nat → Nat} {n0 : Nat} {bf : ab_B} : ab_code (zx σ n0 bf).1 8071 = prog_17_method_88_code := rfl
theorem zq_8071 {σ : Nat → Nat} {n0 : Nat} {bf : ab_B} : ab_maxL (zx σ n0 bf).1 8071 = 4 := rfl
theorem zr_8071 {σ : Nat → Nat} {n0 : Nat} {bf : ab_B} : ab_ret (zx σ n0 bf).1 8071 = (Option.none : Option Jvm.ClassFile.FieldType) := rfl
theorem d_8071_0 {σ : Nat → Nat} {n0 : Nat} {bf : ab_B} : decode (ab_code (zx σ n0 bf).1 8071) 0 = .ok (.iload_n 2, 1) := zd zm_8071 (by decide +kernel)
theorem d_8071_1 {σ : Nat → Nat} {n0 : Nat} {bf : ab_B} : decode (ab_code (zx σ n0 bf).1 8071) 1 = .ok (.ifCond .eq 7, 3) := zd zm_8071 (by decide +kernel)
theorem d_8071_4 {σ : Nat → Nat} {n0 : Nat} {bf : ab_B} : decode (ab_code (zx σ n0 bf).1 8071) 4 = .ok (.aload_n 0, 1) := zd zm_8071 (by decide +kernel)
theorem d_8071_5 {σ : Nat → Nat} {n0 : Nat} {bf : ab_B} : decode (ab_code (zx σ n0 bf).1 8071) 5 = .ok (.invokevirtual 764, 3) := zd zm_8071 (by decide +kernel)
theorem d_8071_8 {σ : Nat → Nat} {n0 : Nat} {bf : ab_B} : decode (ab_code (zx σ n0 bf).1 8071) 8 = .ok (.aload_n 0, 1) := zd zm_8071 (by decide +kernel)
theorem d_8071_9 {σ : Nat → Nat} {n0 : Nat} {bf : ab_B} : decode (ab_code (zx σ n0 bf).1 8071) 9 = .ok (.iload_n 2, 1) := zd zm_8071 (by decide +kernel)
theorem d_8071_10 {σ : Nat → Nat} {n0 : Nat} {bf : ab_B} : decode (ab_code (zx σ n0 bf).1 8071) 10 = .ok (.ifCond .eq 8, 3) := zd zm_8071 (by decide +kernel)
theorem d_8071_13 {σ : Nat → Nat} {n0 : Nat} {bf : ab_B} : decode (ab_code (zx σ n0 bf).1 8071) 13 = .ok (.bipush 56, 2) := zd zm_8071 (by decide +kernel)
theorem d_8071_15 {σ : Nat → Nat} {n0 : Nat} {bf : ab_B} : decode (ab_code (zx σ n0 bf).1 8071) 15 = .ok (.goto 5, 3) := zd zm_8071 (by decide +kernel)
theorem d_8071_18 {σ : Nat → Nat} {n0 : Nat} {bf : ab_B} : decode (ab_code (zx σ n0 bf).1 8071) 18 = .ok (.bipush 55, 2) := zd zm_8071 (by decide +kernel)
theorem d_8071_20 {σ : Nat → Nat} {n0 : Nat} {bf : ab_B} : decode (ab_code (zx σ n0 bf).1 8071) 20 = .ok (.iconst 0, 1) := zd zm_8071 (by decide +kernel)
theorem d_8071_21 {σ : Nat → Nat} {n0 : Nat} {bf : ab_B} : decode (ab_code (zx σ n0 bf).1 8071) 21 = .ok (.iconst 0, 1) := zd zm_8071 (by decide +kernel)
theorem d_8071_22 {σ : Nat → Nat} {n0 : Nat} {bf : ab_B} : decode (ab_code (zx σ n0 bf).1 8071) 22 = .ok (.iload_n 1, 1) := zd zm_8071 (by decide +kernel)
theorem d_8071_23 {σ : Nat → Nat} {n0 : Nat} {bf : ab_B} : decode (ab_code (zx σ n0 bf).1 8071) 23 = .ok (.invokevirtual 656, 3) := zd zm_8071 (by decide +kernel)
theorem d_8071_26 {σ : Nat → Nat} {n0 : Nat} {bf : ab_B} : decode (ab_code (zx σ n0 bf).1 8071) 26 = .ok (.istore_n 3, 1) := zd zm_8071 (by decide +kernel)
theorem d_8071_27 {σ : Nat → Nat} {n0 : Nat} {bf : ab_B} : decode (ab_code (zx σ n0 bf).1 8071) 27 = .ok (.aload_n 0, 1) := zd zm_8071 (by decide +kernel)
theorem d_8071_28 {σ : Nat → Nat} {n0 : Nat} {bf : ab_B} : decode (ab_code (zx σ n0 bf).1 8071) 28 = .ok (.bipush 12, 2) := zd zm_8071 (by decide +kernel)
theorem d_8071_30 {σ : Nat → Nat} {n0 : Nat} {bf : ab_B} : decode (ab_code (zx σ n0 bf).1 8071) 30 = .ok (.invokevirtual 535, 3) := zd zm_8071 (by decide +kernel)
theorem d_8071_33 {σ : Nat → Nat} {n0 : Nat} {bf : ab_B} : decode (ab_code (zx σ n0 bf).1 8071) 33 = .ok (.ifCond .eq 30, 3) := zd zm_8071 (by decide +kernel)
theorem d_8071_36 {σ : Nat → Nat} {n0 : Nat} {bf : ab_B} : decode (ab_code (zx σ n0 bf).1 8071) 36 = .ok (.aload_n 0, 1) := zd zm_8071 (by decide +kernel)
theorem d_8071_37 {σ : Nat → Nat} {n0 : Nat} {bf : ab_B} : decode (ab_code (zx σ n0 bf).1 8071) 37 = .ok (.invokevirtual 538, 3) := zd zm_8071 (by decide +kernel)
theorem d_8071_40 {σ : Nat → Nat} {n0 : Nat} {bf : ab_B} : decode (ab_code (zx σ n0 bf).1 8071) 40 = .ok (.aload_n 0, 1) := zd zm_8071 (by decide +kernel)
theorem d_8071_41 {σ : Nat → Nat} {n0 : Nat} {bf : ab_B} : decode (ab_code (zx σ n0 bf).1 8071) 41 = .ok (.bipush 16, 2) := zd zm_8071 (by decide +kernel)
theorem d_8071_43 {σ : Nat → Nat} {n0 : Nat} {bf : ab_B} : decode (ab_code (zx σ n0 bf).1 8071) 43 = .ok (.aload_n 0, 1) := zd zm_8071 (by decide +kernel)
theorem d_8071_44 {σ : Nat → Nat} {n0 : Nat} {bf : ab_B} : decode (ab_code (zx σ n0 bf).1 8071) 44 = .ok (.getfield 450, 3) := zd zm_8071 (by decide +kernel)
theorem d_8071_47 {σ : Nat → Nat} {n0 : Nat} {bf : ab_B} : decode (ab_code (zx σ n0 bf).1 8071) 47 = .ok (.iconst 0, 1) := zd zm_8071 (by decide +kernel)
theorem d_8071_48 {σ : Nat → Nat} {n0 : Nat} {bf : ab_B} : decode (ab_code (zx σ n0 bf).1 8071) 48 = .ok (.iconst 0, 1) := zd zm_8071 (by decide +kernel)
theorem d_8071_49 {σ : Nat → Nat} {n0 : Nat} {bf : ab_B} : decode (ab_code (zx σ n0 bf).1 8071) 49 = .ok (.invokevirtual 649, 3) := zd zm_8071 (by decide +kernel)
theorem d_8071_52 {σ : Nat → Nat} {n0 : Nat} {bf : ab_B} : decode (ab_code (zx σ n0 bf).1 8071) 52 = .ok (.aload_n 0, 1) := zd zm_8071 (by decide +kernel)
theorem d_8071_53 {σ : Nat → Nat} {n0 : Nat} {bf : ab_B} : decode (ab_code (zx σ n0 bf).1 8071) 53 = .ok (.iconst 2, 1) := zd zm_8071 (by decide +kernel)
theorem d_8071_54 {σ : Nat → Nat} {n0 : Nat} {bf : ab_B} : decode (ab_code (zx σ n0 bf).1 8071) 54 = .ok (.iconst 0, 1) := zd zm_8071 (by decide +kernel)
theorem d_8071_55 {σ : Nat → Nat} {n0 : Nat} {bf : ab_B} : decode (ab_code (zx σ n0 bf).1 8071) 55 = .ok (.iconst 0, 1) := zd zm_8071 (by decide +kernel)
theorem d_8071_56 {σ : Nat → Nat} {n0 : Nat} {bf : ab_B} : decode (ab_code (zx σ n0 bf).1 8071) 56 = .ok (.iconst 0, 1) := zd zm_8071 (by decide +kernel)
theorem d_8071_57 {σ : Nat → Nat} {n0 : Nat} {bf : ab_B} : decode (ab_code (zx σ n0 bf).1 8071) 57 = .ok (.invokevirtual 649, 3) := zd zm_8071 (by decide +kernel)
theorem d_8071_60 {σ : Nat → Nat} {n0 : Nat} {bf : ab_B} : decode (ab_code (zx σ n0 bf).1 8071) 60 = .ok (.goto 9, 3) := zd zm_8071 (by decide +kernel)
theorem d_8071_63 {σ : Nat → Nat} {n0 : Nat} {bf : ab_B} : decode (ab_code (zx σ n0 bf).1 8071) 63 = .ok (.aload_n 0, 1) := zd zm_8071 (by decide +kernel)
theorem d_8071_64 {σ : Nat → Nat} {n0 : Nat} {bf : ab_B} : decode (ab_code (zx σ n0 bf).1 8071) 64 = .ok (.bipush 11, 2) := zd zm_8071 (by decide +kernel)
theorem d_8071_66 {σ : Nat → Nat} {n0 : Nat} {bf : ab_B} : decode (ab_code (zx σ n0 bf).1 8071) 66 = .ok (.invokevirtual 746, 3) := zd zm_8071 (by decide +kernel)
theorem d_8071_69 {σ : Nat → Nat} {n0 : Nat} {bf : ab_B} : decode (ab_code (zx σ n0 bf).1 8071) 69 = .ok (.return_, 1) := zd zm_8071 (by decide +kernel)
def w_X9_membered_52 (X : zs_X) (d : Nat) (p0 : Nat) (S : zs_T) (Q : zs_Q) : Prop :=
  (zs_K S p0 = some (.inl 8) ∧ zs_C X d 8030 [.ref p0, .int (2 : Int32), .int (0 : Int32), .int (0 : Int32), .int (0 : Int32)] S (zs_kV (fun S2 => (Q (.returned none) S2)) Q))
theorem u_X9_membered_52 {σ : Nat → Nat} {n0 : Nat} {bf : ab_B} {d : Nat} {p0 : Nat} {S : zs_T} {Q : zs_Q} (hB : zt_B bf) (h : w_X9_membered_52 (zx σ n0 bf) d p0 S Q) : zs_U (zx σ n0 bf) d 8071 52 [(0, .ref p0)] [] S Q := by
  unfold w_X9_membered_52 at h
  refine zu_aload_n d_8071_52 rfl (zs_ra _) ?_
  refine zu_iconst d_8071_53 zi_2 ?_
  refine zu_iconst d_8071_54 zi_0 ?_
  refine zu_iconst d_8071_55 zi_0 ?_
  refine zu_iconst d_8071_56 zi_0 ?_
  obtain ⟨k1, h⟩ := h
  refine zc_8_649 (x0 := (2 : Int32)) (x1 := (0 : Int32)) (x2 := (0 : Int32)) (x3 := (0 : Int32)) hB rfl k1 d_8071_57 (Nat.le_of_ble_eq_true rfl) h (fun S2 h => ?_)
  refine zu_goto (t := 69) d_8071_60 rfl ?_
  exact zu_vret d_8071_69 zr_8071 h
def w_X9_membered_20 (X : zs_X) (d : Nat) (p0 : Nat) (p1 : Int32) (q0 : Option Nat) (q1 : Int32) (S : zs_T) (Q : zs_Q) : Prop :=
  (∃ b1, q0 = some b1 ∧ zs_K S b1 = some (.inl 8) ∧ zs_C X d 8012 [.ref b1, .int q1, .int (0 : Int32), .int (0 : Int32), .int p1] S (zs_kI (fun v5 S4 => (zs_K S4 p0 = some (.inl 8) ∧ zs_C X d 8029 [.ref p0, .int (12 : Int32)] S4 (zs_kI (fun v8 S7 => (((v8 = 0 → (zs_K S7 p0 = some (.inl 8) ∧ zs_C X d 8028 [.ref p0, .int (11 : Int32)] S7 (zs_kV (fun S11 => (Q (.returned none) S11)) Q))) ∧ (¬ (v8 = 0) → (zs_K S7 p0 = some (.inl 8) ∧ zs_C X d 8014 [.ref p0] S7 (zs_kV (fun S14 => (zs_K S14 p0 = some (.inl 8) ∧ zs_C X d 8030 [.ref p0, .int (16 : Int32), .int (zs_I S14 8007 p0), .int (0 : Int32), .int (0 : Int32)] S14 (zs_kV (fun S17 => w_X9_membered_52 X d p0 S17 Q) Q))) Q)))))) Q))) Q))
theorem u_X9_membered_20 {σ : Nat → Nat} {n0 : Nat} {bf : ab_B} {d : Nat} {p0 : Nat} {p1 : Int32} {q0 : Option Nat} {q1 : Int32} {S : zs_T} {Q : zs_Q} (hB : zt_B bf) (h : w_X9_membered_20 (zx σ n0 bf) d p0 p1 q0 q1 S Q) : zs_U (zx σ n0 bf) d 8071 20 [(0, .ref p0), (1, .int p1)] [.int q1, va_rf q0] S Q := by
  unfold w_X9_membered_20 at h
  refine zu_iconst d_8071_20 zi_0 ?_
  refine zu_iconst d_8071_21 zi_0 ?_
  refine zu_iload_n d_8071_22 rfl ?_
  obtain ⟨b1, e2, h⟩ := h
  refine zs_stk4 (zs_rfe e2) ?_
  obtain ⟨k3, h⟩ := h
  refine zc_8_656 (x0 := q1) (x1 := (0 : Int32)) (x2 := (0 : Int32)) (x3 := p1) hB rfl k3 d_8071_23 (Nat.le_of_ble_eq_true rfl) h (fun v5 S4 h => ?_)
  refine zu_istore_n d_8071_26 (zs_lt zq_8071 rfl) ?_
  refine zu_aload_n d_8071_27 rfl (zs_ra _) ?_
  refine zu_bipush d_8071_28 zj_12 ?_
  obtain ⟨k6, h⟩ := h
  refine zc_8_535 (x0 := (12 : Int32)) hB rfl k6 d_8071_30 (Nat.le_of_ble_eq_true rfl) h (fun v8 S7 h => ?_)
  refine zu_ifeq (t := 63) d_8071_33 rfl (fun c9 => ?_) (fun c9 => ?_)
  · have h := h.1 c9
    refine zu_aload_n d_8071_63 rfl (zs_ra _) ?_
    refine zu_bipush d_8071_64 zj_11 ?_
    obtain ⟨k10, h⟩ := h
    refine zc_8_746 (x0 := (11 : Int32)) hB rfl k10 d_8071_66 (Nat.le_of_ble_eq_true rfl) h (fun S11 h => ?_)
    exact zu_vret d_8071_69 zr_8071 h
  · have h := h.2 c9
    refine zu_aload_n d_8071_36 rfl (zs_ra _) ?_
    obtain ⟨k13, h⟩ := h
    refine zc_8_538  hB rfl k13 d_8071_37 (Nat.le_of_ble_eq_true rfl) h (fun S14 h => ?_)
    refine zu_aload_n d_8071_40 rfl (zs_ra _) ?_
    refine zu_bipush d_8071_41 zj_16 ?_
    refine zu_aload_n d_8071_43 rfl (zs_ra _) ?_
    obtain ⟨k16, h⟩ := h
    refine zg_8_450 rfl d_8071_44 k16 ?_
    refine zu_iconst d_8071_47 zi_0 ?_
    refine zu_iconst d_8071_48 zi_0 ?_
    refine zc_8_649 (x0 := (16 : Int32)) (x1 := (zs_I S14 8007 p0)) (x2 := (0 : Int32)) (x3 := (0 : Int32)) hB rfl k16 d_8071_49 (Nat.le_of_ble_eq_true rfl) h (fun S17 h => ?_)
    exact (u_X9_membered_52 hB h).weak ⟨rfl, trivial⟩
def w_X9_membered_8 (X : zs_X) (d : Nat) (p0 : Nat) (p1 : Int32) (p2 : Int32) (S : zs_T) (Q : zs_Q) : Prop :=
  (((p2 = 0 → (w_X9_membered_20 X d p0 p1 (some p0) (55 : Int32) S Q)) ∧ (¬ (p2 = 0) → (w_X9_membered_20 X d p0 p1 (some p0) (56 : Int32) S Q))))
theorem u_X9_membered_8 {σ : Nat → Nat} {n0 : Nat} {bf : ab_B} {d : Nat} {p0 : Nat} {p1 : Int32} {p2 : Int32} {S : zs_T} {Q : zs_Q} (hB : zt_B bf) (h : w_X9_membered_8 (zx σ n0 bf) d p0 p1 p2 S Q) : zs_U (zx σ n0 bf) d 8071 8 [(0, .ref p0), (1, .int p1), (2, .int p2)] [] S Q := by
  unfold w_X9_membered_8 at h
  refine zu_aload_n d_8071_8 rfl (zs_ra _) ?_
  refine zu_iload_n d_8071_9 rfl ?_
  refine zu_ifeq (t := 18) d_8071_10 rfl (fun c1 => ?_) (fun c1 => ?_)
  · have h := h.1 c1
    refine zu_bipush d_8071_18 zj_55 ?_
    exact (u_X9_membered_20 hB h).weak ⟨rfl, rfl, trivial⟩
  · have h := h.2 c1
    refine zu_bipush d_8071_13 zj_56 ?_
    refine zu_goto (t := 20) d_8071_15 rfl ?_
    exact (u_X9_membered_20 hB h).weak ⟨rfl, rfl, trivial⟩
def w_X9_membered (X : zs_X) (d : Nat) (p0 : Nat) (p1 : Int32) (p2 : Int32) (S : zs_T) (Q : zs_Q) : Prop :=
  (((p2 = 0 → w_X9_membered_8 X d p0 p1 p2 S Q) ∧ (¬ (p2 = 0) → (zs_K S p0 = some (.inl 8) ∧ zs_C X d 8069 [.ref p0] S (zs_kV (fun S3 => w_X9_membered_8 X d p0 p1 p2 S3 Q) Q)))))
theorem u_X9_membered {σ : Nat → Nat} {n0 : Nat} {bf : ab_B} {d : Nat} {p0 : Nat} {p1 : Int32} {p2 : Int32} {S : zs_T} {Q : zs_Q} (hB : zt_B bf) (hd : 1 ≤ d) (h : w_X9_membered (zx σ n0 bf) (d - 1) p0 p1 p2 S Q) : zs_C (zx σ n0 bf) d 8071 [.ref p0, .int p1, .int p2] S Q := by
  have hL : lv_args 0 [.ref p0, .int p1, .int p2] = [(0, .ref p0), (1, .int p1), (2, .int p2)] := rfl
  refine zs_C.of1 (hB.2 8071 (by decide) (by decide)) hd (by rw [hL]; exact zs_sub_self _ (by exact ⟨rfl, rfl, rfl, trivial⟩)) ?_
  rw [hL]
  clear hL
  unfold w_X9_membered at h
  refine zu_iload_n d_8071_0 rfl ?_
  refine zu_ifeq (t := 8) d_8071_1 rfl (fun c1 => ?_) (fun c1 => ?_)
  · have h := h.1 c1
    exact (u_X9_membered_8 hB h).weak ⟨rfl, rfl, rfl, trivial⟩
  · have h := h.2 c1
    refine zu_aload_n d_8071_4 rfl (zs_ra _) ?_
    obtain ⟨k2, h⟩ := h
    refine zc_8_764  hB rfl k2 d_8071_5 (Nat.le_of_ble_eq_true rfl) h (fun S3 h => ?_)
    exact (u_X9_membered_8 hB h).weak ⟨rfl, rfl, rfl, trivial⟩
/-! SchemaPascalModel.parts()V -/
theorem zm_8072 {σ : Nat → Nat} {n0 : Nat} {bf : ab_B} : ab_code (zx σ n0 bf).1 8072 = prog_17_method_73_code := rfl
theorem zq_8072 {σ : Nat → Nat} {n0 : Nat} {bf : ab_B} : ab_maxL (zx σ n0 bf).1 8072 = 5 := rfl
theorem zr_8072 {σ : Nat → Nat} {n0 : Nat} {bf : ab_B} : ab_ret (zx σ n0 bf).1 8072 = (Option.none : Option Jvm.ClassFile.FieldType) := rfl
theorem d_8072_0 {σ : Nat → Nat} {n0 : Nat} {bf : ab_B} : decode (ab_code (zx σ n0 bf).1 8072) 0 = .ok (.aload_n 0, 1) := zd zm_8072 (by decide +kernel)
theorem d_8072_1 {σ : Nat → Nat} {n0 : Nat} {bf : ab_B} : decode (ab_code (zx σ n0 bf).1 8072) 1 = .ok (.getfield 653, 3) := zd zm_8072 (by decide +kernel)
theorem d_8072_4 {σ : Nat → Nat} {n0 : Nat} {bf : ab_B} : decode (ab_code (zx σ n0 bf).1 8072) 4 = .ok (.iconst 1, 1) := zd zm_8072 (by decide +kernel)
theorem d_8072_5 {σ : Nat → Nat} {n0 : Nat} {bf : ab_B} : decode (ab_code (zx σ n0 bf).1 8072) 5 = .ok (.isub, 1) := zd zm_8072 (by decide +kernel)
theorem d_8072_6 {σ : Nat → Nat} {n0 : Nat} {bf : ab_B} : decode (ab_code (zx σ n0 bf).1 8072) 6 = .ok (.istore_n 1, 1) := zd zm_8072 (by decide +kernel)
theorem d_8072_7 {σ : Nat → Nat} {n0 : Nat} {bf : ab_B} : decode (ab_code (zx σ n0 bf).1 8072) 7 = .ok (.aload_n 0, 1) := zd zm_8072 (by decide +kernel)
theorem d_8072_8 {σ : Nat → Nat} {n0 : Nat} {bf : ab_B} : decode (ab_code (zx σ n0 bf).1 8072) 8 = .ok (.getfield 191, 3) := zd zm_8072 (by decide +kernel)
theorem d_8072_11 {σ : Nat → Nat} {n0 : Nat} {bf : ab_B} : decode (ab_code (zx σ n0 bf).1 8072) 11 = .ok (.iload_n 1, 1) := zd zm_8072 (by decide +kernel)
theorem d_8072_12 {σ : Nat → Nat} {n0 : Nat} {bf : ab_B} : decode (ab_code (zx σ n0 bf).1 8072) 12 = .ok (.iaload, 1) := zd zm_8072 (by decide +kernel)
theorem d_8072_13 {σ : Nat → Nat} {n0 : Nat} {bf : ab_B} : decode (ab_code (zx σ n0 bf).1 8072) 13 = .ok (.istore_n 2, 1) := zd zm_8072 (by decide +kernel)
theorem d_8072_14 {σ : Nat → Nat} {n0 : Nat} {bf : ab_B} : decode (ab_code (zx σ n0 bf).1 8072) 14 = .ok (.aload_n 0, 1) := zd zm_8072 (by decide +kernel)
theorem d_8072_15 {σ : Nat → Nat} {n0 : Nat} {bf : ab_B} : decode (ab_code (zx σ n0 bf).1 8072) 15 = .ok (.getfield 444, 3) := zd zm_8072 (by decide +kernel)
theorem d_8072_18 {σ : Nat → Nat} {n0 : Nat} {bf : ab_B} : decode (ab_code (zx σ n0 bf).1 8072) 18 = .ok (.ifCond .gt 11, 3) := zd zm_8072 (by decide +kernel)
theorem d_8072_21 {σ : Nat → Nat} {n0 : Nat} {bf : ab_B} : decode (ab_code (zx σ n0 bf).1 8072) 21 = .ok (.aload_n 0, 1) := zd zm_8072 (by decide +kernel)
theorem d_8072_22 {σ : Nat → Nat} {n0 : Nat} {bf : ab_B} : decode (ab_code (zx σ n0 bf).1 8072) 22 = .ok (.getfield 484, 3) := zd zm_8072 (by decide +kernel)
theorem d_8072_25 {σ : Nat → Nat} {n0 : Nat} {bf : ab_B} : decode (ab_code (zx σ n0 bf).1 8072) 25 = .ok (.iconst 5, 1) := zd zm_8072 (by decide +kernel)
theorem d_8072_26 {σ : Nat → Nat} {n0 : Nat} {bf : ab_B} : decode (ab_code (zx σ n0 bf).1 8072) 26 = .ok (.if_icmp .eq 4, 3) := zd zm_8072 (by decide +kernel)
theorem d_8072_29 {σ : Nat → Nat} {n0 : Nat} {bf : ab_B} : decode (ab_code (zx σ n0 bf).1 8072) 29 = .ok (.return_, 1) := zd zm_8072 (by decide +kernel)
theorem d_8072_30 {σ : Nat → Nat} {n0 : Nat} {bf : ab_B} : decode (ab_code (zx σ n0 bf).1 8072) 30 = .ok (.aload_n 0, 1) := zd zm_8072 (by decide +kernel)
theorem d_8072_31 {σ : Nat → Nat} {n0 : Nat} {bf : ab_B} : decode (ab_code (zx σ n0 bf).1 8072) 31 = .ok (.getfield 450, 3) := zd zm_8072 (by decide +kernel)
theorem d_8072_34 {σ : Nat → Nat} {n0 : Nat} {bf : ab_B} : decode (ab_code (zx σ n0 bf).1 8072) 34 = .ok (.istore_n 3, 1) := zd zm_8072 (by decide +kernel)
theorem d_8072_35 {σ : Nat → Nat} {n0 : Nat} {bf : ab_B} : decode (ab_code (zx σ n0 bf).1 8072) 35 = .ok (.aload_n 0, 1) := zd zm_8072 (by decide +kernel)
theorem d_8072_36 {σ : Nat → Nat} {n0 : Nat} {bf : ab_B} : decode (ab_code (zx σ n0 bf).1 8072) 36 = .ok (.getfield 494, 3) := zd zm_8072 (by decide +kernel)
theorem d_8072_39 {σ : Nat → Nat} {n0 : Nat} {bf : ab_B} : decode (ab_code (zx σ n0 bf).1 8072) 39 = .ok (.bipush 16, 2) := zd zm_8072 (by decide +kernel)
theorem d_8072_41 {σ : Nat → Nat} {n0 : Nat} {bf : ab_B} : decode (ab_code (zx σ n0 bf).1 8072) 41 = .ok (.if_icmp .ne 52, 3) := zd zm_8072 (by decide +kernel)
theorem d_8072_44 {σ : Nat → Nat} {n0 : Nat} {bf : ab_B} : decode (ab_code (zx σ n0 bf).1 8072) 44 = .ok (.aload_n 0, 1) := zd zm_8072 (by decide +kernel)
theorem d_8072_45 {σ : Nat → Nat} {n0 : Nat} {bf : ab_B} : decode (ab_code (zx σ n0 bf).1 8072) 45 = .ok (.getfield 194, 3) := zd zm_8072 (by decide +kernel)
theorem d_8072_48 {σ : Nat → Nat} {n0 : Nat} {bf : ab_B} : decode (ab_code (zx σ n0 bf).1 8072) 48 = .ok (.iload_n 1, 1) := zd zm_8072 (by decide +kernel)
theorem d_8072_49 {σ : Nat → Nat} {n0 : Nat} {bf : ab_B} : decode (ab_code (zx σ n0 bf).1 8072) 49 = .ok (.baload, 1) := zd zm_8072 (by decide +kernel)
theorem d_8072_50 {σ : Nat → Nat} {n0 : Nat} {bf : ab_B} : decode (ab_code (zx σ n0 bf).1 8072) 50 = .ok (.ifCond .eq 26, 3) := zd zm_8072 (by decide +kernel)
theorem d_8072_53 {σ : Nat → Nat} {n0 : Nat} {bf : ab_B} : decode (ab_code (zx σ n0 bf).1 8072) 53 = .ok (.aload_n 0, 1) := zd zm_8072 (by decide +kernel)
theorem d_8072_54 {σ : Nat → Nat} {n0 : Nat} {bf : ab_B} : decode (ab_code (zx σ n0 bf).1 8072) 54 = .ok (.getfield 90, 3) := zd zm_8072 (by decide +kernel)
theorem d_8072_57 {σ : Nat → Nat} {n0 : Nat} {bf : ab_B} : decode (ab_code (zx σ n0 bf).1 8072) 57 = .ok (.aload_n 0, 1) := zd zm_8072 (by decide +kernel)
theorem d_8072_58 {σ : Nat → Nat} {n0 : Nat} {bf : ab_B} : decode (ab_code (zx σ n0 bf).1 8072) 58 = .ok (.iload_n 2, 1) := zd zm_8072 (by decide +kernel)
theorem d_8072_59 {σ : Nat → Nat} {n0 : Nat} {bf : ab_B} : decode (ab_code (zx σ n0 bf).1 8072) 59 = .ok (.invokevirtual 730, 3) := zd zm_8072 (by decide +kernel)
theorem d_8072_62 {σ : Nat → Nat} {n0 : Nat} {bf : ab_B} : decode (ab_code (zx σ n0 bf).1 8072) 62 = .ok (.baload, 1) := zd zm_8072 (by decide +kernel)
theorem d_8072_63 {σ : Nat → Nat} {n0 : Nat} {bf : ab_B} : decode (ab_code (zx σ n0 bf).1 8072) 63 = .ok (.bipush 9, 2) := zd zm_8072 (by decide +kernel)
theorem d_8072_65 {σ : Nat → Nat} {n0 : Nat} {bf : ab_B} : decode (ab_code (zx σ n0 bf).1 8072) 65 = .ok (.if_icmp .eq 16, 3) := zd zm_8072 (by decide +kernel)
theorem d_8072_68 {σ : Nat → Nat} {n0 : Nat} {bf : ab_B} : decode (ab_code (zx σ n0 bf).1 8072) 68 = .ok (.aload_n 0, 1) := zd zm_8072 (by decide +kernel)
theorem d_8072_69 {σ : Nat → Nat} {n0 : Nat} {bf : ab_B} : decode (ab_code (zx σ n0 bf).1 8072) 69 = .ok (.iload_n 2, 1) := zd zm_8072 (by decide +kernel)
theorem d_8072_70 {σ : Nat → Nat} {n0 : Nat} {bf : ab_B} : decode (ab_code (zx σ n0 bf).1 8072) 70 = .ok (.invokevirtual 727, 3) := zd zm_8072 (by decide +kernel)
theorem d_8072_73 {σ : Nat → Nat} {n0 : Nat} {bf : ab_B} : decode (ab_code (zx σ n0 bf).1 8072) 73 = .ok (.ifCond .ne 8, 3) := zd zm_8072 (by decide +kernel)
theorem d_8072_76 {σ : Nat → Nat} {n0 : Nat} {bf : ab_B} : decode (ab_code (zx σ n0 bf).1 8072) 76 = .ok (.aload_n 0, 1) := zd zm_8072 (by decide +kernel)
theorem d_8072_77 {σ : Nat → Nat} {n0 : Nat} {bf : ab_B} : decode (ab_code (zx σ n0 bf).1 8072) 77 = .ok (.iconst 5, 1) := zd zm_8072 (by decide +kernel)
theorem d_8072_78 {σ : Nat → Nat} {n0 : Nat} {bf : ab_B} : decode (ab_code (zx σ n0 bf).1 8072) 78 = .ok (.invokevirtual 541, 3) := zd zm_8072 (by decide +kernel)
theorem d_8072_81 {σ : Nat → Nat} {n0 : Nat} {bf : ab_B} : decode (ab_code (zx σ n0 bf).1 8072) 81 = .ok (.aload_n 0, 1) := zd zm_8072 (by decide +kernel)
theorem d_8072_82 {σ : Nat → Nat} {n0 : Nat} {bf : ab_B} : decode (ab_code (zx σ n0 bf).1 8072) 82 = .ok (.invokevirtual 538, 3) := zd zm_8072 (by decide +kernel)
theorem d_8072_85 {σ : Nat → Nat} {n0 : Nat} {bf : ab_B} : decode (ab_code (zx σ n0 bf).1 8072) 85 = .ok (.aload_n 0, 1) := zd zm_8072 (by decide +kernel)
theorem d_8072_86 {σ : Nat → Nat} {n0 : Nat} {bf : ab_B} : decode (ab_code (zx σ n0 bf).1 8072) 86 = .ok (.iload_n 3, 1) := zd zm_8072 (by decide +kernel)
theorem d_8072_87 {σ : Nat → Nat} {n0 : Nat} {bf : ab_B} : decode (ab_code (zx σ n0 bf).1 8072) 87 = .ok (.invokevirtual 733, 3) := zd zm_8072 (by decide +kernel)
theorem d_8072_90 {σ : Nat → Nat} {n0 : Nat} {bf : ab_B} : decode (ab_code (zx σ n0 bf).1 8072) 90 = .ok (.goto 173, 3) := zd zm_8072 (by decide +kernel)
theorem d_8072_93 {σ : Nat → Nat} {n0 : Nat} {bf : ab_B} : decode (ab_code (zx σ n0 bf).1 8072) 93 = .ok (.aload_n 0, 1) := zd zm_8072 (by decide +kernel)
theorem d_8072_94 {σ : Nat → Nat} {n0 : Nat} {bf : ab_B} : decode (ab_code (zx σ n0 bf).1 8072) 94 = .ok (.getfield 494, 3) := zd zm_8072 (by decide +kernel)
theorem d_8072_97 {σ : Nat → Nat} {n0 : Nat} {bf : ab_B} : decode (ab_code (zx σ n0 bf).1 8072) 97 = .ok (.bipush 10, 2) := zd zm_8072 (by decide +kernel)
theorem d_8072_99 {σ : Nat → Nat} {n0 : Nat} {bf : ab_B} : decode (ab_code (zx σ n0 bf).1 8072) 99 = .ok (.if_icmp .ne 69, 3) := zd zm_8072 (by decide +kernel)
theorem d_8072_102 {σ : Nat → Nat} {n0 : Nat} {bf : ab_B} : decode (ab_code (zx σ n0 bf).1 8072) 102 = .ok (.aload_n 0, 1) := zd zm_8072 (by decide +kernel)
theorem d_8072_103 {σ : Nat → Nat} {n0 : Nat} {bf : ab_B} : decode (ab_code (zx σ n0 bf).1 8072) 103 = .ok (.bipush 18, 2) := zd zm_8072 (by decide +kernel)
theorem d_8072_105 {σ : Nat → Nat} {n0 : Nat} {bf : ab_B} : decode (ab_code (zx σ n0 bf).1 8072) 105 = .ok (.iconst 0, 1) := zd zm_8072 (by decide +kernel)
theorem d_8072_106 {σ : Nat → Nat} {n0 : Nat} {bf : ab_B} : decode (ab_code (zx σ n0 bf).1 8072) 106 = .ok (.iconst 0, 1) := zd zm_8072 (by decide +kernel)
theorem d_8072_107 {σ : Nat → Nat} {n0 : Nat} {bf : ab_B} : decode (ab_code (zx σ n0 bf).1 8072) 107 = .ok (.iconst 0, 1) := zd zm_8072 (by decide +kernel)
theorem d_8072_108 {σ : Nat → Nat} {n0 : Nat} {bf : ab_B} : decode (ab_code (zx σ n0 bf).1 8072) 108 = .ok (.invokevirtual 649, 3) := zd zm_8072 (by decide +kernel)
theorem d_8072_111 {σ : Nat → Nat} {n0 : Nat} {bf : ab_B} : decode (ab_code (zx σ n0 bf).1 8072) 111 = .ok (.aload_n 0, 1) := zd zm_8072 (by decide +kernel)
theorem d_8072_112 {σ : Nat → Nat} {n0 : Nat} {bf : ab_B} : decode (ab_code (zx σ n0 bf).1 8072) 112 = .ok (.invokevirtual 706, 3) := zd zm_8072 (by decide +kernel)
theorem d_8072_115 {σ : Nat → Nat} {n0 : Nat} {bf : ab_B} : decode (ab_code (zx σ n0 bf).1 8072) 115 = .ok (.aload_n 0, 1) := zd zm_8072 (by decide +kernel)
theorem d_8072_116 {σ : Nat → Nat} {n0 : Nat} {bf : ab_B} : decode (ab_code (zx σ n0 bf).1 8072) 116 = .ok (.getfield 194, 3) := zd zm_8072 (by decide +kernel)
theorem d_8072_119 {σ : Nat → Nat} {n0 : Nat} {bf : ab_B} : decode (ab_code (zx σ n0 bf).1 8072) 119 = .ok (.iload_n 1, 1) := zd zm_8072 (by decide +kernel)
theorem d_8072_120 {σ : Nat → Nat} {n0 : Nat} {bf : ab_B} : decode (ab_code (zx σ n0 bf).1 8072) 120 = .ok (.baload, 1) := zd zm_8072 (by decide +kernel)
theorem d_8072_121 {σ : Nat → Nat} {n0 : Nat} {bf : ab_B} : decode (ab_code (zx σ n0 bf).1 8072) 121 = .ok (.ifCond .eq 18, 3) := zd zm_8072 (by decide +kernel)
theorem d_8072_124 {σ : Nat → Nat} {n0 : Nat} {bf : ab_B} : decode (ab_code (zx σ n0 bf).1 8072) 124 = .ok (.aload_n 0, 1) := zd zm_8072 (by decide +kernel)
theorem d_8072_125 {σ : Nat → Nat} {n0 : Nat} {bf : ab_B} : decode (ab_code (zx σ n0 bf).1 8072) 125 = .ok (.getfield 90, 3) := zd zm_8072 (by decide +kernel)
theorem d_8072_128 {σ : Nat → Nat} {n0 : Nat} {bf : ab_B} : decode (ab_code (zx σ n0 bf).1 8072) 128 = .ok (.aload_n 0, 1) := zd zm_8072 (by decide +kernel)
theorem d_8072_129 {σ : Nat → Nat} {n0 : Nat} {bf : ab_B} : decode (ab_code (zx σ n0 bf).1 8072) 129 = .ok (.iload_n 2, 1) := zd zm_8072 (by decide +kernel)
theorem d_8072_130 {σ : Nat → Nat} {n0 : Nat} {bf : ab_B} : decode (ab_code (zx σ n0 bf).1 8072) 130 = .ok (.invokevirtual 730, 3) := zd zm_8072 (by decide +kernel)
theorem d_8072_133 {σ : Nat → Nat} {n0 : Nat} {bf : ab_B} : decode (ab_code (zx σ n0 bf).1 8072) 133 = .ok (.baload, 1) := zd zm_8072 (by decide +kernel)
theorem d_8072_134 {σ : Nat → Nat} {n0 : Nat} {bf : ab_B} : decode (ab_code (zx σ n0 bf).1 8072) 134 = .ok (.bipush 8, 2) := zd zm_8072 (by decide +kernel)
theorem d_8072_136 {σ : Nat → Nat} {n0 : Nat} {bf : ab_B} : decode (ab_code (zx σ n0 bf).1 8072) 136 = .ok (.if_icmp .eq 8, 3) := zd zm_8072 (by decide +kernel)
theorem d_8072_139 {σ : Nat → Nat} {n0 : Nat} {bf : ab_B} : decode (ab_code (zx σ n0 bf).1 8072) 139 = .ok (.aload_n 0, 1) := zd zm_8072 (by decide +kernel)
theorem d_8072_140 {σ : Nat → Nat} {n0 : Nat} {bf : ab_B} : decode (ab_code (zx σ n0 bf).1 8072) 140 = .ok (.iconst 5, 1) := zd zm_8072 (by decide +kernel)
theorem d_8072_141 {σ : Nat → Nat} {n0 : Nat} {bf : ab_B} : decode (ab_code (zx σ n0 bf).1 8072) 141 = .ok (.invokevirtual 541, 3) := zd zm_8072 (by decide +kernel)
theorem d_8072_144 {σ : Nat → Nat} {n0 : Nat} {bf : ab_B} : decode (ab_code (zx σ n0 bf).1 8072) 144 = .ok (.aload_n 0, 1) := zd zm_8072 (by decide +kernel)
theorem d_8072_145 {σ : Nat → Nat} {n0 : Nat} {bf : ab_B} : decode (ab_code (zx σ n0 bf).1 8072) 145 = .ok (.bipush 19, 2) := zd zm_8072 (by decide +kernel)
theorem d_8072_147 {σ : Nat → Nat} {n0 : Nat} {bf : ab_B} : decode (ab_code (zx σ n0 bf).1 8072) 147 = .ok (.iload_n 3, 1) := zd zm_8072 (by decide +kernel)
theorem d_8072_148 {σ : Nat → Nat} {n0 : Nat} {bf : ab_B} : decode (ab_code (zx σ n0 bf).1 8072) 148 = .ok (.iconst 0, 1) := zd zm_8072 (by decide +kernel)
theorem d_8072_149 {σ : Nat → Nat} {n0 : Nat} {bf : ab_B} : decode (ab_code (zx σ n0 bf).1 8072) 149 = .ok (.iconst 0, 1) := zd zm_8072 (by decide +kernel)
theorem d_8072_150 {σ : Nat → Nat} {n0 : Nat} {bf : ab_B} : decode (ab_code (zx σ n0 bf).1 8072) 150 = .ok (.invokevirtual 649, 3) := zd zm_8072 (by decide +kernel)
theorem d_8072_153 {σ : Nat → Nat} {n0 : Nat} {bf : ab_B} : decode (ab_code (zx σ n0 bf).1 8072) 153 = .ok (.aload_n 0, 1) := zd zm_8072 (by decide +kernel)
theorem d_8072_154 {σ : Nat → Nat} {n0 : Nat} {bf : ab_B} : decode (ab_code (zx σ n0 bf).1 8072) 154 = .ok (.iconst 2, 1) := zd zm_8072 (by decide +kernel)
theorem d_8072_155 {σ : Nat → Nat} {n0 : Nat} {bf : ab_B} : decode (ab_code (zx σ n0 bf).1 8072) 155 = .ok (.iconst 0, 1) := zd zm_8072 (by decide +kernel)
theorem d_8072_156 {σ : Nat → Nat} {n0 : Nat} {bf : ab_B} : decode (ab_code (zx σ n0 bf).1 8072) 156 = .ok (.iconst 0, 1) := zd zm_8072 (by decide +kernel)
theorem d_8072_157 {σ : Nat → Nat} {n0 : Nat} {bf : ab_B} : decode (ab_code (zx σ n0 bf).1 8072) 157 = .ok (.iconst 0, 1) := zd zm_8072 (by decide +kernel)
theorem d_8072_158 {σ : Nat → Nat} {n0 : Nat} {bf : ab_B} : decode (ab_code (zx σ n0 bf).1 8072) 158 = .ok (.invokevirtual 649, 3) := zd zm_8072 (by decide +kernel)
theorem d_8072_161 {σ : Nat → Nat} {n0 : Nat} {bf : ab_B} : decode (ab_code (zx σ n0 bf).1 8072) 161 = .ok (.aload_n 0, 1) := zd zm_8072 (by decide +kernel)
theorem d_8072_162 {σ : Nat → Nat} {n0 : Nat} {bf : ab_B} : decode (ab_code (zx σ n0 bf).1 8072) 162 = .ok (.invokevirtual 538, 3) := zd zm_8072 (by decide +kernel)
theorem d_8072_165 {σ : Nat → Nat} {n0 : Nat} {bf : ab_B} : decode (ab_code (zx σ n0 bf).1 8072) 165 = .ok (.goto 98, 3) := zd zm_8072 (by decide +kernel)
theorem d_8072_168 {σ : Nat → Nat} {n0 : Nat} {bf : ab_B} : decode (ab_code (zx σ n0 bf).1 8072) 168 = .ok (.aload_n 0, 1) := zd zm_8072 (by decide +kernel)
theorem d_8072_169 {σ : Nat → Nat} {n0 : Nat} {bf : ab_B} : decode (ab_code (zx σ n0 bf).1 8072) 169 = .ok (.getfield 494, 3) := zd zm_8072 (by decide +kernel)
theorem d_8072_172 {σ : Nat → Nat} {n0 : Nat} {bf : ab_B} : decode (ab_code (zx σ n0 bf).1 8072) 172 = .ok (.bipush 15, 2) := zd zm_8072 (by decide +kernel)
theorem d_8072_174 {σ : Nat → Nat} {n0 : Nat} {bf : ab_B} : decode (ab_code (zx σ n0 bf).1 8072) 174 = .ok (.if_icmp .ne 89, 3) := zd zm_8072 (by decide +kernel)
theorem d_8072_177 {σ : Nat → Nat} {n0 : Nat} {bf : ab_B} : decode (ab_code (zx σ n0 bf).1 8072) 177 = .ok (.aload_n 0, 1) := zd zm_8072 (by decide +kernel)
theorem d_8072_178 {σ : Nat → Nat} {n0 : Nat} {bf : ab_B} : decode (ab_code (zx σ n0 bf).1 8072) 178 = .ok (.getfield 194, 3) := zd zm_8072 (by decide +kernel)
theorem d_8072_181 {σ : Nat → Nat} {n0 : Nat} {bf : ab_B} : decode (ab_code (zx σ n0 bf).1 8072) 181 = .ok (.iload_n 1, 1) := zd zm_8072 (by decide +kernel)
theorem d_8072_182 {σ : Nat → Nat} {n0 : Nat} {bf : ab_B} : decode (ab_code (zx σ n0 bf).1 8072) 182 = .ok (.baload, 1) := zd zm_8072 (by decide +kernel)
theorem d_8072_183 {σ : Nat → Nat} {n0 : Nat} {bf : ab_B} : decode (ab_code (zx σ n0 bf).1 8072) 183 = .ok (.ifCond .eq 14, 3) := zd zm_8072 (by decide +kernel)
theorem d_8072_186 {σ : Nat → Nat} {n0 : Nat} {bf : ab_B} : decode (ab_code (zx σ n0 bf).1 8072) 186 = .ok (.aload_n 0, 1) := zd zm_8072 (by decide +kernel)
theorem d_8072_187 {σ : Nat → Nat} {n0 : Nat} {bf : ab_B} : decode (ab_code (zx σ n0 bf).1 8072) 187 = .ok (.getfield 90, 3) := zd zm_8072 (by decide +kernel)
theorem d_8072_190 {σ : Nat → Nat} {n0 : Nat} {bf : ab_B} : decode (ab_code (zx σ n0 bf).1 8072) 190 = .ok (.iload_n 2, 1) := zd zm_8072 (by decide +kernel)
theorem d_8072_191 {σ : Nat → Nat} {n0 : Nat} {bf : ab_B} : decode (ab_code (zx σ n0 bf).1 8072) 191 = .ok (.baload, 1) := zd zm_8072 (by decide +kernel)
theorem d_8072_192 {σ : Nat → Nat} {n0 : Nat} {bf : ab_B} : decode (ab_code (zx σ n0 bf).1 8072) 192 = .ok (.bipush 10, 2) := zd zm_8072 (by decide +kernel)
theorem d_8072_194 {σ : Nat → Nat} {n0 : Nat} {bf : ab_B} : decode (ab_code (zx σ n0 bf).1 8072) 194 = .ok (.if_icmp .eq 9, 3) := zd zm_8072 (by decide +kernel)
theorem d_8072_197 {σ : Nat → Nat} {n0 : Nat} {bf : ab_B} : decode (ab_code (zx σ n0 bf).1 8072) 197 = .ok (.aload_n 0, 1) := zd zm_8072 (by decide +kernel)
theorem d_8072_198 {σ : Nat → Nat} {n0 : Nat} {bf : ab_B} : decode (ab_code (zx σ n0 bf).1 8072) 198 = .ok (.iconst 5, 1) := zd zm_8072 (by decide +kernel)
theorem d_8072_199 {σ : Nat → Nat} {n0 : Nat} {bf : ab_B} : decode (ab_code (zx σ n0 bf).1 8072) 199 = .ok (.invokevirtual 541, 3) := zd zm_8072 (by decide +kernel)
theorem d_8072_202 {σ : Nat → Nat} {n0 : Nat} {bf : ab_B} : decode (ab_code (zx σ n0 bf).1 8072) 202 = .ok (.return_, 1) := zd zm_8072 (by decide +kernel)
theorem d_8072_203 {σ : Nat → Nat} {n0 : Nat} {bf : ab_B} : decode (ab_code (zx σ n0 bf).1 8072) 203 = .ok (.aload_n 0, 1) := zd zm_8072 (by decide +kernel)
theorem d_8072_204 {σ : Nat → Nat} {n0 : Nat} {bf : ab_B} : decode (ab_code (zx σ n0 bf).1 8072) 204 = .ok (.bipush 8, 2) := zd zm_8072 (by decide +kernel)
theorem d_8072_206 {σ : Nat → Nat} {n0 : Nat} {bf : ab_B} : decode (ab_code (zx σ n0 bf).1 8072) 206 = .ok (.iconst 0, 1) := zd zm_8072 (by decide +kernel)
theorem d_8072_207 {σ : Nat → Nat} {n0 : Nat} {bf : ab_B} : decode (ab_code (zx σ n0 bf).1 8072) 207 = .ok (.iconst 0, 1) := zd zm_8072 (by decide +kernel)
theorem d_8072_208 {σ : Nat → Nat} {n0 : Nat} {bf : ab_B} : decode (ab_code (zx σ n0 bf).1 8072) 208 = .ok (.iload_n 3, 1) := zd zm_8072 (by decide +kernel)
theorem d_8072_209 {σ : Nat → Nat} {n0 : Nat} {bf : ab_B} : decode (ab_code (zx σ n0 bf).1 8072) 209 = .ok (.invokevirtual 656, 3) := zd zm_8072 (by decide +kernel)
theorem d_8072_212 {σ : Nat → Nat} {n0 : Nat} {bf : ab_B} : decode (ab_code (zx σ n0 bf).1 8072) 212 = .ok (.istore 4, 2) := zd zm_8072 (by decide +kernel)
theorem d_8072_214 {σ : Nat → Nat} {n0 : Nat} {bf : ab_B} : decode (ab_code (zx σ n0 bf).1 8072) 214 = .ok (.aload_n 0, 1) := zd zm_8072 (by decide +kernel)
theorem d_8072_215 {σ : Nat → Nat} {n0 : Nat} {bf : ab_B} : decode (ab_code (zx σ n0 bf).1 8072) 215 = .ok (.bipush 6, 2) := zd zm_8072 (by decide +kernel)
theorem d_8072_217 {σ : Nat → Nat} {n0 : Nat} {bf : ab_B} : decode (ab_code (zx σ n0 bf).1 8072) 217 = .ok (.iconst 0, 1) := zd zm_8072 (by decide +kernel)
theorem d_8072_218 {σ : Nat → Nat} {n0 : Nat} {bf : ab_B} : decode (ab_code (zx σ n0 bf).1 8072) 218 = .ok (.iconst 0, 1) := zd zm_8072 (by decide +kernel)
theorem d_8072_219 {σ : Nat → Nat} {n0 : Nat} {bf : ab_B} : decode (ab_code (zx σ n0 bf).1 8072) 219 = .ok (.iload_n 3, 1) := zd zm_8072 (by decide +kernel)
theorem d_8072_220 {σ : Nat → Nat} {n0 : Nat} {bf : ab_B} : decode (ab_code (zx σ n0 bf).1 8072) 220 = .ok (.invokevirtual 656, 3) := zd zm_8072 (by decide +kernel)
theorem d_8072_223 {σ : Nat → Nat} {n0 : Nat} {bf : ab_B} : decode (ab_code (zx σ n0 bf).1 8072) 223 = .ok (.istore 4, 2) := zd zm_8072 (by decide +kernel)
theorem d_8072_225 {σ : Nat → Nat} {n0 : Nat} {bf : ab_B} : decode (ab_code (zx σ n0 bf).1 8072) 225 = .ok (.aload_n 0, 1) := zd zm_8072 (by decide +kernel)
theorem d_8072_226 {σ : Nat → Nat} {n0 : Nat} {bf : ab_B} : decode (ab_code (zx σ n0 bf).1 8072) 226 = .ok (.getfield 191, 3) := zd zm_8072 (by decide +kernel)
theorem d_8072_229 {σ : Nat → Nat} {n0 : Nat} {bf : ab_B} : decode (ab_code (zx σ n0 bf).1 8072) 229 = .ok (.iload_n 1, 1) := zd zm_8072 (by decide +kernel)
theorem d_8072_230 {σ : Nat → Nat} {n0 : Nat} {bf : ab_B} : decode (ab_code (zx σ n0 bf).1 8072) 230 = .ok (.aload_n 0, 1) := zd zm_8072 (by decide +kernel)
theorem d_8072_231 {σ : Nat → Nat} {n0 : Nat} {bf : ab_B} : decode (ab_code (zx σ n0 bf).1 8072) 231 = .ok (.iload_n 2, 1) := zd zm_8072 (by decide +kernel)
theorem d_8072_232 {σ : Nat → Nat} {n0 : Nat} {bf : ab_B} : decode (ab_code (zx σ n0 bf).1 8072) 232 = .ok (.invokevirtual 736, 3) := zd zm_8072 (by decide +kernel)
theorem d_8072_235 {σ : Nat → Nat} {n0 : Nat} {bf : ab_B} : decode (ab_code (zx σ n0 bf).1 8072) 235 = .ok (.iastore, 1) := zd zm_8072 (by decide +kernel)
theorem d_8072_236 {σ : Nat → Nat} {n0 : Nat} {bf : ab_B} : decode (ab_code (zx σ n0 bf).1 8072) 236 = .ok (.aload_n 0, 1) := zd zm_8072 (by decide +kernel)
theorem d_8072_237 {σ : Nat → Nat} {n0 : Nat} {bf : ab_B} : decode (ab_code (zx σ n0 bf).1 8072) 237 = .ok (.getfield 200, 3) := zd zm_8072 (by decide +kernel)
theorem d_8072_240 {σ : Nat → Nat} {n0 : Nat} {bf : ab_B} : decode (ab_code (zx σ n0 bf).1 8072) 240 = .ok (.iload_n 1, 1) := zd zm_8072 (by decide +kernel)
theorem d_8072_241 {σ : Nat → Nat} {n0 : Nat} {bf : ab_B} : decode (ab_code (zx σ n0 bf).1 8072) 241 = .ok (.iconst 0, 1) := zd zm_8072 (by decide +kernel)
theorem d_8072_242 {σ : Nat → Nat} {n0 : Nat} {bf : ab_B} : decode (ab_code (zx σ n0 bf).1 8072) 242 = .ok (.iastore, 1) := zd zm_8072 (by decide +kernel)
theorem d_8072_243 {σ : Nat → Nat} {n0 : Nat} {bf : ab_B} : decode (ab_code (zx σ n0 bf).1 8072) 243 = .ok (.aload_n 0, 1) := zd zm_8072 (by decide +kernel)
theorem d_8072_244 {σ : Nat → Nat} {n0 : Nat} {bf : ab_B} : decode (ab_code (zx σ n0 bf).1 8072) 244 = .ok (.getfield 206, 3) := zd zm_8072 (by decide +kernel)
theorem d_8072_247 {σ : Nat → Nat} {n0 : Nat} {bf : ab_B} : decode (ab_code (zx σ n0 bf).1 8072) 247 = .ok (.iload_n 1, 1) := zd zm_8072 (by decide +kernel)
theorem d_8072_248 {σ : Nat → Nat} {n0 : Nat} {bf : ab_B} : decode (ab_code (zx σ n0 bf).1 8072) 248 = .ok (.iload_n 3, 1) := zd zm_8072 (by decide +kernel)
theorem d_8072_249 {σ : Nat → Nat} {n0 : Nat} {bf : ab_B} : decode (ab_code (zx σ n0 bf).1 8072) 249 = .ok (.iastore, 1) := zd zm_8072 (by decide +kernel)
theorem d_8072_250 {σ : Nat → Nat} {n0 : Nat} {bf : ab_B} : decode (ab_code (zx σ n0 bf).1 8072) 250 = .ok (.aload_n 0, 1) := zd zm_8072 (by decide +kernel)
theorem d_8072_251 {σ : Nat → Nat} {n0 : Nat} {bf : ab_B} : decode (ab_code (zx σ n0 bf).1 8072) 251 = .ok (.invokevirtual 538, 3) := zd zm_8072 (by decide +kernel)
theorem d_8072_254 {σ : Nat → Nat} {n0 : Nat} {bf : ab_B} : decode (ab_code (zx σ n0 bf).1 8072) 254 = .ok (.aload_n 0, 1) := zd zm_8072 (by decide +kernel)
theorem d_8072_255 {σ : Nat → Nat} {n0 : Nat} {bf : ab_B} : decode (ab_code (zx σ n0 bf).1 8072) 255 = .ok (.bipush 18, 2) := zd zm_8072 (by decide +kernel)
theorem d_8072_257 {σ : Nat → Nat} {n0 : Nat} {bf : ab_B} : decode (ab_code (zx σ n0 bf).1 8072) 257 = .ok (.iconst 0, 1) := zd zm_8072 (by decide +kernel)
theorem d_8072_258 {σ : Nat → Nat} {n0 : Nat} {bf : ab_B} : decode (ab_code (zx σ n0 bf).1 8072) 258 = .ok (.iconst 0, 1) := zd zm_8072 (by decide +kernel)
theorem d_8072_259 {σ : Nat → Nat} {n0 : Nat} {bf : ab_B} : decode (ab_code (zx σ n0 bf).1 8072) 259 = .ok (.iconst 0, 1) := zd zm_8072 (by decide +kernel)
theorem d_8072_260 {σ : Nat → Nat} {n0 : Nat} {bf : ab_B} : decode (ab_code (zx σ n0 bf).1 8072) 260 = .ok (.invokevirtual 649, 3) := zd zm_8072 (by decide +kernel)
theorem d_8072_263 {σ : Nat → Nat} {n0 : Nat} {bf : ab_B} : decode (ab_code (zx σ n0 bf).1 8072) 263 = .ok (.return_, 1) := zd zm_8072 (by decide +kernel)
def w_X9_parts_29 (X : zs_X) (d : Nat)  (S : zs_T) (Q : zs_Q) : Prop :=
  (Q (.returned none) S)
theorem u_X9_parts_29 {σ : Nat → Nat} {n0 : Nat} {bf : ab_B} {d : Nat}  {S : zs_T} {Q : zs_Q} (hB : zt_B bf) (h : w_X9_parts_29 (zx σ n0 bf) d  S Q) : zs_U (zx σ n0 bf) d 8072 29 [] [] S Q := by
  unfold w_X9_parts_29 at h
  exact zu_vret d_8072_29 zr_8072 h
def w_X9_parts_197 (X : zs_X) (d : Nat) (p0 : Nat) (S : zs_T) (Q : zs_Q) : Prop :=
  (zs_K S p0 = some (.inl 8) ∧ zs_C X d 8027 [.ref p0, .int (5 : Int32)] S (zs_kV (fun S2 => (Q (.returned none) S2)) Q))
theorem u_X9_parts_197 {σ : Nat → Nat} {n0 : Nat} {bf : ab_B} {d : Nat} {p0 : Nat} {S : zs_T} {Q : zs_Q} (hB : zt_B bf) (h : w_X9_parts_197 (zx σ n0 bf) d p0 S Q) : zs_U (zx σ n0 bf) d 8072 197 [(0, .ref p0)] [] S Q := by
  unfold w_X9_parts_197 at h
  refine zu_aload_n d_8072_197 rfl (zs_ra _) ?_
  refine zu_iconst d_8072_198 zi_5 ?_
  obtain ⟨k1, h⟩ := h
  refine zc_8_541 (x0 := (5 : Int32)) hB rfl k1 d_8072_199 (Nat.le_of_ble_eq_true rfl) h (fun S2 h => ?_)
  exact zu_vret d_8072_202 zr_8072 h
def w_X9_parts_250 (X : zs_X) (d : Nat) (p0 : Nat) (S : zs_T) (Q : zs_Q) : Prop :=
  (zs_K S p0 = some (.inl 8) ∧ zs_C X d 8014 [.ref p0] S (zs_kV (fun S2 => (zs_K S2 p0 = some (.inl 8) ∧ zs_C X d 8030 [.ref p0, .int (18 : Int32), .int (0 : Int32), .int (0 : Int32), .int (0 : Int32)] S2 (zs_kV (fun S5 => (Q (.returned none) S5)) Q))) Q))
theorem u_X9_parts_250 {σ : Nat → Nat} {n0 : Nat} {bf : ab_B} {d : Nat} {p0 : Nat} {S : zs_T} {Q : zs_Q} (hB : zt_B bf) (h : w_X9_parts_250 (zx σ n0 bf) d p0 S Q) : zs_U (zx σ n0 bf) d 8072 250 [(0, .ref p0)] [] S Q := by
  unfold w_X9_parts_250 at h
  refine zu_aload_n d_8072_250 rfl (zs_ra _) ?_
  obtain ⟨k1, h⟩ := h
  refine zc_8_538  hB rfl k1 d_8072_251 (Nat.le_of_ble_eq_true rfl) h (fun S2 h => ?_)
  refine zu_aload_n d_8072_254 rfl (zs_ra _) ?_
  refine zu_bipush d_8072_255 zj_18 ?_
  refine zu_iconst d_8072_257 zi_0 ?_
  refine zu_iconst d_8072_258 zi_0 ?_
  refine zu_iconst d_8072_259 zi_0 ?_
  obtain ⟨k4, h⟩ := h
  refine zc_8_649 (x0 := (18 : Int32)) (x1 := (0 : Int32)) (x2 := (0 : Int32)) (x3 := (0 : Int32)) hB rfl k4 d_8072_260 (Nat.le_of_ble_eq_true rfl) h (fun S5 h => ?_)
  exact zu_vret d_8072_263 zr_8072 h
def w_X9_parts_225 (X : zs_X) (d : Nat) (p0 : Nat) (p1 : Int32) (p2 : Int32) (p3 : Int32) (S : zs_T) (Q : zs_Q) : Prop :=
  (zs_K S p0 = some (.inl 8) ∧ zs_C X d 8078 [.ref p0, .int p2] S (zs_kI (fun v3 S2 => (∃ b4, (zs_R S 8091 p0) = some b4 ∧ zs_A S2 b4 0 p1 ∧ ab_n0 X.1 ≤ b4 ∧ ∀ S8, S8 = zs_si S2 b4 p1.toNatClampNeg v3 → zs_K S2 p0 = some (.inl 8) ∧ ∃ b12, (zs_R S8 8094 p0) = some b12 ∧ zs_A S2 b12 0 p1 ∧ ab_n0 X.1 ≤ b12 ∧ ∀ S16, S16 = zs_si S8 b12 p1.toNatClampNeg (0 : Int32) → ∃ b19, (zs_R S16 8096 p0) = some b19 ∧ zs_A S2 b19 0 p1 ∧ ab_n0 X.1 ≤ b19 ∧ ∀ S23, S23 = zs_si S16 b19 p1.toNatClampNeg p3 → w_X9_parts_250 X d p0 S23 Q)) Q))
theorem u_X9_parts_225 {σ : Nat → Nat} {n0 : Nat} {bf : ab_B} {d : Nat} {p0 : Nat} {p1 : Int32} {p2 : Int32} {p3 : Int32} {S : zs_T} {Q : zs_Q} (hB : zt_B bf) (h : w_X9_parts_225 (zx σ n0 bf) d p0 p1 p2 p3 S Q) : zs_U (zx σ n0 bf) d 8072 225 [(0, .ref p0), (1, .int p1), (2, .int p2), (3, .int p3)] [] S Q := by
  unfold w_X9_parts_225 at h
  refine zu_aload_n d_8072_225 rfl (zs_ra _) ?_
  obtain ⟨k1, h⟩ := h
  refine zg_8_191 rfl d_8072_226 k1 ?_
  refine zu_iload_n d_8072_229 rfl ?_
  refine zu_aload_n d_8072_230 rfl (zs_ra _) ?_
  refine zu_iload_n d_8072_231 rfl ?_
  refine zc_8_736 (x0 := p2) hB rfl k1 d_8072_232 (by simp only [List.map_cons, List.map_nil, List.sum_cons, List.sum_nil, zs_cat, zs_cI, zs_cJ, zs_cA]; exact Nat.le_of_ble_eq_true rfl) h (fun v3 S2 h => ?_)
  obtain ⟨b4, e5, h⟩ := h
  refine zs_stk2 (zs_rfe e5) ?_
  obtain ⟨k6, h⟩ := h
  obtain ⟨k7, h⟩ := h
  refine zu_iast (k := 0) d_8072_235 rfl rfl k7 k6 ?_
  generalize e9 : zs_si S2 b4 p1.toNatClampNeg v3 = S8
  have h := h S8 e9.symm
  have K10 : ∀ b, zs_K S8 b = zs_K S2 b := zs_Kt e9 (zs_Ksi _ _ _ _) (fun _ => rfl)
  refine zu_aload_n d_8072_236 rfl (zs_ra _) ?_
  obtain ⟨k11, h⟩ := h
  refine zg_8_200 rfl d_8072_237 ((K10 _).trans k11) ?_
  refine zu_iload_n d_8072_240 rfl ?_
  refine zu_iconst d_8072_241 zi_0 ?_
  obtain ⟨b12, e13, h⟩ := h
  refine zs_stk2 (zs_rfe e13) ?_
  obtain ⟨k14, h⟩ := h
  obtain ⟨k15, h⟩ := h
  refine zu_iast (k := 0) d_8072_242 rfl rfl k15 (zs_Ak K10 k14) ?_
  generalize e17 : zs_si S8 b12 p1.toNatClampNeg (0 : Int32) = S16
  have h := h S16 e17.symm
  have K18 : ∀ b, zs_K S16 b = zs_K S2 b := zs_Kt e17 (zs_Ksi _ _ _ _) K10
  refine zu_aload_n d_8072_243 rfl (zs_ra _) ?_
  refine zg_8_206 rfl d_8072_244 ((K18 _).trans k11) ?_
  refine zu_iload_n d_8072_247 rfl ?_
  refine zu_iload_n d_8072_248 rfl ?_
  obtain ⟨b19, e20, h⟩ := h
  refine zs_stk2 (zs_rfe e20) ?_
  obtain ⟨k21, h⟩ := h
  obtain ⟨k22, h⟩ := h
  refine zu_iast (k := 0) d_8072_249 rfl rfl k22 (zs_Ak K18 k21) ?_
  generalize e24 : zs_si S16 b19 p1.toNatClampNeg p3 = S23
  have h := h S23 e24.symm
  have K25 : ∀ b, zs_K S23 b = zs_K S2 b := zs_Kt e24 (zs_Ksi _ _ _ _) K18
  exact (u_X9_parts_250 hB h).weak ⟨rfl, trivial⟩
def w_X9_parts_186 (X : zs_X) (d : Nat) (p0 : Nat) (p1 : Int32) (p2 : Int32) (p3 : Int32) (S : zs_T) (Q : zs_Q) : Prop :=
  (zs_K S p0 = some (.inl 8) ∧ ∃ b2, (zs_R S 8044 p0) = some b2 ∧ zs_A S b2 1 p2 ∧ (((zs_i S b2 p2.toNatClampNeg) = (10 : Int32) → (zs_C X d 8012 [.ref p0, .int (8 : Int32), .int (0 : Int32), .int (0 : Int32), .int p3] S (zs_kI (fun v7 S6 => (zs_K S6 p0 = some (.inl 8) ∧ zs_C X d 8012 [.ref p0, .int (6 : Int32), .int (0 : Int32), .int (0 : Int32), .int p3] S6 (zs_kI (fun v10 S9 => (w_X9_parts_225 X d p0 p1 p2 p3 S9 Q)) Q))) Q))) ∧ (¬ ((zs_i S b2 p2.toNatClampNeg) = (10 : Int32)) → w_X9_parts_197 X d p0 S Q)))
theorem u_X9_parts_186 {σ : Nat → Nat} {n0 : Nat} {bf : ab_B} {d : Nat} {p0 : Nat} {p1 : Int32} {p2 : Int32} {p3 : Int32} {S : zs_T} {Q : zs_Q} (hB : zt_B bf) (h : w_X9_parts_186 (zx σ n0 bf) d p0 p1 p2 p3 S Q) : zs_U (zx σ n0 bf) d 8072 186 [(0, .ref p0), (1, .int p1), (2, .int p2), (3, .int p3)] [] S Q := by
  unfold w_X9_parts_186 at h
  refine zu_aload_n d_8072_186 rfl (zs_ra _) ?_
  obtain ⟨k1, h⟩ := h
  refine zg_8_90 rfl d_8072_187 k1 ?_
  refine zu_iload_n d_8072_190 rfl ?_
  obtain ⟨b2, e3, h⟩ := h
  refine zs_stk1 (zs_rfe e3) ?_
  obtain ⟨k4, h⟩ := h
  refine zu_bald (k := 1) d_8072_191 rfl (Or.inl rfl) k4 ?_
  refine zu_bipush d_8072_192 zj_10 ?_
  refine zu_cmpeq (t := 203) d_8072_194 rfl (fun c5 => ?_) (fun c5 => ?_)
  · have h := h.1 c5
    refine zu_aload_n d_8072_203 rfl (zs_ra _) ?_
    refine zu_bipush d_8072_204 zj_8 ?_
    refine zu_iconst d_8072_206 zi_0 ?_
    refine zu_iconst d_8072_207 zi_0 ?_
    refine zu_iload_n d_8072_208 rfl ?_
    refine zc_8_656 (x0 := (8 : Int32)) (x1 := (0 : Int32)) (x2 := (0 : Int32)) (x3 := p3) hB rfl k1 d_8072_209 (Nat.le_of_ble_eq_true rfl) h (fun v7 S6 h => ?_)
    refine zu_istore d_8072_212 (zs_lt zq_8072 rfl) ?_
    refine zu_aload_n d_8072_214 rfl (zs_ra _) ?_
    refine zu_bipush d_8072_215 zj_6 ?_
    refine zu_iconst d_8072_217 zi_0 ?_
    refine zu_iconst d_8072_218 zi_0 ?_
    refine zu_iload_n d_8072_219 rfl ?_
    obtain ⟨k8, h⟩ := h
    refine zc_8_656 (x0 := (6 : Int32)) (x1 := (0 : Int32)) (x2 := (0 : Int32)) (x3 := p3) hB rfl k8 d_8072_220 (Nat.le_of_ble_eq_true rfl) h (fun v10 S9 h => ?_)
    refine zu_istore d_8072_223 (zs_lt zq_8072 rfl) ?_
    exact (u_X9_parts_225 hB h).weak ⟨rfl, rfl, rfl, rfl, trivial⟩
  · have h := h.2 c5
    exact (u_X9_parts_197 hB h).weak ⟨rfl, trivial⟩
def w_X9_parts_144 (X : zs_X) (d : Nat) (p0 : Nat) (p3 : Int32) (S : zs_T) (Q : zs_Q) : Prop :=
  (zs_K S p0 = some (.inl 8) ∧ zs_C X d 8030 [.ref p0, .int (19 : Int32), .int p3, .int (0 : Int32), .int (0 : Int32)] S (zs_kV (fun S2 => (zs_K S2 p0 = some (.inl 8) ∧ zs_C X d 8030 [.ref p0, .int (2 : Int32), .int (0 : Int32), .int (0 : Int32), .int (0 : Int32)] S2 (zs_kV (fun S5 => (zs_K S5 p0 = some (.inl 8) ∧ zs_C X d 8014 [.ref p0] S5 (zs_kV (fun S8 => (Q (.returned none) S8)) Q))) Q))) Q))
theorem u_X9_parts_144 {σ : Nat → Nat} {n0 : Nat} {bf : ab_B} {d : Nat} {p0 : Nat} {p3 : Int32} {S : zs_T} {Q : zs_Q} (hB : zt_B bf) (h : w_X9_parts_144 (zx σ n0 bf) d p0 p3 S Q) : zs_U (zx σ n0 bf) d 8072 144 [(0, .ref p0), (3, .int p3)] [] S Q := by
  unfold w_X9_parts_144 at h
  refine zu_aload_n d_8072_144 rfl (zs_ra _) ?_
  refine zu_bipush d_8072_145 zj_19 ?_
  refine zu_iload_n d_8072_147 rfl ?_
  refine zu_iconst d_8072_148 zi_0 ?_
  refine zu_iconst d_8072_149 zi_0 ?_
  obtain ⟨k1, h⟩ := h
  refine zc_8_649 (x0 := (19 : Int32)) (x1 := p3) (x2 := (0 : Int32)) (x3 := (0 : Int32)) hB rfl k1 d_8072_150 (Nat.le_of_ble_eq_true rfl) h (fun S2 h => ?_)
  refine zu_aload_n d_8072_153 rfl (zs_ra _) ?_
  refine zu_iconst d_8072_154 zi_2 ?_
  refine zu_iconst d_8072_155 zi_0 ?_
  refine zu_iconst d_8072_156 zi_0 ?_
  refine zu_iconst d_8072_157 zi_0 ?_
  obtain ⟨k4, h⟩ := h
  refine zc_8_649 (x0 := (2 : Int32)) (x1 := (0 : Int32)) (x2 := (0 : Int32)) (x3 := (0 : Int32)) hB rfl k4 d_8072_158 (Nat.le_of_ble_eq_true rfl) h (fun S5 h => ?_)
  refine zu_aload_n d_8072_161 rfl (zs_ra _) ?_
  obtain ⟨k7, h⟩ := h
  refine zc_8_538  hB rfl k7 d_8072_162 (Nat.le_of_ble_eq_true rfl) h (fun S8 h => ?_)
  refine zu_goto (t := 263) d_8072_165 rfl ?_
  exact zu_vret d_8072_263 zr_8072 h
def w_X9_parts_139 (X : zs_X) (d : Nat) (p0 : Nat) (p3 : Int32) (S : zs_T) (Q : zs_Q) : Prop :=
  (zs_K S p0 = some (.inl 8) ∧ zs_C X d 8027 [.ref p0, .int (5 : Int32)] S (zs_kV (fun S2 => w_X9_parts_144 X d p0 p3 S2 Q) Q))
theorem u_X9_parts_139 {σ : Nat → Nat} {n0 : Nat} {bf : ab_B} {d : Nat} {p0 : Nat} {p3 : Int32} {S : zs_T} {Q : zs_Q} (hB : zt_B bf) (h : w_X9_parts_139 (zx σ n0 bf) d p0 p3 S Q) : zs_U (zx σ n0 bf) d 8072 139 [(0, .ref p0), (3, .int p3)] [] S Q := by
  unfold w_X9_parts_139 at h
  refine zu_aload_n d_8072_139 rfl (zs_ra _) ?_
  refine zu_iconst d_8072_140 zi_5 ?_
  obtain ⟨k1, h⟩ := h
  refine zc_8_541 (x0 := (5 : Int32)) hB rfl k1 d_8072_141 (Nat.le_of_ble_eq_true rfl) h (fun S2 h => ?_)
  exact (u_X9_parts_144 hB h).weak ⟨rfl, rfl, trivial⟩
def w_X9_parts_111 (X : zs_X) (d : Nat) (p0 : Nat) (p1 : Int32) (p2 : Int32) (p3 : Int32) (S : zs_T) (Q : zs_Q) : Prop :=
  (zs_K S p0 = some (.inl 8) ∧ zs_C X d 8060 [.ref p0] S (zs_kV (fun S2 => (zs_K S2 p0 = some (.inl 8) ∧ ∃ b5, (zs_R S2 8092 p0) = some b5 ∧ zs_A S2 b5 2 p1 ∧ (((zs_i S2 b5 p1.toNatClampNeg) = 0 → w_X9_parts_139 X d p0 p3 S2 Q) ∧ (¬ ((zs_i S2 b5 p1.toNatClampNeg) = 0) → (zs_C X d 8073 [.ref p0, .int p2] S2 (zs_kI (fun v10 S9 => (∃ b11, (zs_R S2 8044 p0) = some b11 ∧ zs_A S9 b11 1 v10 ∧ (((zs_i S9 b11 v10.toNatClampNeg) = (8 : Int32) → w_X9_parts_144 X d p0 p3 S9 Q) ∧ (¬ ((zs_i S9 b11 v10.toNatClampNeg) = (8 : Int32)) → w_X9_parts_139 X d p0 p3 S9 Q)))) Q)))))) Q))
theorem u_X9_parts_111 {σ : Nat → Nat} {n0 : Nat} {bf : ab_B} {d : Nat} {p0 : Nat} {p1 : Int32} {p2 : Int32} {p3 : Int32} {S : zs_T} {Q : zs_Q} (hB : zt_B bf) (h : w_X9_parts_111 (zx σ n0 bf) d p0 p1 p2 p3 S Q) : zs_U (zx σ n0 bf) d 8072 111 [(0, .ref p0), (1, .int p1), (2, .int p2), (3, .int p3)] [] S Q := by
  unfold w_X9_parts_111 at h
  refine zu_aload_n d_8072_111 rfl (zs_ra _) ?_
  obtain ⟨k1, h⟩ := h
  refine zc_8_706  hB rfl k1 d_8072_112 (Nat.le_of_ble_eq_true rfl) h (fun S2 h => ?_)
  refine zu_aload_n d_8072_115 rfl (zs_ra _) ?_
  obtain ⟨k4, h⟩ := h
  refine zg_8_194 rfl d_8072_116 k4 ?_
  refine zu_iload_n d_8072_119 rfl ?_
  obtain ⟨b5, e6, h⟩ := h
  refine zs_stk1 (zs_rfe e6) ?_
  obtain ⟨k7, h⟩ := h
  refine zu_bald (k := 2) d_8072_120 rfl (Or.inr rfl) k7 ?_
  refine zu_ifeq (t := 139) d_8072_121 rfl (fun c8 => ?_) (fun c8 => ?_)
  · have h := h.1 c8
    exact (u_X9_parts_139 hB h).weak ⟨rfl, rfl, trivial⟩
  · have h := h.2 c8
    refine zu_aload_n d_8072_124 rfl (zs_ra _) ?_
    refine zg_8_90 rfl d_8072_125 k4 ?_
    refine zu_aload_n d_8072_128 rfl (zs_ra _) ?_
    refine zu_iload_n d_8072_129 rfl ?_
    refine zc_8_730 (x0 := p2) hB rfl k4 d_8072_130 (by simp only [List.map_cons, List.map_nil, List.sum_cons, List.sum_nil, zs_cat, zs_cI, zs_cJ, zs_cA]; exact Nat.le_of_ble_eq_true rfl) h (fun v10 S9 h => ?_)
    obtain ⟨b11, e12, h⟩ := h
    refine zs_stk1 (zs_rfe e12) ?_
    obtain ⟨k13, h⟩ := h
    refine zu_bald (k := 1) d_8072_133 rfl (Or.inl rfl) k13 ?_
    refine zu_bipush d_8072_134 zj_8 ?_
    refine zu_cmpeq (t := 144) d_8072_136 rfl (fun c14 => ?_) (fun c14 => ?_)
    · have h := h.1 c14
      exact (u_X9_parts_144 hB h).weak ⟨rfl, rfl, trivial⟩
    · have h := h.2 c14
      exact (u_X9_parts_139 hB h).weak ⟨rfl, rfl, trivial⟩
def w_X9_parts_81 (X : zs_X) (d : Nat) (p0 : Nat) (p3 : Int32) (S : zs_T) (Q : zs_Q) : Prop :=
  (zs_K S p0 = some (.inl 8) ∧ zs_C X d 8014 [.ref p0] S (zs_kV (fun S2 => (zs_K S2 p0 = some (.inl 8) ∧ zs_C X d 8075 [.ref p0, .int p3] S2 (zs_kV (fun S5 => (Q (.returned none) S5)) Q))) Q))
theorem u_X9_parts_81 {σ : Nat → Nat} {n0 : Nat} {bf : ab_B} {d : Nat} {p0 : Nat} {p3 : Int32} {S : zs_T} {Q : zs_Q} (hB : zt_B bf) (h : w_X9_parts_81 (zx σ n0 bf) d p0 p3 S Q) : zs_U (zx σ n0 bf) d 8072 81 [(0, .ref p0), (3, .int p3)] [] S Q := by
  unfold w_X9_parts_81 at h
  refine zu_aload_n d_8072_81 rfl (zs_ra _) ?_
  obtain ⟨k1, h⟩ := h
  refine zc_8_538  hB rfl k1 d_8072_82 (Nat.le_of_ble_eq_true rfl) h (fun S2 h => ?_)
  refine zu_aload_n d_8072_85 rfl (zs_ra _) ?_
  refine zu_iload_n d_8072_86 rfl ?_
  obtain ⟨k4, h⟩ := h
  refine zc_8_733 (x0 := p3) hB rfl k4 d_8072_87 (Nat.le_of_ble_eq_true rfl) h (fun S5 h => ?_)
  refine zu_goto (t := 263) d_8072_90 rfl ?_
  exact zu_vret d_8072_263 zr_8072 h
def w_X9_parts_76 (X : zs_X) (d : Nat) (p0 : Nat) (p3 : Int32) (S : zs_T) (Q : zs_Q) : Prop :=
  (zs_K S p0 = some (.inl 8) ∧ zs_C X d 8027 [.ref p0, .int (5 : Int32)] S (zs_kV (fun S2 => w_X9_parts_81 X d p0 p3 S2 Q) Q))
theorem u_X9_parts_76 {σ : Nat → Nat} {n0 : Nat} {bf : ab_B} {d : Nat} {p0 : Nat} {p3 : Int32} {S : zs_T} {Q : zs_Q} (hB : zt_B bf) (h : w_X9_parts_76 (zx σ n0 bf) d p0 p3 S Q) : zs_U (zx σ n0 bf) d 8072 76 [(0, .ref p0), (3, .int p3)] [] S Q := by
  unfold w_X9_parts_76 at h
  refine zu_aload_n d_8072_76 rfl (zs_ra _) ?_
  refine zu_iconst d_8072_77 zi_5 ?_
  obtain ⟨k1, h⟩ := h
  refine zc_8_541 (x0 := (5 : Int32)) hB rfl k1 d_8072_78 (Nat.le_of_ble_eq_true rfl) h (fun S2 h => ?_)
  exact (u_X9_parts_81 hB h).weak ⟨rfl, rfl, trivial⟩
def w_X9_parts_68 (X : zs_X) (d : Nat) (p0 : Nat) (p2 : Int32) (p3 : Int32) (S : zs_T) (Q : zs_Q) : Prop :=
  (zs_K S p0 = some (.inl 8) ∧ zs_C X d 8074 [.ref p0, .int p2] S (zs_kI (fun v3 S2 => (((¬ v3 = 0 → w_X9_parts_81 X d p0 p3 S2 Q) ∧ (¬ (¬ v3 = 0) → w_X9_parts_76 X d p0 p3 S2 Q)))) Q))
theorem u_X9_parts_68 {σ : Nat → Nat} {n0 : Nat} {bf : ab_B} {d : Nat} {p0 : Nat} {p2 : Int32} {p3 : Int32} {S : zs_T} {Q : zs_Q} (hB : zt_B bf) (h : w_X9_parts_68 (zx σ n0 bf) d p0 p2 p3 S Q) : zs_U (zx σ n0 bf) d 8072 68 [(0, .ref p0), (2, .int p2), (3, .int p3)] [] S Q := by
  unfold w_X9_parts_68 at h
  refine zu_aload_n d_8072_68 rfl (zs_ra _) ?_
  refine zu_iload_n d_8072_69 rfl ?_
  obtain ⟨k1, h⟩ := h
  refine zc_8_727 (x0 := p2) hB rfl k1 d_8072_70 (Nat.le_of_ble_eq_true rfl) h (fun v3 S2 h => ?_)
  refine zu_ifne (t := 81) d_8072_73 rfl (fun c4 => ?_) (fun c4 => ?_)
  · have h := h.1 c4
    exact (u_X9_parts_81 hB h).weak ⟨rfl, rfl, trivial⟩
  · have h := h.2 c4
    exact (u_X9_parts_76 hB h).weak ⟨rfl, rfl, trivial⟩
def w_X9_parts_30 (X : zs_X) (d : Nat) (p0 : Nat) (p1 : Int32) (p2 : Int32) (S : zs_T) (Q : zs_Q) : Prop :=
  (zs_K S p0 = some (.inl 8) ∧ ((¬ (zs_I S 8009 p0) = (16 : Int32) → (((¬ (zs_I S 8009 p0) = (10 : Int32) → (((¬ (zs_I S 8009 p0) = (15 : Int32) → (Q (.returned none) S)) ∧ (¬ (¬ (zs_I S 8009 p0) = (15 : Int32)) → (∃ b5, (zs_R S 8092 p0) = some b5 ∧ zs_A S b5 2 p1 ∧ (((zs_i S b5 p1.toNatClampNeg) = 0 → w_X9_parts_197 X d p0 S Q) ∧ (¬ ((zs_i S b5 p1.toNatClampNeg) = 0) → w_X9_parts_186 X d p0 p1 p2 (zs_I S 8007 p0) S Q))))))) ∧ (¬ (¬ (zs_I S 8009 p0) = (10 : Int32)) → (zs_C X d 8030 [.ref p0, .int (18 : Int32), .int (0 : Int32), .int (0 : Int32), .int (0 : Int32)] S (zs_kV (fun S9 => w_X9_parts_111 X d p0 p1 p2 (zs_I S 8007 p0) S9 Q) Q)))))) ∧ (¬ (¬ (zs_I S 8009 p0) = (16 : Int32)) → (∃ b11, (zs_R S 8092 p0) = some b11 ∧ zs_A S b11 2 p1 ∧ (((zs_i S b11 p1.toNatClampNeg) = 0 → w_X9_parts_76 X d p0 (zs_I S 8007 p0) S Q) ∧ (¬ ((zs_i S b11 p1.toNatClampNeg) = 0) → (zs_C X d 8073 [.ref p0, .int p2] S (zs_kI (fun v16 S15 => (∃ b17, (zs_R S 8044 p0) = some b17 ∧ zs_A S15 b17 1 v16 ∧ (((zs_i S15 b17 v16.toNatClampNeg) = (9 : Int32) → w_X9_parts_81 X d p0 (zs_I S 8007 p0) S15 Q) ∧ (¬ ((zs_i S15 b17 v16.toNatClampNeg) = (9 : Int32)) → w_X9_parts_68 X d p0 p2 (zs_I S 8007 p0) S15 Q)))) Q))))))))
theorem u_X9_parts_30 {σ : Nat → Nat} {n0 : Nat} {bf : ab_B} {d : Nat} {p0 : Nat} {p1 : Int32} {p2 : Int32} {S : zs_T} {Q : zs_Q} (hB : zt_B bf) (h : w_X9_parts_30 (zx σ n0 bf) d p0 p1 p2 S Q) : zs_U (zx σ n0 bf) d 8072 30 [(0, .ref p0), (1, .int p1), (2, .int p2)] [] S Q := by
  unfold w_X9_parts_30 at h
  refine zu_aload_n d_8072_30 rfl (zs_ra _) ?_
  obtain ⟨k1, h⟩ := h
  refine zg_8_450 rfl d_8072_31 k1 ?_
  refine zu_istore_n d_8072_34 (zs_lt zq_8072 rfl) ?_
  refine zu_aload_n d_8072_35 rfl (zs_ra _) ?_
  refine zg_8_494 rfl d_8072_36 k1 ?_
  refine zu_bipush d_8072_39 zj_16 ?_
  refine zu_cmpne (t := 93) d_8072_41 rfl (fun c2 => ?_) (fun c2 => ?_)
  · have h := h.1 c2
    refine zu_aload_n d_8072_93 rfl (zs_ra _) ?_
    refine zg_8_494 rfl d_8072_94 k1 ?_
    refine zu_bipush d_8072_97 zj_10 ?_
    refine zu_cmpne (t := 168) d_8072_99 rfl (fun c3 => ?_) (fun c3 => ?_)
    · have h := h.1 c3
      refine zu_aload_n d_8072_168 rfl (zs_ra _) ?_
      refine zg_8_494 rfl d_8072_169 k1 ?_
      refine zu_bipush d_8072_172 zj_15 ?_
      refine zu_cmpne (t := 263) d_8072_174 rfl (fun c4 => ?_) (fun c4 => ?_)
      · have h := h.1 c4
        exact zu_vret d_8072_263 zr_8072 h
      · have h := h.2 c4
        refine zu_aload_n d_8072_177 rfl (zs_ra _) ?_
        refine zg_8_194 rfl d_8072_178 k1 ?_
        refine zu_iload_n d_8072_181 rfl ?_
        obtain ⟨b5, e6, h⟩ := h
        refine zs_stk1 (zs_rfe e6) ?_
        obtain ⟨k7, h⟩ := h
        refine zu_bald (k := 2) d_8072_182 rfl (Or.inr rfl) k7 ?_
        refine zu_ifeq (t := 197) d_8072_183 rfl (fun c8 => ?_) (fun c8 => ?_)
        · have h := h.1 c8
          exact (u_X9_parts_197 hB h).weak ⟨rfl, trivial⟩
        · have h := h.2 c8
          exact (u_X9_parts_186 hB h).weak ⟨rfl, rfl, rfl, rfl, trivial⟩
    · have h := h.2 c3
      refine zu_aload_n d_8072_102 rfl (zs_ra _) ?_
      refine zu_bipush d_8072_103 zj_18 ?_
      refine zu_iconst d_8072_105 zi_0 ?_
      refine zu_iconst d_8072_106 zi_0 ?_
      refine zu_iconst d_8072_107 zi_0 ?_
      refine zc_8_649 (x0 := (18 : Int32)) (x1 := (0 : Int32)) (x2 := (0 : Int32)) (x3 := (0 : Int32)) hB rfl k1 d_8072_108 (Nat.le_of_ble_eq_true rfl) h (fun S9 h => ?_)
      exact (u_X9_parts_111 hB h).weak ⟨rfl, rfl, rfl, rfl, trivial⟩
  · have h := h.2 c2
    refine zu_aload_n d_8072_44 rfl (zs_ra _) ?_
    refine zg_8_194 rfl d_8072_45 k1 ?_
    refine zu_iload_n d_8072_48 rfl ?_
    obtain ⟨b11, e12, h⟩ := h
    refine zs_stk1 (zs_rfe e12) ?_
    obtain ⟨k13, h⟩ := h
    refine zu_bald (k := 2) d_8072_49 rfl (Or.inr rfl) k13 ?_
    refine zu_ifeq (t := 76) d_8072_50 rfl (fun c14 => ?_) (fun c14 => ?_)
    · have h := h.1 c14
      exact (u_X9_parts_76 hB h).weak ⟨rfl, rfl, trivial⟩
    · have h := h.2 c14
      refine zu_aload_n d_8072_53 rfl (zs_ra _) ?_
      refine zg_8_90 rfl d_8072_54 k1 ?_
      refine zu_aload_n d_8072_57 rfl (zs_ra _) ?_
      refine zu_iload_n d_8072_58 rfl ?_
      refine zc_8_730 (x0 := p2) hB rfl k1 d_8072_59 (by simp only [List.map_cons, List.map_nil, List.sum_cons, List.sum_nil, zs_cat, zs_cI, zs_cJ, zs_cA]; exact Nat.le_of_ble_eq_true rfl) h (fun v16 S15 h => ?_)
      obtain ⟨b17, e18, h⟩ := h
      refine zs_stk1 (zs_rfe e18) ?_
      obtain ⟨k19, h⟩ := h
      refine zu_bald (k := 1) d_8072_62 rfl (Or.inl rfl) k19 ?_
      refine zu_bipush d_8072_63 zj_9 ?_
      refine zu_cmpeq (t := 81) d_8072_65 rfl (fun c20 => ?_) (fun c20 => ?_)
      · have h := h.1 c20
        exact (u_X9_parts_81 hB h).weak ⟨rfl, rfl, trivial⟩
      · have h := h.2 c20
        exact (u_X9_parts_68 hB h).weak ⟨rfl, rfl, rfl, trivial⟩
def w_X9_parts (X : zs_X) (d : Nat) (p0 : Nat) (S : zs_T) (Q : zs_Q) : Prop :=
  (zs_K S p0 = some (.inl 8) ∧ ∃ b2, (zs_R S 8091 p0) = some b2 ∧ zs_A S b2 0 ((zs_I S 8097 p0) - (1 : Int32)) ∧ ((0 < (zs_I S 8010 p0) → w_X9_parts_29 X d  S Q) ∧ (¬ (0 < (zs_I S 8010 p0)) → ((((zs_I S 8006 p0) = (5 : Int32) → w_X9_parts_30 X d p0 ((zs_I S 8097 p0) - (1 : Int32)) (zs_i S b2 ((zs_I S 8097 p0) - (1 : Int32)).toNatClampNeg) S Q) ∧ (¬ ((zs_I S 8006 p0) = (5 : Int32)) → w_X9_parts_29 X d  S Q))))))
theorem u_X9_parts {σ : Nat → Nat} {n0 : Nat} {bf : ab_B} {d : Nat} {p0 : Nat} {S : zs_T} {Q : zs_Q} (hB : zt_B bf) (hd : 1 ≤ d) (h : w_X9_parts (zx σ n0 bf) (d - 1) p0 S Q) : zs_C (zx σ n0 bf) d 8072 [.ref p0] S Q := by
  have hL : lv_args 0 [.ref p0] = [(0, .ref p0)] := rfl
  refine zs_C.of1 (hB.2 8072 (by decide) (by decide)) hd (by rw [hL]; exact zs_sub_self _ (by exact ⟨rfl, trivial⟩)) ?_
  rw [hL]
  clear hL
  unfold w_X9_parts at h
  refine zu_aload_n d_8072_0 rfl (zs_ra _) ?_
  obtain ⟨k1, h⟩ := h
  refine zg_8_653 rfl d_8072_1 k1 ?_
  refine zu_iconst d_8072_4 zi_1 ?_
  refine zu_stk d_8072_5 rfl rfl ?_
  refine zu_istore_n d_8072_6 (zs_lt zq_8072 rfl) ?_
  refine zu_aload_n d_8072_7 rfl (zs_ra _) ?_
  refine zg_8_191 rfl d_8072_8 k1 ?_
  refine zu_iload_n d_8072_11 rfl ?_
  obtain ⟨b2, e3, h⟩ := h
  refine zs_stk1 (zs_rfe e3) ?_
  obtain ⟨k4, h⟩ := h
  refine zu_iald (k := 0) d_8072_12 rfl rfl k4 ?_
  refine zu_istore_n d_8072_13 (zs_lt zq_8072 rfl) ?_
  refine zu_aload_n d_8072_14 rfl (zs_ra _) ?_
  refine zg_8_444 rfl d_8072_15 k1 ?_
  refine zu_ifgt (t := 29) d_8072_18 rfl (fun c5 => ?_) (fun c5 => ?_)
  · have h := h.1 c5
    exact (u_X9_parts_29 hB h).weak trivial
  · have h := h.2 c5
    refine zu_aload_n d_8072_21 rfl (zs_ra _) ?_
    refine zg_8_484 rfl d_8072_22 k1 ?_
    refine zu_iconst d_8072_25 zi_5 ?_
    refine zu_cmpeq (t := 30) d_8072_26 rfl (fun c6 => ?_) (fun c6 => ?_)
    · have h := h.1 c6
      exact (u_X9_parts_30 hB h).weak ⟨rfl, rfl, rfl, trivial⟩
    · have h := h.2 c6
      exact (u_X9_parts_29 hB h).weak trivial
/-! SchemaPascalModel.bodyOf(I)I -/
theorem zm_8073 {σ : Nat → Nat} {n0 : Nat} {bf : ab_B} : ab_code (zx σ n0 bf).1 8073 = prog_17_method_70_code := rfl
theorem zq_8073 {σ : Nat → Nat} {n0 : Nat} {bf : ab_B} : ab_maxL (zx σ n0 bf).1 8073 = 3 := rfl
theorem zr_8073 {σ : Nat → Nat} {n0 : Nat} {bf : ab_B} : ab_ret (zx σ n0 bf).1 8073 = (Option.some Jvm.ClassFile.FieldType.int) := rfl
theorem d_8073_0 {σ : Nat → Nat} {n0 : Nat} {bf : ab_B} : decode (ab_code (zx σ n0 bf).1 8073) 0 = .ok (.aload_n 0, 1) := zd zm_8073 (by decide +kernel)
theorem d_8073_1 {σ : Nat → Nat} {n0 : Nat} {bf : ab_B} : decode (ab_code (zx σ n0 bf).1 8073) 1 = .ok (.iload_n 1, 1) := zd zm_8073 (by decide +kernel)
theorem d_8073_2 {σ : Nat → Nat} {n0 : Nat} {bf : ab_B} : decode (ab_code (zx σ n0 bf).1 8073) 2 = .ok (.invokevirtual 727, 3) := zd zm_8073 (by decide +kernel)
theorem d_8073_5 {σ : Nat → Nat} {n0 : Nat} {bf : ab_B} : decode (ab_code (zx σ n0 bf).1 8073) 5 = .ok (.istore_n 2, 1) := zd zm_8073 (by decide +kernel)
theorem d_8073_6 {σ : Nat → Nat} {n0 : Nat} {bf : ab_B} : decode (ab_code (zx σ n0 bf).1 8073) 6 = .ok (.iload_n 2, 1) := zd zm_8073 (by decide +kernel)
theorem d_8073_7 {σ : Nat → Nat} {n0 : Nat} {bf : ab_B} : decode (ab_code (zx σ n0 bf).1 8073) 7 = .ok (.ifCond .le 12, 3) := zd zm_8073 (by decide +kernel)
theorem d_8073_10 {σ : Nat → Nat} {n0 : Nat} {bf : ab_B} : decode (ab_code (zx σ n0 bf).1 8073) 10 = .ok (.aload_n 0, 1) := zd zm_8073 (by decide +kernel)
theorem d_8073_11 {σ : Nat → Nat} {n0 : Nat} {bf : ab_B} : decode (ab_code (zx σ n0 bf).1 8073) 11 = .ok (.getfield 130, 3) := zd zm_8073 (by decide +kernel)
theorem d_8073_14 {σ : Nat → Nat} {n0 : Nat} {bf : ab_B} : decode (ab_code (zx σ n0 bf).1 8073) 14 = .ok (.iload_n 2, 1) := zd zm_8073 (by decide +kernel)
theorem d_8073_15 {σ : Nat → Nat} {n0 : Nat} {bf : ab_B} : decode (ab_code (zx σ n0 bf).1 8073) 15 = .ok (.iaload, 1) := zd zm_8073 (by decide +kernel)
theorem d_8073_16 {σ : Nat → Nat} {n0 : Nat} {bf : ab_B} : decode (ab_code (zx σ n0 bf).1 8073) 16 = .ok (.goto 4, 3) := zd zm_8073 (by decide +kernel)
theorem d_8073_19 {σ : Nat → Nat} {n0 : Nat} {bf : ab_B} : decode (ab_code (zx σ n0 bf).1 8073) 19 = .ok (.iload_n 1, 1) := zd zm_8073 (by decide +kernel)
theorem d_8073_20 {σ : Nat → Nat} {n0 : Nat} {bf : ab_B} : decode (ab_code (zx σ n0 bf).1 8073) 20 = .ok (.ireturn, 1) := zd zm_8073 (by decide +kernel)
def w_X9_bodyOf (X : zs_X) (d : Nat) (p0 : Nat) (p1 : Int32) (S : zs_T) (Q : zs_Q) : Prop :=
  (zs_K S p0 = some (.inl 8) ∧ zs_C X d 8074 [.ref p0, .int p1] S (zs_kI (fun v3 S2 => (((v3 ≤ 0 → (Q (.returned (some (.int p1))) S2)) ∧ (¬ (v3 ≤ 0) → (zs_K S2 p0 = some (.inl 8) ∧ ∃ b6, (zs_R S2 8059 p0) = some b6 ∧ zs_A S2 b6 0 v3 ∧ Q (.returned (some (.int (zs_i S2 b6 v3.toNatClampNeg)))) S2))))) Q))
theorem u_X9_bodyOf {σ : Nat → Nat} {n0 : Nat} {bf : ab_B} {d : Nat} {p0 : Nat} {p1 : Int32} {S : zs_T} {Q : zs_Q} (hB : zt_B bf) (hd : 1 ≤ d) (h : w_X9_bodyOf (zx σ n0 bf) (d - 1) p0 p1 S Q) : zs_C (zx σ n0 bf) d 8073 [.ref p0, .int p1] S Q := by
  have hL : lv_args 0 [.ref p0, .int p1] = [(0, .ref p0), (1, .int p1)] := rfl
  refine zs_C.of1 (hB.2 8073 (by decide) (by decide)) hd (by rw [hL]; exact zs_sub_self _ (by exact ⟨rfl, rfl, trivial⟩)) ?_
  rw [hL]
  clear hL
  unfold w_X9_bodyOf at h
  refine zu_aload_n d_8073_0 rfl (zs_ra _) ?_
  refine zu_iload_n d_8073_1 rfl ?_
  obtain ⟨k1, h⟩ := h
  refine zc_8_727 (x0 := p1) hB rfl k1 d_8073_2 (Nat.le_of_ble_eq_true rfl) h (fun v3 S2 h => ?_)
  refine zu_istore_n d_8073_5 (zs_lt zq_8073 rfl) ?_
  refine zu_iload_n d_8073_6 rfl ?_
  refine zu_ifle (t := 19) d_8073_7 rfl (fun c4 => ?_) (fun c4 => ?_)
  · have h := h.1 c4
    refine zu_iload_n d_8073_19 rfl ?_
    exact zu_iret d_8073_20 zr_8073 rfl h
  · have h := h.2 c4
    refine zu_aload_n d_8073_10 rfl (zs_ra _) ?_
    obtain ⟨k5, h⟩ := h
    refine zg_8_130 rfl d_8073_11 k5 ?_
    refine zu_iload_n d_8073_14 rfl ?_
    obtain ⟨b6, e7, h⟩ := h
    refine zs_stk1 (zs_rfe e7) ?_
    obtain ⟨k8, h⟩ := h
    refine zu_iald (k := 0) d_8073_15 rfl rfl k8 ?_
    refine zu_goto (t := 20) d_8073_16 rfl ?_
    exact zu_iret d_8073_20 zr_8073 rfl h
/-! SchemaPascalModel.schemaOf(I)I -/
theorem zm_8074 {σ : Nat → Nat} {n0 : Nat} {bf : ab_B} : ab_code (zx σ n0 bf).1 8074 = prog_17_method_40_code := rfl
theorem zq_8074 {σ : Nat → Nat} {n0 : Nat} {bf : ab_B} : ab_maxL (zx σ n0 bf).1 8074 = 2 := rfl
theorem zr_8074 {σ : Nat → Nat} {n0 : Nat} {bf : ab_B} : ab_ret (zx σ n0 bf).1 8074 = (Option.some Jvm.ClassFile.FieldType.int) := rfl
theorem d_8074_0 {σ : Nat → Nat} {n0 : Nat} {bf : ab_B} : decode (ab_code (zx σ n0 bf).1 8074) 0 = .ok (.iload_n 1, 1) := zd zm_8074 (by decide +kernel)
theorem d_8074_1 {σ : Nat → Nat} {n0 : Nat} {bf : ab_B} : decode (ab_code (zx σ n0 bf).1 8074) 1 = .ok (.ifCond .le 34, 3) := zd zm_8074 (by decide +kernel)
theorem d_8074_4 {σ : Nat → Nat} {n0 : Nat} {bf : ab_B} : decode (ab_code (zx σ n0 bf).1 8074) 4 = .ok (.aload_n 0, 1) := zd zm_8074 (by decide +kernel)
theorem d_8074_5 {σ : Nat → Nat} {n0 : Nat} {bf : ab_B} : decode (ab_code (zx σ n0 bf).1 8074) 5 = .ok (.getfield 90, 3) := zd zm_8074 (by decide +kernel)
theorem d_8074_8 {σ : Nat → Nat} {n0 : Nat} {bf : ab_B} : decode (ab_code (zx σ n0 bf).1 8074) 8 = .ok (.iload_n 1, 1) := zd zm_8074 (by decide +kernel)
theorem d_8074_9 {σ : Nat → Nat} {n0 : Nat} {bf : ab_B} : decode (ab_code (zx σ n0 bf).1 8074) 9 = .ok (.baload, 1) := zd zm_8074 (by decide +kernel)
theorem d_8074_10 {σ : Nat → Nat} {n0 : Nat} {bf : ab_B} : decode (ab_code (zx σ n0 bf).1 8074) 10 = .ok (.bipush 11, 2) := zd zm_8074 (by decide +kernel)
theorem d_8074_12 {σ : Nat → Nat} {n0 : Nat} {bf : ab_B} : decode (ab_code (zx σ n0 bf).1 8074) 12 = .ok (.if_icmp .eq 14, 3) := zd zm_8074 (by decide +kernel)
theorem d_8074_15 {σ : Nat → Nat} {n0 : Nat} {bf : ab_B} : decode (ab_code (zx σ n0 bf).1 8074) 15 = .ok (.aload_n 0, 1) := zd zm_8074 (by decide +kernel)
theorem d_8074_16 {σ : Nat → Nat} {n0 : Nat} {bf : ab_B} : decode (ab_code (zx σ n0 bf).1 8074) 16 = .ok (.getfield 90, 3) := zd zm_8074 (by decide +kernel)
theorem d_8074_19 {σ : Nat → Nat} {n0 : Nat} {bf : ab_B} : decode (ab_code (zx σ n0 bf).1 8074) 19 = .ok (.iload_n 1, 1) := zd zm_8074 (by decide +kernel)
theorem d_8074_20 {σ : Nat → Nat} {n0 : Nat} {bf : ab_B} : decode (ab_code (zx σ n0 bf).1 8074) 20 = .ok (.baload, 1) := zd zm_8074 (by decide +kernel)
theorem d_8074_21 {σ : Nat → Nat} {n0 : Nat} {bf : ab_B} : decode (ab_code (zx σ n0 bf).1 8074) 21 = .ok (.bipush 15, 2) := zd zm_8074 (by decide +kernel)
theorem d_8074_23 {σ : Nat → Nat} {n0 : Nat} {bf : ab_B} : decode (ab_code (zx σ n0 bf).1 8074) 23 = .ok (.if_icmp .ne 12, 3) := zd zm_8074 (by decide +kernel)
theorem d_8074_26 {σ : Nat → Nat} {n0 : Nat} {bf : ab_B} : decode (ab_code (zx σ n0 bf).1 8074) 26 = .ok (.aload_n 0, 1) := zd zm_8074 (by decide +kernel)
theorem d_8074_27 {σ : Nat → Nat} {n0 : Nat} {bf : ab_B} : decode (ab_code (zx σ n0 bf).1 8074) 27 = .ok (.getfield 93, 3) := zd zm_8074 (by decide +kernel)
theorem d_8074_30 {σ : Nat → Nat} {n0 : Nat} {bf : ab_B} : decode (ab_code (zx σ n0 bf).1 8074) 30 = .ok (.iload_n 1, 1) := zd zm_8074 (by decide +kernel)
theorem d_8074_31 {σ : Nat → Nat} {n0 : Nat} {bf : ab_B} : decode (ab_code (zx σ n0 bf).1 8074) 31 = .ok (.iaload, 1) := zd zm_8074 (by decide +kernel)
theorem d_8074_32 {σ : Nat → Nat} {n0 : Nat} {bf : ab_B} : decode (ab_code (zx σ n0 bf).1 8074) 32 = .ok (.goto 4, 3) := zd zm_8074 (by decide +kernel)
theorem d_8074_35 {σ : Nat → Nat} {n0 : Nat} {bf : ab_B} : decode (ab_code (zx σ n0 bf).1 8074) 35 = .ok (.iconst 0, 1) := zd zm_8074 (by decide +kernel)
theorem d_8074_36 {σ : Nat → Nat} {n0 : Nat} {bf : ab_B} : decode (ab_code (zx σ n0 bf).1 8074) 36 = .ok (.ireturn, 1) := zd zm_8074 (by decide +kernel)
def w_X9_schemaOf_26 (X : zs_X) (d : Nat) (p0 : Nat) (p1 : Int32) (S : zs_T) (Q : zs_Q) : Prop :=
  (zs_K S p0 = some (.inl 8) ∧ ∃ b2, (zs_R S 8045 p0) = some b2 ∧ zs_A S b2 0 p1 ∧ Q (.returned (some (.int (zs_i S b2 p1.toNatClampNeg)))) S)
theorem u_X9_schemaOf_26 {σ : Nat → Nat} {n0 : Nat} {bf : ab_B} {d : Nat} {p0 : Nat} {p1 : Int32} {S : zs_T} {Q : zs_Q} (hB : zt_B bf) (h : w_X9_schemaOf_26 (zx σ n0 bf) d p0 p1 S Q) : zs_U (zx σ n0 bf) d 8074 26 [(0, .ref p0), (1, .int p1)] [] S Q := by
  unfold w_X9_schemaOf_26 at h
  refine zu_aload_n d_8074_26 rfl (zs_ra _) ?_
  obtain ⟨k1, h⟩ := h
  refine zg_8_93 rfl d_8074_27 k1 ?_
  refine zu_iload_n d_8074_30 rfl ?_
  obtain ⟨b2, e3, h⟩ := h
  refine zs_stk1 (zs_rfe e3) ?_
  obtain ⟨k4, h⟩ := h
  refine zu_iald (k := 0) d_8074_31 rfl rfl k4 ?_
  refine zu_goto (t := 36) d_8074_32 rfl ?_
  exact zu_iret d_8074_36 zr_8074 rfl h
def w_X9_schemaOf (X : zs_X) (d : Nat) (p0 : Nat) (p1 : Int32) (S : zs_T) (Q : zs_Q) : Prop :=
  (((p1 ≤ 0 → (Q (.returned (some (.int (0 : Int32)))) S)) ∧ (¬ (p1 ≤ 0) → (zs_K S p0 = some (.inl 8) ∧ ∃ b3, (zs_R S 8044 p0) = some b3 ∧ zs_A S b3 1 p1 ∧ (((zs_i S b3 p1.toNatClampNeg) = (11 : Int32) → w_X9_schemaOf_26 X d p0 p1 S Q) ∧ (¬ ((zs_i S b3 p1.toNatClampNeg) = (11 : Int32)) → (((¬ (zs_i S b3 p1.toNatClampNeg) = (15 : Int32) → (Q (.returned (some (.int (0 : Int32)))) S)) ∧ (¬ (¬ (zs_i S b3 p1.toNatClampNeg) = (15 : Int32)) → w_X9_schemaOf_26 X d p0 p1 S Q)))))))))
theorem u_X9_schemaOf {σ : Nat → Nat} {n0 : Nat} {bf : ab_B} {d : Nat} {p0 : Nat} {p1 : Int32} {S : zs_T} {Q : zs_Q} (hB : zt_B bf) (hd : 1 ≤ d) (h : w_X9_schemaOf (zx σ n0 bf) (d - 1) p0 p1 S Q) : zs_C (zx σ n0 bf) d 8074 [.ref p0, .int p1] S Q := by
  have hL : lv_args 0 [.ref p0, .int p1] = [(0, .ref p0), (1, .int p1)] := rfl
  refine zs_C.of1 (hB.2 8074 (by decide) (by decide)) hd (by rw [hL]; exact zs_sub_self _ (by exact ⟨rfl, rfl, trivial⟩)) ?_
  rw [hL]
  clear hL
  unfold w_X9_schemaOf at h
  refine zu_iload_n d_8074_0 rfl ?_
  refine zu_ifle (t := 35) d_8074_1 rfl (fun c1 => ?_) (fun c1 => ?_)
  · have h := h.1 c1
    refine zu_iconst d_8074_35 zi_0 ?_
    exact zu_iret d_8074_36 zr_8074 rfl h
  · have h := h.2 c1
    refine zu_aload_n d_8074_4 rfl (zs_ra _) ?_
    obtain ⟨k2, h⟩ := h
    refine zg_8_90 rfl d_8074_5 k2 ?_
    refine zu_iload_n d_8074_8 rfl ?_
    obtain ⟨b3, e4, h⟩ := h
    refine zs_stk1 (zs_rfe e4) ?_
    obtain ⟨k5, h⟩ := h
    refine zu_bald (k := 1) d_8074_9 rfl (Or.inl rfl) k5 ?_
    refine zu_bipush d_8074_10 zj_11 ?_
    refine zu_cmpeq (t := 26) d_8074_12 rfl (fun c6 => ?_) (fun c6 => ?_)
    · have h := h.1 c6
      exact (u_X9_schemaOf_26 hB h).weak ⟨rfl, rfl, trivial⟩
    · have h := h.2 c6
      refine zu_aload_n d_8074_15 rfl (zs_ra _) ?_
      refine zg_8_90 rfl d_8074_16 k2 ?_
      refine zu_iload_n d_8074_19 rfl ?_
      refine zs_stk1 (zs_rfe e4) ?_
      refine zu_bald (k := 1) d_8074_20 rfl (Or.inl rfl) k5 ?_
      refine zu_bipush d_8074_21 zj_15 ?_
      refine zu_cmpne (t := 35) d_8074_23 rfl (fun c7 => ?_) (fun c7 => ?_)
      · have h := h.1 c7
        refine zu_iconst d_8074_35 zi_0 ?_
        exact zu_iret d_8074_36 zr_8074 rfl h
      · have h := h.2 c7
        exact (u_X9_schemaOf_26 hB h).weak ⟨rfl, rfl, trivial⟩
/-! SchemaPascalModel.part(I)V -/
theorem zm_8075 {σ : Nat → Nat} {n0 : Nat} {bf : ab_B} : ab_code (zx σ n0 bf).1 8075 = prog_17_method_75_code := rfl
theorem zq_8075 {σ : Nat → Nat} {n0 : Nat} {bf : ab_B} : ab_maxL (zx σ n0 bf).1 8075 = 6 := rfl
theorem zr_8075 {σ : Nat → Nat} {n0 : Nat} {bf : ab_B} : ab_ret (zx σ n0 bf).1 8075 = (Option.none : Option Jvm.ClassFile.FieldType) := rfl
theorem d_8075_0 {σ : Nat → Nat} {n0 : Nat} {bf : ab_B} : decode (ab_code (zx σ n0 bf).1 8075) 0 = .ok (.aload_n 0, 1) := zd zm_8075 (by decide +kernel)
theorem d_8075_1 {σ : Nat → Nat} {n0 : Nat} {bf : ab_B} : decode (ab_code (zx σ n0 bf).1 8075) 1 = .ok (.getfield 653, 3) := zd zm_8075 (by decide +kernel)
theorem d_8075_4 {σ : Nat → Nat} {n0 : Nat} {bf : ab_B} : decode (ab_code (zx σ n0 bf).1 8075) 4 = .ok (.iconst 1, 1) := zd zm_8075 (by decide +kernel)
theorem d_8075_5 {σ : Nat → Nat} {n0 : Nat} {bf : ab_B} : decode (ab_code (zx σ n0 bf).1 8075) 5 = .ok (.isub, 1) := zd zm_8075 (by decide +kernel)
theorem d_8075_6 {σ : Nat → Nat} {n0 : Nat} {bf : ab_B} : decode (ab_code (zx σ n0 bf).1 8075) 6 = .ok (.istore_n 2, 1) := zd zm_8075 (by decide +kernel)
theorem d_8075_7 {σ : Nat → Nat} {n0 : Nat} {bf : ab_B} : decode (ab_code (zx σ n0 bf).1 8075) 7 = .ok (.aload_n 0, 1) := zd zm_8075 (by decide +kernel)
theorem d_8075_8 {σ : Nat → Nat} {n0 : Nat} {bf : ab_B} : decode (ab_code (zx σ n0 bf).1 8075) 8 = .ok (.getfield 444, 3) := zd zm_8075 (by decide +kernel)
theorem d_8075_11 {σ : Nat → Nat} {n0 : Nat} {bf : ab_B} : decode (ab_code (zx σ n0 bf).1 8075) 11 = .ok (.ifCond .le 4, 3) := zd zm_8075 (by decide +kernel)
theorem d_8075_14 {σ : Nat → Nat} {n0 : Nat} {bf : ab_B} : decode (ab_code (zx σ n0 bf).1 8075) 14 = .ok (.return_, 1) := zd zm_8075 (by decide +kernel)
theorem d_8075_15 {σ : Nat → Nat} {n0 : Nat} {bf : ab_B} : decode (ab_code (zx σ n0 bf).1 8075) 15 = .ok (.aload_n 0, 1) := zd zm_8075 (by decide +kernel)
theorem d_8075_16 {σ : Nat → Nat} {n0 : Nat} {bf : ab_B} : decode (ab_code (zx σ n0 bf).1 8075) 16 = .ok (.getfield 484, 3) := zd zm_8075 (by decide +kernel)
theorem d_8075_19 {σ : Nat → Nat} {n0 : Nat} {bf : ab_B} : decode (ab_code (zx σ n0 bf).1 8075) 19 = .ok (.iconst 1, 1) := zd zm_8075 (by decide +kernel)
theorem d_8075_20 {σ : Nat → Nat} {n0 : Nat} {bf : ab_B} : decode (ab_code (zx σ n0 bf).1 8075) 20 = .ok (.if_icmp .eq 9, 3) := zd zm_8075 (by decide +kernel)
theorem d_8075_23 {σ : Nat → Nat} {n0 : Nat} {bf : ab_B} : decode (ab_code (zx σ n0 bf).1 8075) 23 = .ok (.aload_n 0, 1) := zd zm_8075 (by decide +kernel)
theorem d_8075_24 {σ : Nat → Nat} {n0 : Nat} {bf : ab_B} : decode (ab_code (zx σ n0 bf).1 8075) 24 = .ok (.iconst 2, 1) := zd zm_8075 (by decide +kernel)
theorem d_8075_25 {σ : Nat → Nat} {n0 : Nat} {bf : ab_B} : decode (ab_code (zx σ n0 bf).1 8075) 25 = .ok (.invokevirtual 541, 3) := zd zm_8075 (by decide +kernel)
theorem d_8075_28 {σ : Nat → Nat} {n0 : Nat} {bf : ab_B} : decode (ab_code (zx σ n0 bf).1 8075) 28 = .ok (.return_, 1) := zd zm_8075 (by decide +kernel)
theorem d_8075_29 {σ : Nat → Nat} {n0 : Nat} {bf : ab_B} : decode (ab_code (zx σ n0 bf).1 8075) 29 = .ok (.aload_n 0, 1) := zd zm_8075 (by decide +kernel)
theorem d_8075_30 {σ : Nat → Nat} {n0 : Nat} {bf : ab_B} : decode (ab_code (zx σ n0 bf).1 8075) 30 = .ok (.aload_n 0, 1) := zd zm_8075 (by decide +kernel)
theorem d_8075_31 {σ : Nat → Nat} {n0 : Nat} {bf : ab_B} : decode (ab_code (zx σ n0 bf).1 8075) 31 = .ok (.getfield 191, 3) := zd zm_8075 (by decide +kernel)
theorem d_8075_34 {σ : Nat → Nat} {n0 : Nat} {bf : ab_B} : decode (ab_code (zx σ n0 bf).1 8075) 34 = .ok (.iload_n 2, 1) := zd zm_8075 (by decide +kernel)
theorem d_8075_35 {σ : Nat → Nat} {n0 : Nat} {bf : ab_B} : decode (ab_code (zx σ n0 bf).1 8075) 35 = .ok (.iaload, 1) := zd zm_8075 (by decide +kernel)
theorem d_8075_36 {σ : Nat → Nat} {n0 : Nat} {bf : ab_B} : decode (ab_code (zx σ n0 bf).1 8075) 36 = .ok (.aload_n 0, 1) := zd zm_8075 (by decide +kernel)
theorem d_8075_37 {σ : Nat → Nat} {n0 : Nat} {bf : ab_B} : decode (ab_code (zx σ n0 bf).1 8075) 37 = .ok (.getfield 494, 3) := zd zm_8075 (by decide +kernel)
theorem d_8075_40 {σ : Nat → Nat} {n0 : Nat} {bf : ab_B} : decode (ab_code (zx σ n0 bf).1 8075) 40 = .ok (.invokevirtual 739, 3) := zd zm_8075 (by decide +kernel)
theorem d_8075_43 {σ : Nat → Nat} {n0 : Nat} {bf : ab_B} : decode (ab_code (zx σ n0 bf).1 8075) 43 = .ok (.istore_n 3, 1) := zd zm_8075 (by decide +kernel)
theorem d_8075_44 {σ : Nat → Nat} {n0 : Nat} {bf : ab_B} : decode (ab_code (zx σ n0 bf).1 8075) 44 = .ok (.iload_n 3, 1) := zd zm_8075 (by decide +kernel)
theorem d_8075_45 {σ : Nat → Nat} {n0 : Nat} {bf : ab_B} : decode (ab_code (zx σ n0 bf).1 8075) 45 = .ok (.iconst (-1), 1) := zd zm_8075 (by decide +kernel)
theorem d_8075_46 {σ : Nat → Nat} {n0 : Nat} {bf : ab_B} : decode (ab_code (zx σ n0 bf).1 8075) 46 = .ok (.if_icmp .ne 20, 3) := zd zm_8075 (by decide +kernel)
theorem d_8075_49 {σ : Nat → Nat} {n0 : Nat} {bf : ab_B} : decode (ab_code (zx σ n0 bf).1 8075) 49 = .ok (.aload_n 0, 1) := zd zm_8075 (by decide +kernel)
theorem d_8075_50 {σ : Nat → Nat} {n0 : Nat} {bf : ab_B} : decode (ab_code (zx σ n0 bf).1 8075) 50 = .ok (.aload_n 0, 1) := zd zm_8075 (by decide +kernel)
theorem d_8075_51 {σ : Nat → Nat} {n0 : Nat} {bf : ab_B} : decode (ab_code (zx σ n0 bf).1 8075) 51 = .ok (.getfield 191, 3) := zd zm_8075 (by decide +kernel)
theorem d_8075_54 {σ : Nat → Nat} {n0 : Nat} {bf : ab_B} : decode (ab_code (zx σ n0 bf).1 8075) 54 = .ok (.iload_n 2, 1) := zd zm_8075 (by decide +kernel)
theorem d_8075_55 {σ : Nat → Nat} {n0 : Nat} {bf : ab_B} : decode (ab_code (zx σ n0 bf).1 8075) 55 = .ok (.iaload, 1) := zd zm_8075 (by decide +kernel)
theorem d_8075_56 {σ : Nat → Nat} {n0 : Nat} {bf : ab_B} : decode (ab_code (zx σ n0 bf).1 8075) 56 = .ok (.aload_n 0, 1) := zd zm_8075 (by decide +kernel)
theorem d_8075_57 {σ : Nat → Nat} {n0 : Nat} {bf : ab_B} : decode (ab_code (zx σ n0 bf).1 8075) 57 = .ok (.getfield 494, 3) := zd zm_8075 (by decide +kernel)
theorem d_8075_60 {σ : Nat → Nat} {n0 : Nat} {bf : ab_B} : decode (ab_code (zx σ n0 bf).1 8075) 60 = .ok (.invokevirtual 743, 3) := zd zm_8075 (by decide +kernel)
theorem d_8075_63 {σ : Nat → Nat} {n0 : Nat} {bf : ab_B} : decode (ab_code (zx σ n0 bf).1 8075) 63 = .ok (.goto 4, 3) := zd zm_8075 (by decide +kernel)
theorem d_8075_66 {σ : Nat → Nat} {n0 : Nat} {bf : ab_B} : decode (ab_code (zx σ n0 bf).1 8075) 66 = .ok (.iconst 0, 1) := zd zm_8075 (by decide +kernel)
theorem d_8075_67 {σ : Nat → Nat} {n0 : Nat} {bf : ab_B} : decode (ab_code (zx σ n0 bf).1 8075) 67 = .ok (.istore 4, 2) := zd zm_8075 (by decide +kernel)
theorem d_8075_69 {σ : Nat → Nat} {n0 : Nat} {bf : ab_B} : decode (ab_code (zx σ n0 bf).1 8075) 69 = .ok (.iload_n 3, 1) := zd zm_8075 (by decide +kernel)
theorem d_8075_70 {σ : Nat → Nat} {n0 : Nat} {bf : ab_B} : decode (ab_code (zx σ n0 bf).1 8075) 70 = .ok (.iconst (-1), 1) := zd zm_8075 (by decide +kernel)
theorem d_8075_71 {σ : Nat → Nat} {n0 : Nat} {bf : ab_B} : decode (ab_code (zx σ n0 bf).1 8075) 71 = .ok (.if_icmp .eq 66, 3) := zd zm_8075 (by decide +kernel)
theorem d_8075_74 {σ : Nat → Nat} {n0 : Nat} {bf : ab_B} : decode (ab_code (zx σ n0 bf).1 8075) 74 = .ok (.aload_n 0, 1) := zd zm_8075 (by decide +kernel)
theorem d_8075_75 {σ : Nat → Nat} {n0 : Nat} {bf : ab_B} : decode (ab_code (zx σ n0 bf).1 8075) 75 = .ok (.bipush 7, 2) := zd zm_8075 (by decide +kernel)
theorem d_8075_77 {σ : Nat → Nat} {n0 : Nat} {bf : ab_B} : decode (ab_code (zx σ n0 bf).1 8075) 77 = .ok (.iload_n 3, 1) := zd zm_8075 (by decide +kernel)
theorem d_8075_78 {σ : Nat → Nat} {n0 : Nat} {bf : ab_B} : decode (ab_code (zx σ n0 bf).1 8075) 78 = .ok (.aload_n 0, 1) := zd zm_8075 (by decide +kernel)
theorem d_8075_79 {σ : Nat → Nat} {n0 : Nat} {bf : ab_B} : decode (ab_code (zx σ n0 bf).1 8075) 79 = .ok (.getfield 124, 3) := zd zm_8075 (by decide +kernel)
theorem d_8075_82 {σ : Nat → Nat} {n0 : Nat} {bf : ab_B} : decode (ab_code (zx σ n0 bf).1 8075) 82 = .ok (.aload_n 0, 1) := zd zm_8075 (by decide +kernel)
theorem d_8075_83 {σ : Nat → Nat} {n0 : Nat} {bf : ab_B} : decode (ab_code (zx σ n0 bf).1 8075) 83 = .ok (.aload_n 0, 1) := zd zm_8075 (by decide +kernel)
theorem d_8075_84 {σ : Nat → Nat} {n0 : Nat} {bf : ab_B} : decode (ab_code (zx σ n0 bf).1 8075) 84 = .ok (.getfield 191, 3) := zd zm_8075 (by decide +kernel)
theorem d_8075_87 {σ : Nat → Nat} {n0 : Nat} {bf : ab_B} : decode (ab_code (zx σ n0 bf).1 8075) 87 = .ok (.iload_n 2, 1) := zd zm_8075 (by decide +kernel)
theorem d_8075_88 {σ : Nat → Nat} {n0 : Nat} {bf : ab_B} : decode (ab_code (zx σ n0 bf).1 8075) 88 = .ok (.iaload, 1) := zd zm_8075 (by decide +kernel)
theorem d_8075_89 {σ : Nat → Nat} {n0 : Nat} {bf : ab_B} : decode (ab_code (zx σ n0 bf).1 8075) 89 = .ok (.invokevirtual 727, 3) := zd zm_8075 (by decide +kernel)
theorem d_8075_92 {σ : Nat → Nat} {n0 : Nat} {bf : ab_B} : decode (ab_code (zx σ n0 bf).1 8075) 92 = .ok (.iaload, 1) := zd zm_8075 (by decide +kernel)
theorem d_8075_93 {σ : Nat → Nat} {n0 : Nat} {bf : ab_B} : decode (ab_code (zx σ n0 bf).1 8075) 93 = .ok (.isub, 1) := zd zm_8075 (by decide +kernel)
theorem d_8075_94 {σ : Nat → Nat} {n0 : Nat} {bf : ab_B} : decode (ab_code (zx σ n0 bf).1 8075) 94 = .ok (.iconst 0, 1) := zd zm_8075 (by decide +kernel)
theorem d_8075_95 {σ : Nat → Nat} {n0 : Nat} {bf : ab_B} : decode (ab_code (zx σ n0 bf).1 8075) 95 = .ok (.iload_n 1, 1) := zd zm_8075 (by decide +kernel)
theorem d_8075_96 {σ : Nat → Nat} {n0 : Nat} {bf : ab_B} : decode (ab_code (zx σ n0 bf).1 8075) 96 = .ok (.invokevirtual 656, 3) := zd zm_8075 (by decide +kernel)
theorem d_8075_99 {σ : Nat → Nat} {n0 : Nat} {bf : ab_B} : decode (ab_code (zx σ n0 bf).1 8075) 99 = .ok (.istore 5, 2) := zd zm_8075 (by decide +kernel)
theorem d_8075_101 {σ : Nat → Nat} {n0 : Nat} {bf : ab_B} : decode (ab_code (zx σ n0 bf).1 8075) 101 = .ok (.aload_n 0, 1) := zd zm_8075 (by decide +kernel)
theorem d_8075_102 {σ : Nat → Nat} {n0 : Nat} {bf : ab_B} : decode (ab_code (zx σ n0 bf).1 8075) 102 = .ok (.getfield 191, 3) := zd zm_8075 (by decide +kernel)
theorem d_8075_105 {σ : Nat → Nat} {n0 : Nat} {bf : ab_B} : decode (ab_code (zx σ n0 bf).1 8075) 105 = .ok (.iload_n 2, 1) := zd zm_8075 (by decide +kernel)
theorem d_8075_106 {σ : Nat → Nat} {n0 : Nat} {bf : ab_B} : decode (ab_code (zx σ n0 bf).1 8075) 106 = .ok (.aload_n 0, 1) := zd zm_8075 (by decide +kernel)
theorem d_8075_107 {σ : Nat → Nat} {n0 : Nat} {bf : ab_B} : decode (ab_code (zx σ n0 bf).1 8075) 107 = .ok (.getfield 136, 3) := zd zm_8075 (by decide +kernel)
theorem d_8075_110 {σ : Nat → Nat} {n0 : Nat} {bf : ab_B} : decode (ab_code (zx σ n0 bf).1 8075) 110 = .ok (.iload_n 3, 1) := zd zm_8075 (by decide +kernel)
theorem d_8075_111 {σ : Nat → Nat} {n0 : Nat} {bf : ab_B} : decode (ab_code (zx σ n0 bf).1 8075) 111 = .ok (.iaload, 1) := zd zm_8075 (by decide +kernel)
theorem d_8075_112 {σ : Nat → Nat} {n0 : Nat} {bf : ab_B} : decode (ab_code (zx σ n0 bf).1 8075) 112 = .ok (.iastore, 1) := zd zm_8075 (by decide +kernel)
theorem d_8075_113 {σ : Nat → Nat} {n0 : Nat} {bf : ab_B} : decode (ab_code (zx σ n0 bf).1 8075) 113 = .ok (.aload_n 0, 1) := zd zm_8075 (by decide +kernel)
theorem d_8075_114 {σ : Nat → Nat} {n0 : Nat} {bf : ab_B} : decode (ab_code (zx σ n0 bf).1 8075) 114 = .ok (.getfield 194, 3) := zd zm_8075 (by decide +kernel)
theorem d_8075_117 {σ : Nat → Nat} {n0 : Nat} {bf : ab_B} : decode (ab_code (zx σ n0 bf).1 8075) 117 = .ok (.iload_n 2, 1) := zd zm_8075 (by decide +kernel)
theorem d_8075_118 {σ : Nat → Nat} {n0 : Nat} {bf : ab_B} : decode (ab_code (zx σ n0 bf).1 8075) 118 = .ok (.iconst 0, 1) := zd zm_8075 (by decide +kernel)
theorem d_8075_119 {σ : Nat → Nat} {n0 : Nat} {bf : ab_B} : decode (ab_code (zx σ n0 bf).1 8075) 119 = .ok (.bastore, 1) := zd zm_8075 (by decide +kernel)
theorem d_8075_120 {σ : Nat → Nat} {n0 : Nat} {bf : ab_B} : decode (ab_code (zx σ n0 bf).1 8075) 120 = .ok (.aload_n 0, 1) := zd zm_8075 (by decide +kernel)
theorem d_8075_121 {σ : Nat → Nat} {n0 : Nat} {bf : ab_B} : decode (ab_code (zx σ n0 bf).1 8075) 121 = .ok (.getfield 200, 3) := zd zm_8075 (by decide +kernel)
theorem d_8075_124 {σ : Nat → Nat} {n0 : Nat} {bf : ab_B} : decode (ab_code (zx σ n0 bf).1 8075) 124 = .ok (.iload_n 2, 1) := zd zm_8075 (by decide +kernel)
theorem d_8075_125 {σ : Nat → Nat} {n0 : Nat} {bf : ab_B} : decode (ab_code (zx σ n0 bf).1 8075) 125 = .ok (.iconst 4, 1) := zd zm_8075 (by decide +kernel)
theorem d_8075_126 {σ : Nat → Nat} {n0 : Nat} {bf : ab_B} : decode (ab_code (zx σ n0 bf).1 8075) 126 = .ok (.iastore, 1) := zd zm_8075 (by decide +kernel)
theorem d_8075_127 {σ : Nat → Nat} {n0 : Nat} {bf : ab_B} : decode (ab_code (zx σ n0 bf).1 8075) 127 = .ok (.aload_n 0, 1) := zd zm_8075 (by decide +kernel)
theorem d_8075_128 {σ : Nat → Nat} {n0 : Nat} {bf : ab_B} : decode (ab_code (zx σ n0 bf).1 8075) 128 = .ok (.getfield 206, 3) := zd zm_8075 (by decide +kernel)
theorem d_8075_131 {σ : Nat → Nat} {n0 : Nat} {bf : ab_B} : decode (ab_code (zx σ n0 bf).1 8075) 131 = .ok (.iload_n 2, 1) := zd zm_8075 (by decide +kernel)
theorem d_8075_132 {σ : Nat → Nat} {n0 : Nat} {bf : ab_B} : decode (ab_code (zx σ n0 bf).1 8075) 132 = .ok (.iload_n 1, 1) := zd zm_8075 (by decide +kernel)
theorem d_8075_133 {σ : Nat → Nat} {n0 : Nat} {bf : ab_B} : decode (ab_code (zx σ n0 bf).1 8075) 133 = .ok (.iastore, 1) := zd zm_8075 (by decide +kernel)
theorem d_8075_134 {σ : Nat → Nat} {n0 : Nat} {bf : ab_B} : decode (ab_code (zx σ n0 bf).1 8075) 134 = .ok (.goto 86, 3) := zd zm_8075 (by decide +kernel)
theorem d_8075_137 {σ : Nat → Nat} {n0 : Nat} {bf : ab_B} : decode (ab_code (zx σ n0 bf).1 8075) 137 = .ok (.iload 4, 2) := zd zm_8075 (by decide +kernel)
theorem d_8075_139 {σ : Nat → Nat} {n0 : Nat} {bf : ab_B} : decode (ab_code (zx σ n0 bf).1 8075) 139 = .ok (.ifCond .le 76, 3) := zd zm_8075 (by decide +kernel)
theorem d_8075_142 {σ : Nat → Nat} {n0 : Nat} {bf : ab_B} : decode (ab_code (zx σ n0 bf).1 8075) 142 = .ok (.aload_n 0, 1) := zd zm_8075 (by decide +kernel)
theorem d_8075_143 {σ : Nat → Nat} {n0 : Nat} {bf : ab_B} : decode (ab_code (zx σ n0 bf).1 8075) 143 = .ok (.iconst 4, 1) := zd zm_8075 (by decide +kernel)
theorem d_8075_144 {σ : Nat → Nat} {n0 : Nat} {bf : ab_B} : decode (ab_code (zx σ n0 bf).1 8075) 144 = .ok (.iload 4, 2) := zd zm_8075 (by decide +kernel)
theorem d_8075_146 {σ : Nat → Nat} {n0 : Nat} {bf : ab_B} : decode (ab_code (zx σ n0 bf).1 8075) 146 = .ok (.iconst 0, 1) := zd zm_8075 (by decide +kernel)
theorem d_8075_147 {σ : Nat → Nat} {n0 : Nat} {bf : ab_B} : decode (ab_code (zx σ n0 bf).1 8075) 147 = .ok (.iload_n 1, 1) := zd zm_8075 (by decide +kernel)
theorem d_8075_148 {σ : Nat → Nat} {n0 : Nat} {bf : ab_B} : decode (ab_code (zx σ n0 bf).1 8075) 148 = .ok (.invokevirtual 656, 3) := zd zm_8075 (by decide +kernel)
theorem d_8075_151 {σ : Nat → Nat} {n0 : Nat} {bf : ab_B} : decode (ab_code (zx σ n0 bf).1 8075) 151 = .ok (.istore 5, 2) := zd zm_8075 (by decide +kernel)
theorem d_8075_153 {σ : Nat → Nat} {n0 : Nat} {bf : ab_B} : decode (ab_code (zx σ n0 bf).1 8075) 153 = .ok (.aload_n 0, 1) := zd zm_8075 (by decide +kernel)
theorem d_8075_154 {σ : Nat → Nat} {n0 : Nat} {bf : ab_B} : decode (ab_code (zx σ n0 bf).1 8075) 154 = .ok (.getfield 191, 3) := zd zm_8075 (by decide +kernel)
theorem d_8075_157 {σ : Nat → Nat} {n0 : Nat} {bf : ab_B} : decode (ab_code (zx σ n0 bf).1 8075) 157 = .ok (.iload_n 2, 1) := zd zm_8075 (by decide +kernel)
theorem d_8075_158 {σ : Nat → Nat} {n0 : Nat} {bf : ab_B} : decode (ab_code (zx σ n0 bf).1 8075) 158 = .ok (.aload_n 0, 1) := zd zm_8075 (by decide +kernel)
theorem d_8075_159 {σ : Nat → Nat} {n0 : Nat} {bf : ab_B} : decode (ab_code (zx σ n0 bf).1 8075) 159 = .ok (.getfield 142, 3) := zd zm_8075 (by decide +kernel)
theorem d_8075_162 {σ : Nat → Nat} {n0 : Nat} {bf : ab_B} : decode (ab_code (zx σ n0 bf).1 8075) 162 = .ok (.iload 4, 2) := zd zm_8075 (by decide +kernel)
theorem d_8075_164 {σ : Nat → Nat} {n0 : Nat} {bf : ab_B} : decode (ab_code (zx σ n0 bf).1 8075) 164 = .ok (.iaload, 1) := zd zm_8075 (by decide +kernel)
theorem d_8075_165 {σ : Nat → Nat} {n0 : Nat} {bf : ab_B} : decode (ab_code (zx σ n0 bf).1 8075) 165 = .ok (.iastore, 1) := zd zm_8075 (by decide +kernel)
theorem d_8075_166 {σ : Nat → Nat} {n0 : Nat} {bf : ab_B} : decode (ab_code (zx σ n0 bf).1 8075) 166 = .ok (.aload_n 0, 1) := zd zm_8075 (by decide +kernel)
theorem d_8075_167 {σ : Nat → Nat} {n0 : Nat} {bf : ab_B} : decode (ab_code (zx σ n0 bf).1 8075) 167 = .ok (.getfield 200, 3) := zd zm_8075 (by decide +kernel)
theorem d_8075_170 {σ : Nat → Nat} {n0 : Nat} {bf : ab_B} : decode (ab_code (zx σ n0 bf).1 8075) 170 = .ok (.iload_n 2, 1) := zd zm_8075 (by decide +kernel)
theorem d_8075_171 {σ : Nat → Nat} {n0 : Nat} {bf : ab_B} : decode (ab_code (zx σ n0 bf).1 8075) 171 = .ok (.aload_n 0, 1) := zd zm_8075 (by decide +kernel)
theorem d_8075_172 {σ : Nat → Nat} {n0 : Nat} {bf : ab_B} : decode (ab_code (zx σ n0 bf).1 8075) 172 = .ok (.getfield 200, 3) := zd zm_8075 (by decide +kernel)
theorem d_8075_175 {σ : Nat → Nat} {n0 : Nat} {bf : ab_B} : decode (ab_code (zx σ n0 bf).1 8075) 175 = .ok (.iload_n 2, 1) := zd zm_8075 (by decide +kernel)
theorem d_8075_176 {σ : Nat → Nat} {n0 : Nat} {bf : ab_B} : decode (ab_code (zx σ n0 bf).1 8075) 176 = .ok (.iaload, 1) := zd zm_8075 (by decide +kernel)
theorem d_8075_177 {σ : Nat → Nat} {n0 : Nat} {bf : ab_B} : decode (ab_code (zx σ n0 bf).1 8075) 177 = .ok (.iconst 1, 1) := zd zm_8075 (by decide +kernel)
theorem d_8075_178 {σ : Nat → Nat} {n0 : Nat} {bf : ab_B} : decode (ab_code (zx σ n0 bf).1 8075) 178 = .ok (.iand, 1) := zd zm_8075 (by decide +kernel)
theorem d_8075_179 {σ : Nat → Nat} {n0 : Nat} {bf : ab_B} : decode (ab_code (zx σ n0 bf).1 8075) 179 = .ok (.aload_n 0, 1) := zd zm_8075 (by decide +kernel)
theorem d_8075_180 {σ : Nat → Nat} {n0 : Nat} {bf : ab_B} : decode (ab_code (zx σ n0 bf).1 8075) 180 = .ok (.getfield 151, 3) := zd zm_8075 (by decide +kernel)
theorem d_8075_183 {σ : Nat → Nat} {n0 : Nat} {bf : ab_B} : decode (ab_code (zx σ n0 bf).1 8075) 183 = .ok (.iload 4, 2) := zd zm_8075 (by decide +kernel)
theorem d_8075_185 {σ : Nat → Nat} {n0 : Nat} {bf : ab_B} : decode (ab_code (zx σ n0 bf).1 8075) 185 = .ok (.baload, 1) := zd zm_8075 (by decide +kernel)
theorem d_8075_186 {σ : Nat → Nat} {n0 : Nat} {bf : ab_B} : decode (ab_code (zx σ n0 bf).1 8075) 186 = .ok (.ifCond .eq 7, 3) := zd zm_8075 (by decide +kernel)
theorem d_8075_189 {σ : Nat → Nat} {n0 : Nat} {bf : ab_B} : decode (ab_code (zx σ n0 bf).1 8075) 189 = .ok (.iconst 2, 1) := zd zm_8075 (by decide +kernel)
theorem d_8075_190 {σ : Nat → Nat} {n0 : Nat} {bf : ab_B} : decode (ab_code (zx σ n0 bf).1 8075) 190 = .ok (.goto 4, 3) := zd zm_8075 (by decide +kernel)
theorem d_8075_193 {σ : Nat → Nat} {n0 : Nat} {bf : ab_B} : decode (ab_code (zx σ n0 bf).1 8075) 193 = .ok (.iconst 0, 1) := zd zm_8075 (by decide +kernel)
theorem d_8075_194 {σ : Nat → Nat} {n0 : Nat} {bf : ab_B} : decode (ab_code (zx σ n0 bf).1 8075) 194 = .ok (.ior, 1) := zd zm_8075 (by decide +kernel)
theorem d_8075_195 {σ : Nat → Nat} {n0 : Nat} {bf : ab_B} : decode (ab_code (zx σ n0 bf).1 8075) 195 = .ok (.iastore, 1) := zd zm_8075 (by decide +kernel)
theorem d_8075_196 {σ : Nat → Nat} {n0 : Nat} {bf : ab_B} : decode (ab_code (zx σ n0 bf).1 8075) 196 = .ok (.aload_n 0, 1) := zd zm_8075 (by decide +kernel)
theorem d_8075_197 {σ : Nat → Nat} {n0 : Nat} {bf : ab_B} : decode (ab_code (zx σ n0 bf).1 8075) 197 = .ok (.getfield 206, 3) := zd zm_8075 (by decide +kernel)
theorem d_8075_200 {σ : Nat → Nat} {n0 : Nat} {bf : ab_B} : decode (ab_code (zx σ n0 bf).1 8075) 200 = .ok (.iload_n 2, 1) := zd zm_8075 (by decide +kernel)
theorem d_8075_201 {σ : Nat → Nat} {n0 : Nat} {bf : ab_B} : decode (ab_code (zx σ n0 bf).1 8075) 201 = .ok (.iload_n 1, 1) := zd zm_8075 (by decide +kernel)
theorem d_8075_202 {σ : Nat → Nat} {n0 : Nat} {bf : ab_B} : decode (ab_code (zx σ n0 bf).1 8075) 202 = .ok (.iastore, 1) := zd zm_8075 (by decide +kernel)
theorem d_8075_203 {σ : Nat → Nat} {n0 : Nat} {bf : ab_B} : decode (ab_code (zx σ n0 bf).1 8075) 203 = .ok (.aload_n 0, 1) := zd zm_8075 (by decide +kernel)
theorem d_8075_204 {σ : Nat → Nat} {n0 : Nat} {bf : ab_B} : decode (ab_code (zx σ n0 bf).1 8075) 204 = .ok (.bipush 18, 2) := zd zm_8075 (by decide +kernel)
theorem d_8075_206 {σ : Nat → Nat} {n0 : Nat} {bf : ab_B} : decode (ab_code (zx σ n0 bf).1 8075) 206 = .ok (.iconst 0, 1) := zd zm_8075 (by decide +kernel)
theorem d_8075_207 {σ : Nat → Nat} {n0 : Nat} {bf : ab_B} : decode (ab_code (zx σ n0 bf).1 8075) 207 = .ok (.iconst 0, 1) := zd zm_8075 (by decide +kernel)
theorem d_8075_208 {σ : Nat → Nat} {n0 : Nat} {bf : ab_B} : decode (ab_code (zx σ n0 bf).1 8075) 208 = .ok (.iconst 0, 1) := zd zm_8075 (by decide +kernel)
theorem d_8075_209 {σ : Nat → Nat} {n0 : Nat} {bf : ab_B} : decode (ab_code (zx σ n0 bf).1 8075) 209 = .ok (.invokevirtual 649, 3) := zd zm_8075 (by decide +kernel)
theorem d_8075_212 {σ : Nat → Nat} {n0 : Nat} {bf : ab_B} : decode (ab_code (zx σ n0 bf).1 8075) 212 = .ok (.goto 8, 3) := zd zm_8075 (by decide +kernel)
theorem d_8075_215 {σ : Nat → Nat} {n0 : Nat} {bf : ab_B} : decode (ab_code (zx σ n0 bf).1 8075) 215 = .ok (.aload_n 0, 1) := zd zm_8075 (by decide +kernel)
theorem d_8075_216 {σ : Nat → Nat} {n0 : Nat} {bf : ab_B} : decode (ab_code (zx σ n0 bf).1 8075) 216 = .ok (.iconst 3, 1) := zd zm_8075 (by decide +kernel)
theorem d_8075_217 {σ : Nat → Nat} {n0 : Nat} {bf : ab_B} : decode (ab_code (zx σ n0 bf).1 8075) 217 = .ok (.invokevirtual 541, 3) := zd zm_8075 (by decide +kernel)
theorem d_8075_220 {σ : Nat → Nat} {n0 : Nat} {bf : ab_B} : decode (ab_code (zx σ n0 bf).1 8075) 220 = .ok (.aload_n 0, 1) := zd zm_8075 (by decide +kernel)
theorem d_8075_221 {σ : Nat → Nat} {n0 : Nat} {bf : ab_B} : decode (ab_code (zx σ n0 bf).1 8075) 221 = .ok (.invokevirtual 538, 3) := zd zm_8075 (by decide +kernel)
theorem d_8075_224 {σ : Nat → Nat} {n0 : Nat} {bf : ab_B} : decode (ab_code (zx σ n0 bf).1 8075) 224 = .ok (.return_, 1) := zd zm_8075 (by decide +kernel)
def w_X9_part_220 (X : zs_X) (d : Nat) (p0 : Nat) (S : zs_T) (Q : zs_Q) : Prop :=
  (zs_K S p0 = some (.inl 8) ∧ zs_C X d 8014 [.ref p0] S (zs_kV (fun S2 => (Q (.returned none) S2)) Q))
theorem u_X9_part_220 {σ : Nat → Nat} {n0 : Nat} {bf : ab_B} {d : Nat} {p0 : Nat} {S : zs_T} {Q : zs_Q} (hB : zt_B bf) (h : w_X9_part_220 (zx σ n0 bf) d p0 S Q) : zs_U (zx σ n0 bf) d 8075 220 [(0, .ref p0)] [] S Q := by
  unfold w_X9_part_220 at h
  refine zu_aload_n d_8075_220 rfl (zs_ra _) ?_
  obtain ⟨k1, h⟩ := h
  refine zc_8_538  hB rfl k1 d_8075_221 (Nat.le_of_ble_eq_true rfl) h (fun S2 h => ?_)
  exact zu_vret d_8075_224 zr_8075 h
def w_X9_part_194 (X : zs_X) (d : Nat) (p0 : Nat) (p1 : Int32) (p2 : Int32) (q0 : Option Nat) (q1 : Int32) (q2 : Int32) (q3 : Int32) (S : zs_T) (Q : zs_Q) : Prop :=
  (∃ b1, q0 = some b1 ∧ zs_A S b1 0 q1 ∧ ab_n0 X.1 ≤ b1 ∧ ∀ S5, S5 = zs_si S b1 q1.toNatClampNeg (q2 ||| q3) → zs_K S p0 = some (.inl 8) ∧ ∃ b9, (zs_R S5 8096 p0) = some b9 ∧ zs_A S b9 0 p2 ∧ ab_n0 X.1 ≤ b9 ∧ ∀ S13, S13 = zs_si S5 b9 p2.toNatClampNeg p1 → zs_C X d 8030 [.ref p0, .int (18 : Int32), .int (0 : Int32), .int (0 : Int32), .int (0 : Int32)] S13 (zs_kV (fun S16 => (w_X9_part_220 X d p0 S16 Q)) Q))
theorem u_X9_part_194 {σ : Nat → Nat} {n0 : Nat} {bf : ab_B} {d : Nat} {p0 : Nat} {p1 : Int32} {p2 : Int32} {q0 : Option Nat} {q1 : Int32} {q2 : Int32} {q3 : Int32} {S : zs_T} {Q : zs_Q} (hB : zt_B bf) (h : w_X9_part_194 (zx σ n0 bf) d p0 p1 p2 q0 q1 q2 q3 S Q) : zs_U (zx σ n0 bf) d 8075 194 [(0, .ref p0), (1, .int p1), (2, .int p2)] [.int q3, .int q2, .int q1, va_rf q0] S Q := by
  unfold w_X9_part_194 at h
  refine zu_stk d_8075_194 rfl rfl ?_
  obtain ⟨b1, e2, h⟩ := h
  refine zs_stk2 (zs_rfe e2) ?_
  obtain ⟨k3, h⟩ := h
  obtain ⟨k4, h⟩ := h
  refine zu_iast (k := 0) d_8075_195 rfl rfl k4 k3 ?_
  generalize e6 : zs_si S b1 q1.toNatClampNeg (q2 ||| q3) = S5
  have h := h S5 e6.symm
  have K7 : ∀ b, zs_K S5 b = zs_K S b := zs_Kt e6 (zs_Ksi _ _ _ _) (fun _ => rfl)
  refine zu_aload_n d_8075_196 rfl (zs_ra _) ?_
  obtain ⟨k8, h⟩ := h
  refine zg_8_206 rfl d_8075_197 ((K7 _).trans k8) ?_
  refine zu_iload_n d_8075_200 rfl ?_
  refine zu_iload_n d_8075_201 rfl ?_
  obtain ⟨b9, e10, h⟩ := h
  refine zs_stk2 (zs_rfe e10) ?_
  obtain ⟨k11, h⟩ := h
  obtain ⟨k12, h⟩ := h
  refine zu_iast (k := 0) d_8075_202 rfl rfl k12 (zs_Ak K7 k11) ?_
  generalize e14 : zs_si S5 b9 p2.toNatClampNeg p1 = S13
  have h := h S13 e14.symm
  have K15 : ∀ b, zs_K S13 b = zs_K S b := zs_Kt e14 (zs_Ksi _ _ _ _) K7
  refine zu_aload_n d_8075_203 rfl (zs_ra _) ?_
  refine zu_bipush d_8075_204 zj_18 ?_
  refine zu_iconst d_8075_206 zi_0 ?_
  refine zu_iconst d_8075_207 zi_0 ?_
  refine zu_iconst d_8075_208 zi_0 ?_
  refine zc_8_649 (x0 := (18 : Int32)) (x1 := (0 : Int32)) (x2 := (0 : Int32)) (x3 := (0 : Int32)) hB rfl ((K15 _).trans k8) d_8075_209 (Nat.le_of_ble_eq_true rfl) h (fun S16 h => ?_)
  refine zu_goto (t := 220) d_8075_212 rfl ?_
  exact (u_X9_part_220 hB h).weak ⟨rfl, trivial⟩
def w_X9_part_166 (X : zs_X) (d : Nat) (p0 : Nat) (p1 : Int32) (p2 : Int32) (p4 : Int32) (S : zs_T) (Q : zs_Q) : Prop :=
  (zs_K S p0 = some (.inl 8) ∧ ∃ b2, (zs_R S 8094 p0) = some b2 ∧ zs_A S b2 0 p2 ∧ ∃ b5, (zs_R S 8068 p0) = some b5 ∧ zs_A S b5 2 p4 ∧ (((zs_i S b5 p4.toNatClampNeg) = 0 → (w_X9_part_194 X d p0 p1 p2 (zs_R S 8094 p0) p2 ((zs_i S b2 p2.toNatClampNeg) &&& (1 : Int32)) (0 : Int32) S Q)) ∧ (¬ ((zs_i S b5 p4.toNatClampNeg) = 0) → (w_X9_part_194 X d p0 p1 p2 (zs_R S 8094 p0) p2 ((zs_i S b2 p2.toNatClampNeg) &&& (1 : Int32)) (2 : Int32) S Q))))
theorem u_X9_part_166 {σ : Nat → Nat} {n0 : Nat} {bf : ab_B} {d : Nat} {p0 : Nat} {p1 : Int32} {p2 : Int32} {p4 : Int32} {S : zs_T} {Q : zs_Q} (hB : zt_B bf) (h : w_X9_part_166 (zx σ n0 bf) d p0 p1 p2 p4 S Q) : zs_U (zx σ n0 bf) d 8075 166 [(0, .ref p0), (1, .int p1), (2, .int p2), (4, .int p4)] [] S Q := by
  unfold w_X9_part_166 at h
  refine zu_aload_n d_8075_166 rfl (zs_ra _) ?_
  obtain ⟨k1, h⟩ := h
  refine zg_8_200 rfl d_8075_167 k1 ?_
  refine zu_iload_n d_8075_170 rfl ?_
  refine zu_aload_n d_8075_171 rfl (zs_ra _) ?_
  refine zg_8_200 rfl d_8075_172 k1 ?_
  refine zu_iload_n d_8075_175 rfl ?_
  obtain ⟨b2, e3, h⟩ := h
  refine zs_stk1 (zs_rfe e3) ?_
  obtain ⟨k4, h⟩ := h
  refine zu_iald (k := 0) d_8075_176 rfl rfl k4 ?_
  refine zu_iconst d_8075_177 zi_1 ?_
  refine zu_stk d_8075_178 rfl rfl ?_
  refine zu_aload_n d_8075_179 rfl (zs_ra _) ?_
  refine zg_8_151 rfl d_8075_180 k1 ?_
  refine zu_iload d_8075_183 rfl ?_
  obtain ⟨b5, e6, h⟩ := h
  refine zs_stk1 (zs_rfe e6) ?_
  obtain ⟨k7, h⟩ := h
  refine zu_bald (k := 2) d_8075_185 rfl (Or.inr rfl) k7 ?_
  refine zu_ifeq (t := 193) d_8075_186 rfl (fun c8 => ?_) (fun c8 => ?_)
  · have h := h.1 c8
    refine zu_iconst d_8075_193 zi_0 ?_
    exact (u_X9_part_194 hB h).weak ⟨rfl, rfl, rfl, trivial⟩
  · have h := h.2 c8
    refine zu_iconst d_8075_189 zi_2 ?_
    refine zu_goto (t := 194) d_8075_190 rfl ?_
    exact (u_X9_part_194 hB h).weak ⟨rfl, rfl, rfl, trivial⟩
def w_X9_part_127 (X : zs_X) (d : Nat) (p0 : Nat) (p1 : Int32) (p2 : Int32) (S : zs_T) (Q : zs_Q) : Prop :=
  (zs_K S p0 = some (.inl 8) ∧ ∃ b2, (zs_R S 8096 p0) = some b2 ∧ zs_A S b2 0 p2 ∧ ab_n0 X.1 ≤ b2 ∧ ∀ S6, S6 = zs_si S b2 p2.toNatClampNeg p1 → w_X9_part_220 X d p0 S6 Q)
theorem u_X9_part_127 {σ : Nat → Nat} {n0 : Nat} {bf : ab_B} {d : Nat} {p0 : Nat} {p1 : Int32} {p2 : Int32} {S : zs_T} {Q : zs_Q} (hB : zt_B bf) (h : w_X9_part_127 (zx σ n0 bf) d p0 p1 p2 S Q) : zs_U (zx σ n0 bf) d 8075 127 [(0, .ref p0), (1, .int p1), (2, .int p2)] [] S Q := by
  unfold w_X9_part_127 at h
  refine zu_aload_n d_8075_127 rfl (zs_ra _) ?_
  obtain ⟨k1, h⟩ := h
  refine zg_8_206 rfl d_8075_128 k1 ?_
  refine zu_iload_n d_8075_131 rfl ?_
  refine zu_iload_n d_8075_132 rfl ?_
  obtain ⟨b2, e3, h⟩ := h
  refine zs_stk2 (zs_rfe e3) ?_
  obtain ⟨k4, h⟩ := h
  obtain ⟨k5, h⟩ := h
  refine zu_iast (k := 0) d_8075_133 rfl rfl k5 k4 ?_
  generalize e7 : zs_si S b2 p2.toNatClampNeg p1 = S6
  have h := h S6 e7.symm
  have K8 : ∀ b, zs_K S6 b = zs_K S b := zs_Kt e7 (zs_Ksi _ _ _ _) (fun _ => rfl)
  refine zu_goto (t := 220) d_8075_134 rfl ?_
  exact (u_X9_part_220 hB h).weak ⟨rfl, trivial⟩
def w_X9_part_101 (X : zs_X) (d : Nat) (p0 : Nat) (p1 : Int32) (p2 : Int32) (p3 : Int32) (S : zs_T) (Q : zs_Q) : Prop :=
  (zs_K S p0 = some (.inl 8) ∧ ∃ b2, (zs_R S 8062 p0) = some b2 ∧ zs_A S b2 0 p3 ∧ ∃ b5, (zs_R S 8091 p0) = some b5 ∧ zs_A S b5 0 p2 ∧ ab_n0 X.1 ≤ b5 ∧ ∀ S9, S9 = zs_si S b5 p2.toNatClampNeg (zs_i S b2 p3.toNatClampNeg) → ∃ b12, (zs_R S9 8092 p0) = some b12 ∧ zs_A S b12 2 p2 ∧ ab_n0 X.1 ≤ b12 ∧ ∀ S16, S16 = zs_si S9 b12 p2.toNatClampNeg (vp_nar .boolean (0 : Int32)) → ∃ b19, (zs_R S16 8094 p0) = some b19 ∧ zs_A S b19 0 p2 ∧ ab_n0 X.1 ≤ b19 ∧ ∀ S23, S23 = zs_si S16 b19 p2.toNatClampNeg (4 : Int32) → w_X9_part_127 X d p0 p1 p2 S23 Q)
theorem u_X9_part_101 {σ : Nat → Nat} {n0 : Nat} {bf : ab_B} {d : Nat} {p0 : Nat} {p1 : Int32} {p2 : Int32} {p3 : Int32} {S : zs_T} {Q : zs_Q} (hB : zt_B bf) (h : w_X9_part_101 (zx σ n0 bf) d p0 p1 p2 p3 S Q) : zs_U (zx σ n0 bf) d 8075 101 [(0, .ref p0), (1, .int p1), (2, .int p2), (3, .int p3)] [] S Q := by
  unfold w_X9_part_101 at h
  refine zu_aload_n d_8075_101 rfl (zs_ra _) ?_
  obtain ⟨k1, h⟩ := h
  refine zg_8_191 rfl d_8075_102 k1 ?_
  refine zu_iload_n d_8075_105 rfl ?_
  refine zu_aload_n d_8075_106 rfl (zs_ra _) ?_
  refine zg_8_136 rfl d_8075_107 k1 ?_
  refine zu_iload_n d_8075_110 rfl ?_
  obtain ⟨b2, e3, h⟩ := h
  refine zs_stk1 (zs_rfe e3) ?_
  obtain ⟨k4, h⟩ := h
  refine zu_iald (k := 0) d_8075_111 rfl rfl k4 ?_
  obtain ⟨b5, e6, h⟩ := h
  refine zs_stk2 (zs_rfe e6) ?_
  obtain ⟨k7, h⟩ := h
  obtain ⟨k8, h⟩ := h
  refine zu_iast (k := 0) d_8075_112 rfl rfl k8 k7 ?_
  generalize e10 : zs_si S b5 p2.toNatClampNeg (zs_i S b2 p3.toNatClampNeg) = S9
  have h := h S9 e10.symm
  have K11 : ∀ b, zs_K S9 b = zs_K S b := zs_Kt e10 (zs_Ksi _ _ _ _) (fun _ => rfl)
  refine zu_aload_n d_8075_113 rfl (zs_ra _) ?_
  refine zg_8_194 rfl d_8075_114 ((K11 _).trans k1) ?_
  refine zu_iload_n d_8075_117 rfl ?_
  refine zu_iconst d_8075_118 zi_0 ?_
  obtain ⟨b12, e13, h⟩ := h
  refine zs_stk2 (zs_rfe e13) ?_
  obtain ⟨k14, h⟩ := h
  obtain ⟨k15, h⟩ := h
  refine zu_bast_bool (k := 2) d_8075_119 rfl rfl k15 (zs_Ak K11 k14) ?_
  generalize e17 : zs_si S9 b12 p2.toNatClampNeg (vp_nar .boolean (0 : Int32)) = S16
  have h := h S16 e17.symm
  have K18 : ∀ b, zs_K S16 b = zs_K S b := zs_Kt e17 (zs_Ksi _ _ _ _) K11
  refine zu_aload_n d_8075_120 rfl (zs_ra _) ?_
  refine zg_8_200 rfl d_8075_121 ((K18 _).trans k1) ?_
  refine zu_iload_n d_8075_124 rfl ?_
  refine zu_iconst d_8075_125 zi_4 ?_
  obtain ⟨b19, e20, h⟩ := h
  refine zs_stk2 (zs_rfe e20) ?_
  obtain ⟨k21, h⟩ := h
  obtain ⟨k22, h⟩ := h
  refine zu_iast (k := 0) d_8075_126 rfl rfl k22 (zs_Ak K18 k21) ?_
  generalize e24 : zs_si S16 b19 p2.toNatClampNeg (4 : Int32) = S23
  have h := h S23 e24.symm
  have K25 : ∀ b, zs_K S23 b = zs_K S b := zs_Kt e24 (zs_Ksi _ _ _ _) K18
  exact (u_X9_part_127 hB h).weak ⟨rfl, rfl, rfl, trivial⟩
def w_X9_part_67 (X : zs_X) (d : Nat) (p0 : Nat) (p1 : Int32) (p2 : Int32) (p3 : Int32) (q0 : Int32) (S : zs_T) (Q : zs_Q) : Prop :=
  (((p3 = (-1 : Int32) → (((q0 ≤ 0 → (zs_K S p0 = some (.inl 8) ∧ zs_C X d 8027 [.ref p0, .int (3 : Int32)] S (zs_kV (fun S4 => w_X9_part_220 X d p0 S4 Q) Q))) ∧ (¬ (q0 ≤ 0) → (zs_K S p0 = some (.inl 8) ∧ zs_C X d 8012 [.ref p0, .int (4 : Int32), .int q0, .int (0 : Int32), .int p1] S (zs_kI (fun v8 S7 => (zs_K S7 p0 = some (.inl 8) ∧ ∃ b10, (zs_R S7 8065 p0) = some b10 ∧ zs_A S7 b10 0 q0 ∧ ∃ b13, (zs_R S7 8091 p0) = some b13 ∧ zs_A S7 b13 0 p2 ∧ ab_n0 X.1 ≤ b13 ∧ ∀ S17, S17 = zs_si S7 b13 p2.toNatClampNeg (zs_i S7 b10 q0.toNatClampNeg) → w_X9_part_166 X d p0 p1 p2 q0 S17 Q)) Q)))))) ∧ (¬ (p3 = (-1 : Int32)) → (zs_K S p0 = some (.inl 8) ∧ ∃ b21, (zs_R S 8091 p0) = some b21 ∧ zs_A S b21 0 p2 ∧ zs_C X d 8074 [.ref p0, .int (zs_i S b21 p2.toNatClampNeg)] S (zs_kI (fun v25 S24 => (∃ b26, (zs_R S 8057 p0) = some b26 ∧ zs_A S24 b26 0 v25 ∧ zs_K S24 p0 = some (.inl 8) ∧ zs_C X d 8012 [.ref p0, .int (7 : Int32), .int (p3 - (zs_i S24 b26 v25.toNatClampNeg)), .int (0 : Int32), .int p1] S24 (zs_kI (fun v31 S30 => (w_X9_part_101 X d p0 p1 p2 p3 S30 Q)) Q))) Q)))))
theorem u_X9_part_67 {σ : Nat → Nat} {n0 : Nat} {bf : ab_B} {d : Nat} {p0 : Nat} {p1 : Int32} {p2 : Int32} {p3 : Int32} {q0 : Int32} {S : zs_T} {Q : zs_Q} (hB : zt_B bf) (h : w_X9_part_67 (zx σ n0 bf) d p0 p1 p2 p3 q0 S Q) : zs_U (zx σ n0 bf) d 8075 67 [(0, .ref p0), (1, .int p1), (2, .int p2), (3, .int p3)] [.int q0] S Q := by
  unfold w_X9_part_67 at h
  refine zu_istore d_8075_67 (zs_lt zq_8075 rfl) ?_
  refine zu_iload_n d_8075_69 rfl ?_
  refine zu_iconst d_8075_70 zi_m1 ?_
  refine zu_cmpeq (t := 137) d_8075_71 rfl (fun c1 => ?_) (fun c1 => ?_)
  · have h := h.1 c1
    refine zu_iload d_8075_137 rfl ?_
    refine zu_ifle (t := 215) d_8075_139 rfl (fun c2 => ?_) (fun c2 => ?_)
    · have h := h.1 c2
      refine zu_aload_n d_8075_215 rfl (zs_ra _) ?_
      refine zu_iconst d_8075_216 zi_3 ?_
      obtain ⟨k3, h⟩ := h
      refine zc_8_541 (x0 := (3 : Int32)) hB rfl k3 d_8075_217 (Nat.le_of_ble_eq_true rfl) h (fun S4 h => ?_)
      exact (u_X9_part_220 hB h).weak ⟨rfl, trivial⟩
    · have h := h.2 c2
      refine zu_aload_n d_8075_142 rfl (zs_ra _) ?_
      refine zu_iconst d_8075_143 zi_4 ?_
      refine zu_iload d_8075_144 rfl ?_
      refine zu_iconst d_8075_146 zi_0 ?_
      refine zu_iload_n d_8075_147 rfl ?_
      obtain ⟨k6, h⟩ := h
      refine zc_8_656 (x0 := (4 : Int32)) (x1 := q0) (x2 := (0 : Int32)) (x3 := p1) hB rfl k6 d_8075_148 (Nat.le_of_ble_eq_true rfl) h (fun v8 S7 h => ?_)
      refine zu_istore d_8075_151 (zs_lt zq_8075 rfl) ?_
      refine zu_aload_n d_8075_153 rfl (zs_ra _) ?_
      obtain ⟨k9, h⟩ := h
      refine zg_8_191 rfl d_8075_154 k9 ?_
      refine zu_iload_n d_8075_157 rfl ?_
      refine zu_aload_n d_8075_158 rfl (zs_ra _) ?_
      refine zg_8_142 rfl d_8075_159 k9 ?_
      refine zu_iload d_8075_162 rfl ?_
      obtain ⟨b10, e11, h⟩ := h
      refine zs_stk1 (zs_rfe e11) ?_
      obtain ⟨k12, h⟩ := h
      refine zu_iald (k := 0) d_8075_164 rfl rfl k12 ?_
      obtain ⟨b13, e14, h⟩ := h
      refine zs_stk2 (zs_rfe e14) ?_
      obtain ⟨k15, h⟩ := h
      obtain ⟨k16, h⟩ := h
      refine zu_iast (k := 0) d_8075_165 rfl rfl k16 k15 ?_
      generalize e18 : zs_si S7 b13 p2.toNatClampNeg (zs_i S7 b10 q0.toNatClampNeg) = S17
      have h := h S17 e18.symm
      have K19 : ∀ b, zs_K S17 b = zs_K S7 b := zs_Kt e18 (zs_Ksi _ _ _ _) (fun _ => rfl)
      exact (u_X9_part_166 hB h).weak ⟨rfl, rfl, rfl, rfl, trivial⟩
  · have h := h.2 c1
    refine zu_aload_n d_8075_74 rfl (zs_ra _) ?_
    refine zu_bipush d_8075_75 zj_7 ?_
    refine zu_iload_n d_8075_77 rfl ?_
    refine zu_aload_n d_8075_78 rfl (zs_ra _) ?_
    obtain ⟨k20, h⟩ := h
    refine zg_8_124 rfl d_8075_79 k20 ?_
    refine zu_aload_n d_8075_82 rfl (zs_ra _) ?_
    refine zu_aload_n d_8075_83 rfl (zs_ra _) ?_
    refine zg_8_191 rfl d_8075_84 k20 ?_
    refine zu_iload_n d_8075_87 rfl ?_
    obtain ⟨b21, e22, h⟩ := h
    refine zs_stk1 (zs_rfe e22) ?_
    obtain ⟨k23, h⟩ := h
    refine zu_iald (k := 0) d_8075_88 rfl rfl k23 ?_
    refine zc_8_727 (x0 := (zs_i S b21 p2.toNatClampNeg)) hB rfl k20 d_8075_89 (by simp only [List.map_cons, List.map_nil, List.sum_cons, List.sum_nil, zs_cat, zs_cI, zs_cJ, zs_cA]; exact Nat.le_of_ble_eq_true rfl) h (fun v25 S24 h => ?_)
    obtain ⟨b26, e27, h⟩ := h
    refine zs_stk1 (zs_rfe e27) ?_
    obtain ⟨k28, h⟩ := h
    refine zu_iald (k := 0) d_8075_92 rfl rfl k28 ?_
    refine zu_stk d_8075_93 rfl rfl ?_
    refine zu_iconst d_8075_94 zi_0 ?_
    refine zu_iload_n d_8075_95 rfl ?_
    obtain ⟨k29, h⟩ := h
    refine zc_8_656 (x0 := (7 : Int32)) (x1 := (p3 - (zs_i S24 b26 v25.toNatClampNeg))) (x2 := (0 : Int32)) (x3 := p1) hB rfl k29 d_8075_96 (Nat.le_of_ble_eq_true rfl) h (fun v31 S30 h => ?_)
    refine zu_istore d_8075_99 (zs_lt zq_8075 rfl) ?_
    exact (u_X9_part_101 hB h).weak ⟨rfl, rfl, rfl, rfl, trivial⟩
def w_X9_part_44 (X : zs_X) (d : Nat) (p0 : Nat) (p1 : Int32) (p2 : Int32) (p3 : Int32) (S : zs_T) (Q : zs_Q) : Prop :=
  (((¬ p3 = (-1 : Int32) → (w_X9_part_67 X d p0 p1 p2 p3 (0 : Int32) S Q)) ∧ (¬ (¬ p3 = (-1 : Int32)) → (zs_K S p0 = some (.inl 8) ∧ ∃ b3, (zs_R S 8091 p0) = some b3 ∧ zs_A S b3 0 p2 ∧ zs_C X d 8077 [.ref p0, .int (zs_i S b3 p2.toNatClampNeg), .int (zs_I S 8009 p0)] S (zs_kI (fun v7 S6 => (w_X9_part_67 X d p0 p1 p2 p3 v7 S6 Q)) Q)))))
theorem u_X9_part_44 {σ : Nat → Nat} {n0 : Nat} {bf : ab_B} {d : Nat} {p0 : Nat} {p1 : Int32} {p2 : Int32} {p3 : Int32} {S : zs_T} {Q : zs_Q} (hB : zt_B bf) (h : w_X9_part_44 (zx σ n0 bf) d p0 p1 p2 p3 S Q) : zs_U (zx σ n0 bf) d 8075 44 [(0, .ref p0), (1, .int p1), (2, .int p2), (3, .int p3)] [] S Q := by
  unfold w_X9_part_44 at h
  refine zu_iload_n d_8075_44 rfl ?_
  refine zu_iconst d_8075_45 zi_m1 ?_
  refine zu_cmpne (t := 66) d_8075_46 rfl (fun c1 => ?_) (fun c1 => ?_)
  · have h := h.1 c1
    refine zu_iconst d_8075_66 zi_0 ?_
    exact (u_X9_part_67 hB h).weak ⟨rfl, rfl, rfl, rfl, trivial⟩
  · have h := h.2 c1
    refine zu_aload_n d_8075_49 rfl (zs_ra _) ?_
    refine zu_aload_n d_8075_50 rfl (zs_ra _) ?_
    obtain ⟨k2, h⟩ := h
    refine zg_8_191 rfl d_8075_51 k2 ?_
    refine zu_iload_n d_8075_54 rfl ?_
    obtain ⟨b3, e4, h⟩ := h
    refine zs_stk1 (zs_rfe e4) ?_
    obtain ⟨k5, h⟩ := h
    refine zu_iald (k := 0) d_8075_55 rfl rfl k5 ?_
    refine zu_aload_n d_8075_56 rfl (zs_ra _) ?_
    refine zg_8_494 rfl d_8075_57 k2 ?_
    refine zc_8_743 (x0 := (zs_i S b3 p2.toNatClampNeg)) (x1 := (zs_I S 8009 p0)) hB rfl k2 d_8075_60 (Nat.le_of_ble_eq_true rfl) h (fun v7 S6 h => ?_)
    refine zu_goto (t := 67) d_8075_63 rfl ?_
    exact (u_X9_part_67 hB h).weak ⟨rfl, rfl, rfl, rfl, trivial⟩
def w_X9_part (X : zs_X) (d : Nat) (p0 : Nat) (p1 : Int32) (S : zs_T) (Q : zs_Q) : Prop :=
  (zs_K S p0 = some (.inl 8) ∧ (((zs_I S 8010 p0) ≤ 0 → ((((zs_I S 8006 p0) = (1 : Int32) → (∃ b4, (zs_R S 8091 p0) = some b4 ∧ zs_A S b4 0 ((zs_I S 8097 p0) - (1 : Int32)) ∧ zs_C X d 8076 [.ref p0, .int (zs_i S b4 ((zs_I S 8097 p0) - (1 : Int32)).toNatClampNeg), .int (zs_I S 8009 p0)] S (zs_kI (fun v8 S7 => (w_X9_part_44 X d p0 p1 ((zs_I S 8097 p0) - (1 : Int32)) v8 S7 Q)) Q))) ∧ (¬ ((zs_I S 8006 p0) = (1 : Int32)) → (zs_C X d 8027 [.ref p0, .int (2 : Int32)] S (zs_kV (fun S9 => (Q (.returned none) S9)) Q)))))) ∧ (¬ ((zs_I S 8010 p0) ≤ 0) → (Q (.returned none) S))))
theorem u_X9_part {σ : Nat → Nat} {n0 : Nat} {bf : ab_B} {d : Nat} {p0 : Nat} {p1 : Int32} {S : zs_T} {Q : zs_Q} (hB : zt_B bf) (hd : 1 ≤ d) (h : w_X9_part (zx σ n0 bf) (d - 1) p0 p1 S Q) : zs_C (zx σ n0 bf) d 8075 [.ref p0, .int p1] S Q := by
  have hL : lv_args 0 [.ref p0, .int p1] = [(0, .ref p0), (1, .int p1)] := rfl
  refine zs_C.of1 (hB.2 8075 (by decide) (by decide)) hd (by rw [hL]; exact zs_sub_self _ (by exact ⟨rfl, rfl, trivial⟩)) ?_
  rw [hL]
  clear hL
  unfold w_X9_part at h
  refine zu_aload_n d_8075_0 rfl (zs_ra _) ?_
  obtain ⟨k1, h⟩ := h
  refine zg_8_653 rfl d_8075_1 k1 ?_
  refine zu_iconst d_8075_4 zi_1 ?_
  refine zu_stk d_8075_5 rfl rfl ?_
  refine zu_istore_n d_8075_6 (zs_lt zq_8075 rfl) ?_
  refine zu_aload_n d_8075_7 rfl (zs_ra _) ?_
  refine zg_8_444 rfl d_8075_8 k1 ?_
  refine zu_ifle (t := 15) d_8075_11 rfl (fun c2 => ?_) (fun c2 => ?_)
  · have h := h.1 c2
    refine zu_aload_n d_8075_15 rfl (zs_ra _) ?_
    refine zg_8_484 rfl d_8075_16 k1 ?_
    refine zu_iconst d_8075_19 zi_1 ?_
    refine zu_cmpeq (t := 29) d_8075_20 rfl (fun c3 => ?_) (fun c3 => ?_)
    · have h := h.1 c3
      refine zu_aload_n d_8075_29 rfl (zs_ra _) ?_
      refine zu_aload_n d_8075_30 rfl (zs_ra _) ?_
      refine zg_8_191 rfl d_8075_31 k1 ?_
      refine zu_iload_n d_8075_34 rfl ?_
      obtain ⟨b4, e5, h⟩ := h
      refine zs_stk1 (zs_rfe e5) ?_
      obtain ⟨k6, h⟩ := h
      refine zu_iald (k := 0) d_8075_35 rfl rfl k6 ?_
      refine zu_aload_n d_8075_36 rfl (zs_ra _) ?_
      refine zg_8_494 rfl d_8075_37 k1 ?_
      refine zc_8_739 (x0 := (zs_i S b4 ((zs_I S 8097 p0) - (1 : Int32)).toNatClampNeg)) (x1 := (zs_I S 8009 p0)) hB rfl k1 d_8075_40 (Nat.le_of_ble_eq_true rfl) h (fun v8 S7 h => ?_)
      refine zu_istore_n d_8075_43 (zs_lt zq_8075 rfl) ?_
      exact (u_X9_part_44 hB h).weak ⟨rfl, rfl, rfl, rfl, trivial⟩
    · have h := h.2 c3
      refine zu_aload_n d_8075_23 rfl (zs_ra _) ?_
      refine zu_iconst d_8075_24 zi_2 ?_
      refine zc_8_541 (x0 := (2 : Int32)) hB rfl k1 d_8075_25 (Nat.le_of_ble_eq_true rfl) h (fun S9 h => ?_)
      exact zu_vret d_8075_28 zr_8075 h
  · have h := h.2 c2
    exact zu_vret d_8075_14 zr_8075 h
/-! SchemaPascalModel.discriminantOf(II)I -/
theorem zm_8076 {σ : Nat → Nat} {n0 : Nat} {bf : ab_B} : ab_code (zx σ n0 bf).1 8076 = prog_17_method_71_code := rfl
theorem zq_8076 {σ : Nat → Nat} {n0 : Nat} {bf : ab_B} : ab_maxL (zx σ n0 bf).1 8076 = 5 := rfl
theorem zr_8076 {σ : Nat → Nat} {n0 : Nat} {bf : ab_B} : ab_ret (zx σ n0 bf).1 8076 = (Option.some Jvm.ClassFile.FieldType.int) := rfl
theorem d_8076_0 {σ : Nat → Nat} {n0 : Nat} {bf : ab_B} : decode (ab_code (zx σ n0 bf).1 8076) 0 = .ok (.aload_n 0, 1) := zd zm_8076 (by decide +kernel)
theorem d_8076_1 {σ : Nat → Nat} {n0 : Nat} {bf : ab_B} : decode (ab_code (zx σ n0 bf).1 8076) 1 = .ok (.iload_n 1, 1) := zd zm_8076 (by decide +kernel)
theorem d_8076_2 {σ : Nat → Nat} {n0 : Nat} {bf : ab_B} : decode (ab_code (zx σ n0 bf).1 8076) 2 = .ok (.invokevirtual 727, 3) := zd zm_8076 (by decide +kernel)
theorem d_8076_5 {σ : Nat → Nat} {n0 : Nat} {bf : ab_B} : decode (ab_code (zx σ n0 bf).1 8076) 5 = .ok (.istore_n 3, 1) := zd zm_8076 (by decide +kernel)
theorem d_8076_6 {σ : Nat → Nat} {n0 : Nat} {bf : ab_B} : decode (ab_code (zx σ n0 bf).1 8076) 6 = .ok (.iconst 0, 1) := zd zm_8076 (by decide +kernel)
theorem d_8076_7 {σ : Nat → Nat} {n0 : Nat} {bf : ab_B} : decode (ab_code (zx σ n0 bf).1 8076) 7 = .ok (.istore 4, 2) := zd zm_8076 (by decide +kernel)
theorem d_8076_9 {σ : Nat → Nat} {n0 : Nat} {bf : ab_B} : decode (ab_code (zx σ n0 bf).1 8076) 9 = .ok (.iload_n 3, 1) := zd zm_8076 (by decide +kernel)
theorem d_8076_10 {σ : Nat → Nat} {n0 : Nat} {bf : ab_B} : decode (ab_code (zx σ n0 bf).1 8076) 10 = .ok (.ifCond .le 48, 3) := zd zm_8076 (by decide +kernel)
theorem d_8076_13 {σ : Nat → Nat} {n0 : Nat} {bf : ab_B} : decode (ab_code (zx σ n0 bf).1 8076) 13 = .ok (.iload 4, 2) := zd zm_8076 (by decide +kernel)
theorem d_8076_15 {σ : Nat → Nat} {n0 : Nat} {bf : ab_B} : decode (ab_code (zx σ n0 bf).1 8076) 15 = .ok (.aload_n 0, 1) := zd zm_8076 (by decide +kernel)
theorem d_8076_16 {σ : Nat → Nat} {n0 : Nat} {bf : ab_B} : decode (ab_code (zx σ n0 bf).1 8076) 16 = .ok (.getfield 127, 3) := zd zm_8076 (by decide +kernel)
theorem d_8076_19 {σ : Nat → Nat} {n0 : Nat} {bf : ab_B} : decode (ab_code (zx σ n0 bf).1 8076) 19 = .ok (.iload_n 3, 1) := zd zm_8076 (by decide +kernel)
theorem d_8076_20 {σ : Nat → Nat} {n0 : Nat} {bf : ab_B} : decode (ab_code (zx σ n0 bf).1 8076) 20 = .ok (.baload, 1) := zd zm_8076 (by decide +kernel)
theorem d_8076_21 {σ : Nat → Nat} {n0 : Nat} {bf : ab_B} : decode (ab_code (zx σ n0 bf).1 8076) 21 = .ok (.if_icmp .ge 37, 3) := zd zm_8076 (by decide +kernel)
theorem d_8076_24 {σ : Nat → Nat} {n0 : Nat} {bf : ab_B} : decode (ab_code (zx σ n0 bf).1 8076) 24 = .ok (.aload_n 0, 1) := zd zm_8076 (by decide +kernel)
theorem d_8076_25 {σ : Nat → Nat} {n0 : Nat} {bf : ab_B} : decode (ab_code (zx σ n0 bf).1 8076) 25 = .ok (.getfield 133, 3) := zd zm_8076 (by decide +kernel)
theorem d_8076_28 {σ : Nat → Nat} {n0 : Nat} {bf : ab_B} : decode (ab_code (zx σ n0 bf).1 8076) 28 = .ok (.aload_n 0, 1) := zd zm_8076 (by decide +kernel)
theorem d_8076_29 {σ : Nat → Nat} {n0 : Nat} {bf : ab_B} : decode (ab_code (zx σ n0 bf).1 8076) 29 = .ok (.getfield 124, 3) := zd zm_8076 (by decide +kernel)
theorem d_8076_32 {σ : Nat → Nat} {n0 : Nat} {bf : ab_B} : decode (ab_code (zx σ n0 bf).1 8076) 32 = .ok (.iload_n 3, 1) := zd zm_8076 (by decide +kernel)
theorem d_8076_33 {σ : Nat → Nat} {n0 : Nat} {bf : ab_B} : decode (ab_code (zx σ n0 bf).1 8076) 33 = .ok (.iaload, 1) := zd zm_8076 (by decide +kernel)
theorem d_8076_34 {σ : Nat → Nat} {n0 : Nat} {bf : ab_B} : decode (ab_code (zx σ n0 bf).1 8076) 34 = .ok (.iload 4, 2) := zd zm_8076 (by decide +kernel)
theorem d_8076_36 {σ : Nat → Nat} {n0 : Nat} {bf : ab_B} : decode (ab_code (zx σ n0 bf).1 8076) 36 = .ok (.iadd, 1) := zd zm_8076 (by decide +kernel)
theorem d_8076_37 {σ : Nat → Nat} {n0 : Nat} {bf : ab_B} : decode (ab_code (zx σ n0 bf).1 8076) 37 = .ok (.iaload, 1) := zd zm_8076 (by decide +kernel)
theorem d_8076_38 {σ : Nat → Nat} {n0 : Nat} {bf : ab_B} : decode (ab_code (zx σ n0 bf).1 8076) 38 = .ok (.iload_n 2, 1) := zd zm_8076 (by decide +kernel)
theorem d_8076_39 {σ : Nat → Nat} {n0 : Nat} {bf : ab_B} : decode (ab_code (zx σ n0 bf).1 8076) 39 = .ok (.if_icmp .ne 13, 3) := zd zm_8076 (by decide +kernel)
theorem d_8076_42 {σ : Nat → Nat} {n0 : Nat} {bf : ab_B} : decode (ab_code (zx σ n0 bf).1 8076) 42 = .ok (.aload_n 0, 1) := zd zm_8076 (by decide +kernel)
theorem d_8076_43 {σ : Nat → Nat} {n0 : Nat} {bf : ab_B} : decode (ab_code (zx σ n0 bf).1 8076) 43 = .ok (.getfield 124, 3) := zd zm_8076 (by decide +kernel)
theorem d_8076_46 {σ : Nat → Nat} {n0 : Nat} {bf : ab_B} : decode (ab_code (zx σ n0 bf).1 8076) 46 = .ok (.iload_n 3, 1) := zd zm_8076 (by decide +kernel)
theorem d_8076_47 {σ : Nat → Nat} {n0 : Nat} {bf : ab_B} : decode (ab_code (zx σ n0 bf).1 8076) 47 = .ok (.iaload, 1) := zd zm_8076 (by decide +kernel)
theorem d_8076_48 {σ : Nat → Nat} {n0 : Nat} {bf : ab_B} : decode (ab_code (zx σ n0 bf).1 8076) 48 = .ok (.iload 4, 2) := zd zm_8076 (by decide +kernel)
theorem d_8076_50 {σ : Nat → Nat} {n0 : Nat} {bf : ab_B} : decode (ab_code (zx σ n0 bf).1 8076) 50 = .ok (.iadd, 1) := zd zm_8076 (by decide +kernel)
theorem d_8076_51 {σ : Nat → Nat} {n0 : Nat} {bf : ab_B} : decode (ab_code (zx σ n0 bf).1 8076) 51 = .ok (.ireturn, 1) := zd zm_8076 (by decide +kernel)
theorem d_8076_52 {σ : Nat → Nat} {n0 : Nat} {bf : ab_B} : decode (ab_code (zx σ n0 bf).1 8076) 52 = .ok (.iinc 4 1, 3) := zd zm_8076 (by decide +kernel)
theorem d_8076_55 {σ : Nat → Nat} {n0 : Nat} {bf : ab_B} : decode (ab_code (zx σ n0 bf).1 8076) 55 = .ok (.goto (-46), 3) := zd zm_8076 (by decide +kernel)
theorem d_8076_58 {σ : Nat → Nat} {n0 : Nat} {bf : ab_B} : decode (ab_code (zx σ n0 bf).1 8076) 58 = .ok (.iconst (-1), 1) := zd zm_8076 (by decide +kernel)
theorem d_8076_59 {σ : Nat → Nat} {n0 : Nat} {bf : ab_B} : decode (ab_code (zx σ n0 bf).1 8076) 59 = .ok (.ireturn, 1) := zd zm_8076 (by decide +kernel)
def w_X9_discriminantOf_52 (X : zs_X) (d : Nat) (p0 : Nat) (p2 : Int32) (p3 : Int32) (p4 : Int32) (S : zs_T) (Q : zs_Q) : Prop :=
  (zs_U X d 8076 9 [(0, .ref p0), (2, .int p2), (3, .int p3), (4, .int (p4 + (1 : Int32)))] [] S Q)
theorem u_X9_discriminantOf_52 {σ : Nat → Nat} {n0 : Nat} {bf : ab_B} {d : Nat} {p0 : Nat} {p2 : Int32} {p3 : Int32} {p4 : Int32} {S : zs_T} {Q : zs_Q} (hB : zt_B bf) (h : w_X9_discriminantOf_52 (zx σ n0 bf) d p0 p2 p3 p4 S Q) : zs_U (zx σ n0 bf) d 8076 52 [(0, .ref p0), (2, .int p2), (3, .int p3), (4, .int p4)] [] S Q := by
  unfold w_X9_discriminantOf_52 at h
  refine zu_iinc d_8076_52 rfl zi_1 (zs_lt zq_8076 rfl) ?_
  refine zu_goto (t := 9) d_8076_55 rfl ?_
  exact h.weak ⟨rfl, rfl, rfl, rfl, trivial⟩
def w_X9_discriminantOf_42 (X : zs_X) (d : Nat) (p0 : Nat) (p3 : Int32) (p4 : Int32) (S : zs_T) (Q : zs_Q) : Prop :=
  (zs_K S p0 = some (.inl 8) ∧ ∃ b2, (zs_R S 8057 p0) = some b2 ∧ zs_A S b2 0 p3 ∧ Q (.returned (some (.int ((zs_i S b2 p3.toNatClampNeg) + p4)))) S)
theorem u_X9_discriminantOf_42 {σ : Nat → Nat} {n0 : Nat} {bf : ab_B} {d : Nat} {p0 : Nat} {p3 : Int32} {p4 : Int32} {S : zs_T} {Q : zs_Q} (hB : zt_B bf) (h : w_X9_discriminantOf_42 (zx σ n0 bf) d p0 p3 p4 S Q) : zs_U (zx σ n0 bf) d 8076 42 [(0, .ref p0), (3, .int p3), (4, .int p4)] [] S Q := by
  unfold w_X9_discriminantOf_42 at h
  refine zu_aload_n d_8076_42 rfl (zs_ra _) ?_
  obtain ⟨k1, h⟩ := h
  refine zg_8_124 rfl d_8076_43 k1 ?_
  refine zu_iload_n d_8076_46 rfl ?_
  obtain ⟨b2, e3, h⟩ := h
  refine zs_stk1 (zs_rfe e3) ?_
  obtain ⟨k4, h⟩ := h
  refine zu_iald (k := 0) d_8076_47 rfl rfl k4 ?_
  refine zu_iload d_8076_48 rfl ?_
  refine zu_stk d_8076_50 rfl rfl ?_
  exact zu_iret d_8076_51 zr_8076 rfl h
def w_X9_discriminantOf_9 (X : zs_X) (d : Nat) (p0 : Nat) (p2 : Int32) (p3 : Int32) (p4 : Int32) (S : zs_T) (Q : zs_Q) : Prop :=
  (((p3 ≤ 0 → (Q (.returned (some (.int (-1 : Int32)))) S)) ∧ (¬ (p3 ≤ 0) → (zs_K S p0 = some (.inl 8) ∧ ∃ b3, (zs_R S 8058 p0) = some b3 ∧ zs_A S b3 1 p3 ∧ (((zs_i S b3 p3.toNatClampNeg) ≤ p4 → (Q (.returned (some (.int (-1 : Int32)))) S)) ∧ (¬ ((zs_i S b3 p3.toNatClampNeg) ≤ p4) → (∃ b7, (zs_R S 8057 p0) = some b7 ∧ zs_A S b7 0 p3 ∧ ∃ b10, (zs_R S 8061 p0) = some b10 ∧ zs_A S b10 0 ((zs_i S b7 p3.toNatClampNeg) + p4) ∧ ((¬ (zs_i S b10 ((zs_i S b7 p3.toNatClampNeg) + p4).toNatClampNeg) = p2 → w_X9_discriminantOf_52 X d p0 p2 p3 p4 S Q) ∧ (¬ (¬ (zs_i S b10 ((zs_i S b7 p3.toNatClampNeg) + p4).toNatClampNeg) = p2) → w_X9_discriminantOf_42 X d p0 p3 p4 S Q)))))))))
theorem u_X9_discriminantOf_9 {σ : Nat → Nat} {n0 : Nat} {bf : ab_B} {d : Nat} {p0 : Nat} {p2 : Int32} {p3 : Int32} {p4 : Int32} {S : zs_T} {Q : zs_Q} (hB : zt_B bf) (h : w_X9_discriminantOf_9 (zx σ n0 bf) d p0 p2 p3 p4 S Q) : zs_U (zx σ n0 bf) d 8076 9 [(0, .ref p0), (2, .int p2), (3, .int p3), (4, .int p4)] [] S Q := by
  unfold w_X9_discriminantOf_9 at h
  refine zu_iload_n d_8076_9 rfl ?_
  refine zu_ifle (t := 58) d_8076_10 rfl (fun c1 => ?_) (fun c1 => ?_)
  · have h := h.1 c1
    refine zu_iconst d_8076_58 zi_m1 ?_
    exact zu_iret d_8076_59 zr_8076 rfl h
  · have h := h.2 c1
    refine zu_iload d_8076_13 rfl ?_
    refine zu_aload_n d_8076_15 rfl (zs_ra _) ?_
    obtain ⟨k2, h⟩ := h
    refine zg_8_127 rfl d_8076_16 k2 ?_
    refine zu_iload_n d_8076_19 rfl ?_
    obtain ⟨b3, e4, h⟩ := h
    refine zs_stk1 (zs_rfe e4) ?_
    obtain ⟨k5, h⟩ := h
    refine zu_bald (k := 1) d_8076_20 rfl (Or.inl rfl) k5 ?_
    refine zu_cmpge (t := 58) d_8076_21 rfl (fun c6 => ?_) (fun c6 => ?_)
    · have h := h.1 c6
      refine zu_iconst d_8076_58 zi_m1 ?_
      exact zu_iret d_8076_59 zr_8076 rfl h
    · have h := h.2 c6
      refine zu_aload_n d_8076_24 rfl (zs_ra _) ?_
      refine zg_8_133 rfl d_8076_25 k2 ?_
      refine zu_aload_n d_8076_28 rfl (zs_ra _) ?_
      refine zg_8_124 rfl d_8076_29 k2 ?_
      refine zu_iload_n d_8076_32 rfl ?_
      obtain ⟨b7, e8, h⟩ := h
      refine zs_stk1 (zs_rfe e8) ?_
      obtain ⟨k9, h⟩ := h
      refine zu_iald (k := 0) d_8076_33 rfl rfl k9 ?_
      refine zu_iload d_8076_34 rfl ?_
      refine zu_stk d_8076_36 rfl rfl ?_
      obtain ⟨b10, e11, h⟩ := h
      refine zs_stk1 (zs_rfe e11) ?_
      obtain ⟨k12, h⟩ := h
      refine zu_iald (k := 0) d_8076_37 rfl rfl k12 ?_
      refine zu_iload_n d_8076_38 rfl ?_
      refine zu_cmpne (t := 52) d_8076_39 rfl (fun c13 => ?_) (fun c13 => ?_)
      · have h := h.1 c13
        exact (u_X9_discriminantOf_52 hB h).weak ⟨rfl, rfl, rfl, rfl, trivial⟩
      · have h := h.2 c13
        exact (u_X9_discriminantOf_42 hB h).weak ⟨rfl, rfl, rfl, trivial⟩
def w_X9_discriminantOf (X : zs_X) (d : Nat) (p0 : Nat) (p1 : Int32) (p2 : Int32) (S : zs_T) (Q : zs_Q) : Prop :=
  (zs_K S p0 = some (.inl 8) ∧ zs_C X d 8074 [.ref p0, .int p1] S (zs_kI (fun v3 S2 => (zs_U X d 8076 9 [(0, .ref p0), (2, .int p2), (3, .int v3), (4, .int (0 : Int32))] [] S2 Q)) Q))
theorem u_X9_discriminantOf {σ : Nat → Nat} {n0 : Nat} {bf : ab_B} {d : Nat} {p0 : Nat} {p1 : Int32} {p2 : Int32} {S : zs_T} {Q : zs_Q} (hB : zt_B bf) (hd : 1 ≤ d) (h : w_X9_discriminantOf (zx σ n0 bf) (d - 1) p0 p1 p2 S Q) : zs_C (zx σ n0 bf) d 8076 [.ref p0, .int p1, .int p2] S Q := by
  have hL : lv_args 0 [.ref p0, .int p1, .int p2] = [(0, .ref p0), (1, .int p1), (2, .int p2)] := rfl
  refine zs_C.of1 (hB.2 8076 (by decide) (by decide)) hd (by rw [hL]; exact zs_sub_self _ (by exact ⟨rfl, rfl, rfl, trivial⟩)) ?_
  rw [hL]
  clear hL
  unfold w_X9_discriminantOf at h
  refine zu_aload_n d_8076_0 rfl (zs_ra _) ?_
  refine zu_iload_n d_8076_1 rfl ?_
  obtain ⟨k1, h⟩ := h
  refine zc_8_727 (x0 := p1) hB rfl k1 d_8076_2 (Nat.le_of_ble_eq_true rfl) h (fun v3 S2 h => ?_)
  refine zu_istore_n d_8076_5 (zs_lt zq_8076 rfl) ?_
  refine zu_iconst d_8076_6 zi_0 ?_
  refine zu_istore d_8076_7 (zs_lt zq_8076 rfl) ?_
  exact h.weak ⟨rfl, rfl, rfl, rfl, trivial⟩
/-! SchemaPascalModel.fieldOf(II)I -/
theorem zm_8077 {σ : Nat → Nat} {n0 : Nat} {bf : ab_B} : ab_code (zx σ n0 bf).1 8077 = prog_17_method_72_code := rfl
theorem zq_8077 {σ : Nat → Nat} {n0 : Nat} {bf : ab_B} : ab_maxL (zx σ n0 bf).1 8077 = 5 := rfl
theorem zr_8077 {σ : Nat → Nat} {n0 : Nat} {bf : ab_B} : ab_ret (zx σ n0 bf).1 8077 = (Option.some Jvm.ClassFile.FieldType.int) := rfl
theorem d_8077_0 {σ : Nat → Nat} {n0 : Nat} {bf : ab_B} : decode (ab_code (zx σ n0 bf).1 8077) 0 = .ok (.aload_n 0, 1) := zd zm_8077 (by decide +kernel)
theorem d_8077_1 {σ : Nat → Nat} {n0 : Nat} {bf : ab_B} : decode (ab_code (zx σ n0 bf).1 8077) 1 = .ok (.iload_n 1, 1) := zd zm_8077 (by decide +kernel)
theorem d_8077_2 {σ : Nat → Nat} {n0 : Nat} {bf : ab_B} : decode (ab_code (zx σ n0 bf).1 8077) 2 = .ok (.invokevirtual 730, 3) := zd zm_8077 (by decide +kernel)
theorem d_8077_5 {σ : Nat → Nat} {n0 : Nat} {bf : ab_B} : decode (ab_code (zx σ n0 bf).1 8077) 5 = .ok (.istore_n 3, 1) := zd zm_8077 (by decide +kernel)
theorem d_8077_6 {σ : Nat → Nat} {n0 : Nat} {bf : ab_B} : decode (ab_code (zx σ n0 bf).1 8077) 6 = .ok (.aload_n 0, 1) := zd zm_8077 (by decide +kernel)
theorem d_8077_7 {σ : Nat → Nat} {n0 : Nat} {bf : ab_B} : decode (ab_code (zx σ n0 bf).1 8077) 7 = .ok (.getfield 90, 3) := zd zm_8077 (by decide +kernel)
theorem d_8077_10 {σ : Nat → Nat} {n0 : Nat} {bf : ab_B} : decode (ab_code (zx σ n0 bf).1 8077) 10 = .ok (.iload_n 3, 1) := zd zm_8077 (by decide +kernel)
theorem d_8077_11 {σ : Nat → Nat} {n0 : Nat} {bf : ab_B} : decode (ab_code (zx σ n0 bf).1 8077) 11 = .ok (.baload, 1) := zd zm_8077 (by decide +kernel)
theorem d_8077_12 {σ : Nat → Nat} {n0 : Nat} {bf : ab_B} : decode (ab_code (zx σ n0 bf).1 8077) 12 = .ok (.bipush 9, 2) := zd zm_8077 (by decide +kernel)
theorem d_8077_14 {σ : Nat → Nat} {n0 : Nat} {bf : ab_B} : decode (ab_code (zx σ n0 bf).1 8077) 14 = .ok (.if_icmp .eq 5, 3) := zd zm_8077 (by decide +kernel)
theorem d_8077_17 {σ : Nat → Nat} {n0 : Nat} {bf : ab_B} : decode (ab_code (zx σ n0 bf).1 8077) 17 = .ok (.iconst 0, 1) := zd zm_8077 (by decide +kernel)
theorem d_8077_18 {σ : Nat → Nat} {n0 : Nat} {bf : ab_B} : decode (ab_code (zx σ n0 bf).1 8077) 18 = .ok (.ireturn, 1) := zd zm_8077 (by decide +kernel)
theorem d_8077_19 {σ : Nat → Nat} {n0 : Nat} {bf : ab_B} : decode (ab_code (zx σ n0 bf).1 8077) 19 = .ok (.aload_n 0, 1) := zd zm_8077 (by decide +kernel)
theorem d_8077_20 {σ : Nat → Nat} {n0 : Nat} {bf : ab_B} : decode (ab_code (zx σ n0 bf).1 8077) 20 = .ok (.getfield 96, 3) := zd zm_8077 (by decide +kernel)
theorem d_8077_23 {σ : Nat → Nat} {n0 : Nat} {bf : ab_B} : decode (ab_code (zx σ n0 bf).1 8077) 23 = .ok (.iload_n 3, 1) := zd zm_8077 (by decide +kernel)
theorem d_8077_24 {σ : Nat → Nat} {n0 : Nat} {bf : ab_B} : decode (ab_code (zx σ n0 bf).1 8077) 24 = .ok (.iaload, 1) := zd zm_8077 (by decide +kernel)
theorem d_8077_25 {σ : Nat → Nat} {n0 : Nat} {bf : ab_B} : decode (ab_code (zx σ n0 bf).1 8077) 25 = .ok (.istore 4, 2) := zd zm_8077 (by decide +kernel)
theorem d_8077_27 {σ : Nat → Nat} {n0 : Nat} {bf : ab_B} : decode (ab_code (zx σ n0 bf).1 8077) 27 = .ok (.iload 4, 2) := zd zm_8077 (by decide +kernel)
theorem d_8077_29 {σ : Nat → Nat} {n0 : Nat} {bf : ab_B} : decode (ab_code (zx σ n0 bf).1 8077) 29 = .ok (.ifCond .le 29, 3) := zd zm_8077 (by decide +kernel)
theorem d_8077_32 {σ : Nat → Nat} {n0 : Nat} {bf : ab_B} : decode (ab_code (zx σ n0 bf).1 8077) 32 = .ok (.aload_n 0, 1) := zd zm_8077 (by decide +kernel)
theorem d_8077_33 {σ : Nat → Nat} {n0 : Nat} {bf : ab_B} : decode (ab_code (zx σ n0 bf).1 8077) 33 = .ok (.getfield 139, 3) := zd zm_8077 (by decide +kernel)
theorem d_8077_36 {σ : Nat → Nat} {n0 : Nat} {bf : ab_B} : decode (ab_code (zx σ n0 bf).1 8077) 36 = .ok (.iload 4, 2) := zd zm_8077 (by decide +kernel)
theorem d_8077_38 {σ : Nat → Nat} {n0 : Nat} {bf : ab_B} : decode (ab_code (zx σ n0 bf).1 8077) 38 = .ok (.iaload, 1) := zd zm_8077 (by decide +kernel)
theorem d_8077_39 {σ : Nat → Nat} {n0 : Nat} {bf : ab_B} : decode (ab_code (zx σ n0 bf).1 8077) 39 = .ok (.iload_n 2, 1) := zd zm_8077 (by decide +kernel)
theorem d_8077_40 {σ : Nat → Nat} {n0 : Nat} {bf : ab_B} : decode (ab_code (zx σ n0 bf).1 8077) 40 = .ok (.if_icmp .ne 6, 3) := zd zm_8077 (by decide +kernel)
theorem d_8077_43 {σ : Nat → Nat} {n0 : Nat} {bf : ab_B} : decode (ab_code (zx σ n0 bf).1 8077) 43 = .ok (.iload 4, 2) := zd zm_8077 (by decide +kernel)
theorem d_8077_45 {σ : Nat → Nat} {n0 : Nat} {bf : ab_B} : decode (ab_code (zx σ n0 bf).1 8077) 45 = .ok (.ireturn, 1) := zd zm_8077 (by decide +kernel)
theorem d_8077_46 {σ : Nat → Nat} {n0 : Nat} {bf : ab_B} : decode (ab_code (zx σ n0 bf).1 8077) 46 = .ok (.aload_n 0, 1) := zd zm_8077 (by decide +kernel)
theorem d_8077_47 {σ : Nat → Nat} {n0 : Nat} {bf : ab_B} : decode (ab_code (zx σ n0 bf).1 8077) 47 = .ok (.getfield 148, 3) := zd zm_8077 (by decide +kernel)
theorem d_8077_50 {σ : Nat → Nat} {n0 : Nat} {bf : ab_B} : decode (ab_code (zx σ n0 bf).1 8077) 50 = .ok (.iload 4, 2) := zd zm_8077 (by decide +kernel)
theorem d_8077_52 {σ : Nat → Nat} {n0 : Nat} {bf : ab_B} : decode (ab_code (zx σ n0 bf).1 8077) 52 = .ok (.iaload, 1) := zd zm_8077 (by decide +kernel)
theorem d_8077_53 {σ : Nat → Nat} {n0 : Nat} {bf : ab_B} : decode (ab_code (zx σ n0 bf).1 8077) 53 = .ok (.istore 4, 2) := zd zm_8077 (by decide +kernel)
theorem d_8077_55 {σ : Nat → Nat} {n0 : Nat} {bf : ab_B} : decode (ab_code (zx σ n0 bf).1 8077) 55 = .ok (.goto (-28), 3) := zd zm_8077 (by decide +kernel)
theorem d_8077_58 {σ : Nat → Nat} {n0 : Nat} {bf : ab_B} : decode (ab_code (zx σ n0 bf).1 8077) 58 = .ok (.iconst 0, 1) := zd zm_8077 (by decide +kernel)
theorem d_8077_59 {σ : Nat → Nat} {n0 : Nat} {bf : ab_B} : decode (ab_code (zx σ n0 bf).1 8077) 59 = .ok (.ireturn, 1) := zd zm_8077 (by decide +kernel)
def w_X9_fieldOf_27 (X : zs_X) (d : Nat) (p0 : Nat) (p2 : Int32) (p4 : Int32) (S : zs_T) (Q : zs_Q) : Prop :=
  (((p4 ≤ 0 → (Q (.returned (some (.int (0 : Int32)))) S)) ∧ (¬ (p4 ≤ 0) → (zs_K S p0 = some (.inl 8) ∧ ∃ b3, (zs_R S 8064 p0) = some b3 ∧ zs_A S b3 0 p4 ∧ ((¬ (zs_i S b3 p4.toNatClampNeg) = p2 → (∃ b7, (zs_R S 8067 p0) = some b7 ∧ zs_A S b7 0 p4 ∧ zs_U X d 8077 27 [(0, .ref p0), (2, .int p2), (4, .int (zs_i S b7 p4.toNatClampNeg))] [] S Q)) ∧ (¬ (¬ (zs_i S b3 p4.toNatClampNeg) = p2) → (Q (.returned (some (.int p4))) S)))))))
theorem u_X9_fieldOf_27 {σ : Nat → Nat} {n0 : Nat} {bf : ab_B} {d : Nat} {p0 : Nat} {p2 : Int32} {p4 : Int32} {S : zs_T} {Q : zs_Q} (hB : zt_B bf) (h : w_X9_fieldOf_27 (zx σ n0 bf) d p0 p2 p4 S Q) : zs_U (zx σ n0 bf) d 8077 27 [(0, .ref p0), (2, .int p2), (4, .int p4)] [] S Q := by
  unfold w_X9_fieldOf_27 at h
  refine zu_iload d_8077_27 rfl ?_
  refine zu_ifle (t := 58) d_8077_29 rfl (fun c1 => ?_) (fun c1 => ?_)
  · have h := h.1 c1
    refine zu_iconst d_8077_58 zi_0 ?_
    exact zu_iret d_8077_59 zr_8077 rfl h
  · have h := h.2 c1
    refine zu_aload_n d_8077_32 rfl (zs_ra _) ?_
    obtain ⟨k2, h⟩ := h
    refine zg_8_139 rfl d_8077_33 k2 ?_
    refine zu_iload d_8077_36 rfl ?_
    obtain ⟨b3, e4, h⟩ := h
    refine zs_stk1 (zs_rfe e4) ?_
    obtain ⟨k5, h⟩ := h
    refine zu_iald (k := 0) d_8077_38 rfl rfl k5 ?_
    refine zu_iload_n d_8077_39 rfl ?_
    refine zu_cmpne (t := 46) d_8077_40 rfl (fun c6 => ?_) (fun c6 => ?_)
    · have h := h.1 c6
      refine zu_aload_n d_8077_46 rfl (zs_ra _) ?_
      refine zg_8_148 rfl d_8077_47 k2 ?_
      refine zu_iload d_8077_50 rfl ?_
      obtain ⟨b7, e8, h⟩ := h
      refine zs_stk1 (zs_rfe e8) ?_
      obtain ⟨k9, h⟩ := h
      refine zu_iald (k := 0) d_8077_52 rfl rfl k9 ?_
      refine zu_istore d_8077_53 (zs_lt zq_8077 rfl) ?_
      refine zu_goto (t := 27) d_8077_55 rfl ?_
      exact h.weak ⟨rfl, rfl, rfl, trivial⟩
    · have h := h.2 c6
      refine zu_iload d_8077_43 rfl ?_
      exact zu_iret d_8077_45 zr_8077 rfl h
def w_X9_fieldOf (X : zs_X) (d : Nat) (p0 : Nat) (p1 : Int32) (p2 : Int32) (S : zs_T) (Q : zs_Q) : Prop :=
  (zs_K S p0 = some (.inl 8) ∧ zs_C X d 8073 [.ref p0, .int p1] S (zs_kI (fun v3 S2 => (zs_K S2 p0 = some (.inl 8) ∧ ∃ b5, (zs_R S2 8044 p0) = some b5 ∧ zs_A S2 b5 1 v3 ∧ (((zs_i S2 b5 v3.toNatClampNeg) = (9 : Int32) → (∃ b9, (zs_R S2 8046 p0) = some b9 ∧ zs_A S2 b9 0 v3 ∧ zs_U X d 8077 27 [(0, .ref p0), (2, .int p2), (4, .int (zs_i S2 b9 v3.toNatClampNeg))] [] S2 Q)) ∧ (¬ ((zs_i S2 b5 v3.toNatClampNeg) = (9 : Int32)) → (Q (.returned (some (.int (0 : Int32)))) S2))))) Q))
theorem u_X9_fieldOf {σ : Nat → Nat} {n0 : Nat} {bf : ab_B} {d : Nat} {p0 : Nat} {p1 : Int32} {p2 : Int32} {S : zs_T} {Q : zs_Q} (hB : zt_B bf) (hd : 1 ≤ d) (h : w_X9_fieldOf (zx σ n0 bf) (d - 1) p0 p1 p2 S Q) : zs_C (zx σ n0 bf) d 8077 [.ref p0, .int p1, .int p2] S Q := by
  have hL : lv_args 0 [.ref p0, .int p1, .int p2] = [(0, .ref p0), (1, .int p1), (2, .int p2)] := rfl
  refine zs_C.of1 (hB.2 8077 (by decide) (by decide)) hd (by rw [hL]; exact zs_sub_self _ (by exact ⟨rfl, rfl, rfl, trivial⟩)) ?_
  rw [hL]
  clear hL
  unfold w_X9_fieldOf at h
  refine zu_aload_n d_8077_0 rfl (zs_ra _) ?_
  refine zu_iload_n d_8077_1 rfl ?_
  obtain ⟨k1, h⟩ := h
  refine zc_8_730 (x0 := p1) hB rfl k1 d_8077_2 (Nat.le_of_ble_eq_true rfl) h (fun v3 S2 h => ?_)
  refine zu_istore_n d_8077_5 (zs_lt zq_8077 rfl) ?_
  refine zu_aload_n d_8077_6 rfl (zs_ra _) ?_
  obtain ⟨k4, h⟩ := h
  refine zg_8_90 rfl d_8077_7 k4 ?_
  refine zu_iload_n d_8077_10 rfl ?_
  obtain ⟨b5, e6, h⟩ := h
  refine zs_stk1 (zs_rfe e6) ?_
  obtain ⟨k7, h⟩ := h
  refine zu_bald (k := 1) d_8077_11 rfl (Or.inl rfl) k7 ?_
  refine zu_bipush d_8077_12 zj_9 ?_
  refine zu_cmpeq (t := 19) d_8077_14 rfl (fun c8 => ?_) (fun c8 => ?_)
  · have h := h.1 c8
    refine zu_aload_n d_8077_19 rfl (zs_ra _) ?_
    refine zg_8_96 rfl d_8077_20 k4 ?_
    refine zu_iload_n d_8077_23 rfl ?_
    obtain ⟨b9, e10, h⟩ := h
    refine zs_stk1 (zs_rfe e10) ?_
    obtain ⟨k11, h⟩ := h
    refine zu_iald (k := 0) d_8077_24 rfl rfl k11 ?_
    refine zu_istore d_8077_25 (zs_lt zq_8077 rfl) ?_
    exact h.weak ⟨rfl, rfl, rfl, trivial⟩
  · have h := h.2 c8
    refine zu_iconst d_8077_17 zi_0 ?_
    exact zu_iret d_8077_18 zr_8077 rfl h
/-! SchemaPascalModel.pointed(I)I -/
theorem zm_8078 {σ : Nat → Nat} {n0 : Nat} {bf : ab_B} : ab_code (zx σ n0 bf).1 8078 = prog_17_method_74_code := rfl
theorem zq_8078 {σ : Nat → Nat} {n0 : Nat} {bf : ab_B} : ab_maxL (zx σ n0 bf).1 8078 = 2 := rfl
theorem zr_8078 {σ : Nat → Nat} {n0 : Nat} {bf : ab_B} : ab_ret (zx σ n0 bf).1 8078 = (Option.some Jvm.ClassFile.FieldType.int) := rfl
theorem d_8078_0 {σ : Nat → Nat} {n0 : Nat} {bf : ab_B} : decode (ab_code (zx σ n0 bf).1 8078) 0 = .ok (.aload_n 0, 1) := zd zm_8078 (by decide +kernel)
theorem d_8078_1 {σ : Nat → Nat} {n0 : Nat} {bf : ab_B} : decode (ab_code (zx σ n0 bf).1 8078) 1 = .ok (.getfield 93, 3) := zd zm_8078 (by decide +kernel)
theorem d_8078_4 {σ : Nat → Nat} {n0 : Nat} {bf : ab_B} : decode (ab_code (zx σ n0 bf).1 8078) 4 = .ok (.iload_n 1, 1) := zd zm_8078 (by decide +kernel)
theorem d_8078_5 {σ : Nat → Nat} {n0 : Nat} {bf : ab_B} : decode (ab_code (zx σ n0 bf).1 8078) 5 = .ok (.iaload, 1) := zd zm_8078 (by decide +kernel)
theorem d_8078_6 {σ : Nat → Nat} {n0 : Nat} {bf : ab_B} : decode (ab_code (zx σ n0 bf).1 8078) 6 = .ok (.ifCond .lt 12, 3) := zd zm_8078 (by decide +kernel)
theorem d_8078_9 {σ : Nat → Nat} {n0 : Nat} {bf : ab_B} : decode (ab_code (zx σ n0 bf).1 8078) 9 = .ok (.aload_n 0, 1) := zd zm_8078 (by decide +kernel)
theorem d_8078_10 {σ : Nat → Nat} {n0 : Nat} {bf : ab_B} : decode (ab_code (zx σ n0 bf).1 8078) 10 = .ok (.getfield 93, 3) := zd zm_8078 (by decide +kernel)
theorem d_8078_13 {σ : Nat → Nat} {n0 : Nat} {bf : ab_B} : decode (ab_code (zx σ n0 bf).1 8078) 13 = .ok (.iload_n 1, 1) := zd zm_8078 (by decide +kernel)
theorem d_8078_14 {σ : Nat → Nat} {n0 : Nat} {bf : ab_B} : decode (ab_code (zx σ n0 bf).1 8078) 14 = .ok (.iaload, 1) := zd zm_8078 (by decide +kernel)
theorem d_8078_15 {σ : Nat → Nat} {n0 : Nat} {bf : ab_B} : decode (ab_code (zx σ n0 bf).1 8078) 15 = .ok (.goto 15, 3) := zd zm_8078 (by decide +kernel)
theorem d_8078_18 {σ : Nat → Nat} {n0 : Nat} {bf : ab_B} : decode (ab_code (zx σ n0 bf).1 8078) 18 = .ok (.aload_n 0, 1) := zd zm_8078 (by decide +kernel)
theorem d_8078_19 {σ : Nat → Nat} {n0 : Nat} {bf : ab_B} : decode (ab_code (zx σ n0 bf).1 8078) 19 = .ok (.getfield 248, 3) := zd zm_8078 (by decide +kernel)
theorem d_8078_22 {σ : Nat → Nat} {n0 : Nat} {bf : ab_B} : decode (ab_code (zx σ n0 bf).1 8078) 22 = .ok (.aload_n 0, 1) := zd zm_8078 (by decide +kernel)
theorem d_8078_23 {σ : Nat → Nat} {n0 : Nat} {bf : ab_B} : decode (ab_code (zx σ n0 bf).1 8078) 23 = .ok (.getfield 93, 3) := zd zm_8078 (by decide +kernel)
theorem d_8078_26 {σ : Nat → Nat} {n0 : Nat} {bf : ab_B} : decode (ab_code (zx σ n0 bf).1 8078) 26 = .ok (.iload_n 1, 1) := zd zm_8078 (by decide +kernel)
theorem d_8078_27 {σ : Nat → Nat} {n0 : Nat} {bf : ab_B} : decode (ab_code (zx σ n0 bf).1 8078) 27 = .ok (.iaload, 1) := zd zm_8078 (by decide +kernel)
theorem d_8078_28 {σ : Nat → Nat} {n0 : Nat} {bf : ab_B} : decode (ab_code (zx σ n0 bf).1 8078) 28 = .ok (.ineg, 1) := zd zm_8078 (by decide +kernel)
theorem d_8078_29 {σ : Nat → Nat} {n0 : Nat} {bf : ab_B} : decode (ab_code (zx σ n0 bf).1 8078) 29 = .ok (.iaload, 1) := zd zm_8078 (by decide +kernel)
theorem d_8078_30 {σ : Nat → Nat} {n0 : Nat} {bf : ab_B} : decode (ab_code (zx σ n0 bf).1 8078) 30 = .ok (.ireturn, 1) := zd zm_8078 (by decide +kernel)
def w_X9_pointed (X : zs_X) (d : Nat) (p0 : Nat) (p1 : Int32) (S : zs_T) (Q : zs_Q) : Prop :=
  (zs_K S p0 = some (.inl 8) ∧ ∃ b2, (zs_R S 8045 p0) = some b2 ∧ zs_A S b2 0 p1 ∧ (((zs_i S b2 p1.toNatClampNeg) < 0 → (∃ b6, (zs_R S 8115 p0) = some b6 ∧ zs_A S b6 0 ((-(zs_i S b2 p1.toNatClampNeg))) ∧ Q (.returned (some (.int (zs_i S b6 ((-(zs_i S b2 p1.toNatClampNeg))).toNatClampNeg)))) S)) ∧ (¬ ((zs_i S b2 p1.toNatClampNeg) < 0) → (Q (.returned (some (.int (zs_i S b2 p1.toNatClampNeg)))) S))))
theorem u_X9_pointed {σ : Nat → Nat} {n0 : Nat} {bf : ab_B} {d : Nat} {p0 : Nat} {p1 : Int32} {S : zs_T} {Q : zs_Q} (hB : zt_B bf) (hd : 1 ≤ d) (h : w_X9_pointed (zx σ n0 bf) (d - 1) p0 p1 S Q) : zs_C (zx σ n0 bf) d 8078 [.ref p0, .int p1] S Q := by
  have hL : lv_args 0 [.ref p0, .int p1] = [(0, .ref p0), (1, .int p1)] := rfl
  refine zs_C.of1 (hB.2 8078 (by decide) (by decide)) hd (by rw [hL]; exact zs_sub_self _ (by exact ⟨rfl, rfl, trivial⟩)) ?_
  rw [hL]
  clear hL
  unfold w_X9_pointed at h
  refine zu_aload_n d_8078_0 rfl (zs_ra _) ?_
  obtain ⟨k1, h⟩ := h
  refine zg_8_93 rfl d_8078_1 k1 ?_
  refine zu_iload_n d_8078_4 rfl ?_
  obtain ⟨b2, e3, h⟩ := h
  refine zs_stk1 (zs_rfe e3) ?_
  obtain ⟨k4, h⟩ := h
  refine zu_iald (k := 0) d_8078_5 rfl rfl k4 ?_
  refine zu_iflt (t := 18) d_8078_6 rfl (fun c5 => ?_) (fun c5 => ?_)
  · have h := h.1 c5
    refine zu_aload_n d_8078_18 rfl (zs_ra _) ?_
    refine zg_8_248 rfl d_8078_19 k1 ?_
    refine zu_aload_n d_8078_22 rfl (zs_ra _) ?_
    refine zg_8_93 rfl d_8078_23 k1 ?_
    refine zu_iload_n d_8078_26 rfl ?_
    refine zs_stk1 (zs_rfe e3) ?_
    refine zu_iald (k := 0) d_8078_27 rfl rfl k4 ?_
    refine zu_stk d_8078_28 rfl rfl ?_
    obtain ⟨b6, e7, h⟩ := h
    refine zs_stk1 (zs_rfe e7) ?_
    obtain ⟨k8, h⟩ := h
    refine zu_iald (k := 0) d_8078_29 rfl rfl k8 ?_
    exact zu_iret d_8078_30 zr_8078 rfl h
  · have h := h.2 c5
    refine zu_aload_n d_8078_9 rfl (zs_ra _) ?_
    refine zg_8_93 rfl d_8078_10 k1 ?_
    refine zu_iload_n d_8078_13 rfl ?_
    refine zs_stk1 (zs_rfe e3) ?_
    refine zu_iald (k := 0) d_8078_14 rfl rfl k4 ?_
    refine zu_goto (t := 30) d_8078_15 rfl ?_
    exact zu_iret d_8078_30 zr_8078 rfl h
/-! SchemaPascalModel.indexed(I)V -/
theorem zm_8079 {σ : Nat → Nat} {n0 : Nat} {bf : ab_B} : ab_code (zx σ n0 bf).1 8079 = prog_17_method_76_code := rfl
theorem zq_8079 {σ : Nat → Nat} {n0 : Nat} {bf : ab_B} : ab_maxL (zx σ n0 bf).1 8079 = 5 := rfl
theorem zr_8079 {σ : Nat → Nat} {n0 : Nat} {bf : ab_B} : ab_ret (zx σ n0 bf).1 8079 = (Option.none : Option Jvm.ClassFile.FieldType) := rfl
theorem d_8079_0 {σ : Nat → Nat} {n0 : Nat} {bf : ab_B} : decode (ab_code (zx σ n0 bf).1 8079) 0 = .ok (.aload_n 0, 1) := zd zm_8079 (by decide +kernel)
theorem d_8079_1 {σ : Nat → Nat} {n0 : Nat} {bf : ab_B} : decode (ab_code (zx σ n0 bf).1 8079) 1 = .ok (.invokevirtual 660, 3) := zd zm_8079 (by decide +kernel)
theorem d_8079_4 {σ : Nat → Nat} {n0 : Nat} {bf : ab_B} : decode (ab_code (zx σ n0 bf).1 8079) 4 = .ok (.aload_n 0, 1) := zd zm_8079 (by decide +kernel)
theorem d_8079_5 {σ : Nat → Nat} {n0 : Nat} {bf : ab_B} : decode (ab_code (zx σ n0 bf).1 8079) 5 = .ok (.getfield 444, 3) := zd zm_8079 (by decide +kernel)
theorem d_8079_8 {σ : Nat → Nat} {n0 : Nat} {bf : ab_B} : decode (ab_code (zx σ n0 bf).1 8079) 8 = .ok (.ifCond .le 4, 3) := zd zm_8079 (by decide +kernel)
theorem d_8079_11 {σ : Nat → Nat} {n0 : Nat} {bf : ab_B} : decode (ab_code (zx σ n0 bf).1 8079) 11 = .ok (.return_, 1) := zd zm_8079 (by decide +kernel)
theorem d_8079_12 {σ : Nat → Nat} {n0 : Nat} {bf : ab_B} : decode (ab_code (zx σ n0 bf).1 8079) 12 = .ok (.aload_n 0, 1) := zd zm_8079 (by decide +kernel)
theorem d_8079_13 {σ : Nat → Nat} {n0 : Nat} {bf : ab_B} : decode (ab_code (zx σ n0 bf).1 8079) 13 = .ok (.dup, 1) := zd zm_8079 (by decide +kernel)
theorem d_8079_14 {σ : Nat → Nat} {n0 : Nat} {bf : ab_B} : decode (ab_code (zx σ n0 bf).1 8079) 14 = .ok (.getfield 653, 3) := zd zm_8079 (by decide +kernel)
theorem d_8079_17 {σ : Nat → Nat} {n0 : Nat} {bf : ab_B} : decode (ab_code (zx σ n0 bf).1 8079) 17 = .ok (.iconst 1, 1) := zd zm_8079 (by decide +kernel)
theorem d_8079_18 {σ : Nat → Nat} {n0 : Nat} {bf : ab_B} : decode (ab_code (zx σ n0 bf).1 8079) 18 = .ok (.isub, 1) := zd zm_8079 (by decide +kernel)
theorem d_8079_19 {σ : Nat → Nat} {n0 : Nat} {bf : ab_B} : decode (ab_code (zx σ n0 bf).1 8079) 19 = .ok (.putfield 653, 3) := zd zm_8079 (by decide +kernel)
theorem d_8079_22 {σ : Nat → Nat} {n0 : Nat} {bf : ab_B} : decode (ab_code (zx σ n0 bf).1 8079) 22 = .ok (.aload_n 0, 1) := zd zm_8079 (by decide +kernel)
theorem d_8079_23 {σ : Nat → Nat} {n0 : Nat} {bf : ab_B} : decode (ab_code (zx σ n0 bf).1 8079) 23 = .ok (.getfield 653, 3) := zd zm_8079 (by decide +kernel)
theorem d_8079_26 {σ : Nat → Nat} {n0 : Nat} {bf : ab_B} : decode (ab_code (zx σ n0 bf).1 8079) 26 = .ok (.iconst 1, 1) := zd zm_8079 (by decide +kernel)
theorem d_8079_27 {σ : Nat → Nat} {n0 : Nat} {bf : ab_B} : decode (ab_code (zx σ n0 bf).1 8079) 27 = .ok (.isub, 1) := zd zm_8079 (by decide +kernel)
theorem d_8079_28 {σ : Nat → Nat} {n0 : Nat} {bf : ab_B} : decode (ab_code (zx σ n0 bf).1 8079) 28 = .ok (.istore_n 2, 1) := zd zm_8079 (by decide +kernel)
theorem d_8079_29 {σ : Nat → Nat} {n0 : Nat} {bf : ab_B} : decode (ab_code (zx σ n0 bf).1 8079) 29 = .ok (.aload_n 0, 1) := zd zm_8079 (by decide +kernel)
theorem d_8079_30 {σ : Nat → Nat} {n0 : Nat} {bf : ab_B} : decode (ab_code (zx σ n0 bf).1 8079) 30 = .ok (.aload_n 0, 1) := zd zm_8079 (by decide +kernel)
theorem d_8079_31 {σ : Nat → Nat} {n0 : Nat} {bf : ab_B} : decode (ab_code (zx σ n0 bf).1 8079) 31 = .ok (.getfield 191, 3) := zd zm_8079 (by decide +kernel)
theorem d_8079_34 {σ : Nat → Nat} {n0 : Nat} {bf : ab_B} : decode (ab_code (zx σ n0 bf).1 8079) 34 = .ok (.iload_n 2, 1) := zd zm_8079 (by decide +kernel)
theorem d_8079_35 {σ : Nat → Nat} {n0 : Nat} {bf : ab_B} : decode (ab_code (zx σ n0 bf).1 8079) 35 = .ok (.iaload, 1) := zd zm_8079 (by decide +kernel)
theorem d_8079_36 {σ : Nat → Nat} {n0 : Nat} {bf : ab_B} : decode (ab_code (zx σ n0 bf).1 8079) 36 = .ok (.invokevirtual 730, 3) := zd zm_8079 (by decide +kernel)
theorem d_8079_39 {σ : Nat → Nat} {n0 : Nat} {bf : ab_B} : decode (ab_code (zx σ n0 bf).1 8079) 39 = .ok (.istore_n 3, 1) := zd zm_8079 (by decide +kernel)
theorem d_8079_40 {σ : Nat → Nat} {n0 : Nat} {bf : ab_B} : decode (ab_code (zx σ n0 bf).1 8079) 40 = .ok (.aload_n 0, 1) := zd zm_8079 (by decide +kernel)
theorem d_8079_41 {σ : Nat → Nat} {n0 : Nat} {bf : ab_B} : decode (ab_code (zx σ n0 bf).1 8079) 41 = .ok (.aload_n 0, 1) := zd zm_8079 (by decide +kernel)
theorem d_8079_42 {σ : Nat → Nat} {n0 : Nat} {bf : ab_B} : decode (ab_code (zx σ n0 bf).1 8079) 42 = .ok (.getfield 191, 3) := zd zm_8079 (by decide +kernel)
theorem d_8079_45 {σ : Nat → Nat} {n0 : Nat} {bf : ab_B} : decode (ab_code (zx σ n0 bf).1 8079) 45 = .ok (.aload_n 0, 1) := zd zm_8079 (by decide +kernel)
theorem d_8079_46 {σ : Nat → Nat} {n0 : Nat} {bf : ab_B} : decode (ab_code (zx σ n0 bf).1 8079) 46 = .ok (.getfield 653, 3) := zd zm_8079 (by decide +kernel)
theorem d_8079_49 {σ : Nat → Nat} {n0 : Nat} {bf : ab_B} : decode (ab_code (zx σ n0 bf).1 8079) 49 = .ok (.iaload, 1) := zd zm_8079 (by decide +kernel)
theorem d_8079_50 {σ : Nat → Nat} {n0 : Nat} {bf : ab_B} : decode (ab_code (zx σ n0 bf).1 8079) 50 = .ok (.invokevirtual 564, 3) := zd zm_8079 (by decide +kernel)
theorem d_8079_53 {σ : Nat → Nat} {n0 : Nat} {bf : ab_B} : decode (ab_code (zx σ n0 bf).1 8079) 53 = .ok (.ifCond .eq 29, 3) := zd zm_8079 (by decide +kernel)
theorem d_8079_56 {σ : Nat → Nat} {n0 : Nat} {bf : ab_B} : decode (ab_code (zx σ n0 bf).1 8079) 56 = .ok (.aload_n 0, 1) := zd zm_8079 (by decide +kernel)
theorem d_8079_57 {σ : Nat → Nat} {n0 : Nat} {bf : ab_B} : decode (ab_code (zx σ n0 bf).1 8079) 57 = .ok (.aload_n 0, 1) := zd zm_8079 (by decide +kernel)
theorem d_8079_58 {σ : Nat → Nat} {n0 : Nat} {bf : ab_B} : decode (ab_code (zx σ n0 bf).1 8079) 58 = .ok (.getfield 191, 3) := zd zm_8079 (by decide +kernel)
theorem d_8079_61 {σ : Nat → Nat} {n0 : Nat} {bf : ab_B} : decode (ab_code (zx σ n0 bf).1 8079) 61 = .ok (.aload_n 0, 1) := zd zm_8079 (by decide +kernel)
theorem d_8079_62 {σ : Nat → Nat} {n0 : Nat} {bf : ab_B} : decode (ab_code (zx σ n0 bf).1 8079) 62 = .ok (.getfield 653, 3) := zd zm_8079 (by decide +kernel)
theorem d_8079_65 {σ : Nat → Nat} {n0 : Nat} {bf : ab_B} : decode (ab_code (zx σ n0 bf).1 8079) 65 = .ok (.iaload, 1) := zd zm_8079 (by decide +kernel)
theorem d_8079_66 {σ : Nat → Nat} {n0 : Nat} {bf : ab_B} : decode (ab_code (zx σ n0 bf).1 8079) 66 = .ok (.invokevirtual 561, 3) := zd zm_8079 (by decide +kernel)
theorem d_8079_69 {σ : Nat → Nat} {n0 : Nat} {bf : ab_B} : decode (ab_code (zx σ n0 bf).1 8079) 69 = .ok (.aload_n 0, 1) := zd zm_8079 (by decide +kernel)
theorem d_8079_70 {σ : Nat → Nat} {n0 : Nat} {bf : ab_B} : decode (ab_code (zx σ n0 bf).1 8079) 70 = .ok (.aload_n 0, 1) := zd zm_8079 (by decide +kernel)
theorem d_8079_71 {σ : Nat → Nat} {n0 : Nat} {bf : ab_B} : decode (ab_code (zx σ n0 bf).1 8079) 71 = .ok (.getfield 96, 3) := zd zm_8079 (by decide +kernel)
theorem d_8079_74 {σ : Nat → Nat} {n0 : Nat} {bf : ab_B} : decode (ab_code (zx σ n0 bf).1 8079) 74 = .ok (.iload_n 3, 1) := zd zm_8079 (by decide +kernel)
theorem d_8079_75 {σ : Nat → Nat} {n0 : Nat} {bf : ab_B} : decode (ab_code (zx σ n0 bf).1 8079) 75 = .ok (.iaload, 1) := zd zm_8079 (by decide +kernel)
theorem d_8079_76 {σ : Nat → Nat} {n0 : Nat} {bf : ab_B} : decode (ab_code (zx σ n0 bf).1 8079) 76 = .ok (.invokevirtual 561, 3) := zd zm_8079 (by decide +kernel)
theorem d_8079_79 {σ : Nat → Nat} {n0 : Nat} {bf : ab_B} : decode (ab_code (zx σ n0 bf).1 8079) 79 = .ok (.if_icmp .eq 8, 3) := zd zm_8079 (by decide +kernel)
theorem d_8079_82 {σ : Nat → Nat} {n0 : Nat} {bf : ab_B} : decode (ab_code (zx σ n0 bf).1 8079) 82 = .ok (.aload_n 0, 1) := zd zm_8079 (by decide +kernel)
theorem d_8079_83 {σ : Nat → Nat} {n0 : Nat} {bf : ab_B} : decode (ab_code (zx σ n0 bf).1 8079) 83 = .ok (.iconst 5, 1) := zd zm_8079 (by decide +kernel)
theorem d_8079_84 {σ : Nat → Nat} {n0 : Nat} {bf : ab_B} : decode (ab_code (zx σ n0 bf).1 8079) 84 = .ok (.invokevirtual 541, 3) := zd zm_8079 (by decide +kernel)
theorem d_8079_87 {σ : Nat → Nat} {n0 : Nat} {bf : ab_B} : decode (ab_code (zx σ n0 bf).1 8079) 87 = .ok (.aload_n 0, 1) := zd zm_8079 (by decide +kernel)
theorem d_8079_88 {σ : Nat → Nat} {n0 : Nat} {bf : ab_B} : decode (ab_code (zx σ n0 bf).1 8079) 88 = .ok (.iconst 5, 1) := zd zm_8079 (by decide +kernel)
theorem d_8079_89 {σ : Nat → Nat} {n0 : Nat} {bf : ab_B} : decode (ab_code (zx σ n0 bf).1 8079) 89 = .ok (.iconst 0, 1) := zd zm_8079 (by decide +kernel)
theorem d_8079_90 {σ : Nat → Nat} {n0 : Nat} {bf : ab_B} : decode (ab_code (zx σ n0 bf).1 8079) 90 = .ok (.iconst 0, 1) := zd zm_8079 (by decide +kernel)
theorem d_8079_91 {σ : Nat → Nat} {n0 : Nat} {bf : ab_B} : decode (ab_code (zx σ n0 bf).1 8079) 91 = .ok (.iload_n 1, 1) := zd zm_8079 (by decide +kernel)
theorem d_8079_92 {σ : Nat → Nat} {n0 : Nat} {bf : ab_B} : decode (ab_code (zx σ n0 bf).1 8079) 92 = .ok (.invokevirtual 656, 3) := zd zm_8079 (by decide +kernel)
theorem d_8079_95 {σ : Nat → Nat} {n0 : Nat} {bf : ab_B} : decode (ab_code (zx σ n0 bf).1 8079) 95 = .ok (.istore 4, 2) := zd zm_8079 (by decide +kernel)
theorem d_8079_97 {σ : Nat → Nat} {n0 : Nat} {bf : ab_B} : decode (ab_code (zx σ n0 bf).1 8079) 97 = .ok (.aload_n 0, 1) := zd zm_8079 (by decide +kernel)
theorem d_8079_98 {σ : Nat → Nat} {n0 : Nat} {bf : ab_B} : decode (ab_code (zx σ n0 bf).1 8079) 98 = .ok (.getfield 191, 3) := zd zm_8079 (by decide +kernel)
theorem d_8079_101 {σ : Nat → Nat} {n0 : Nat} {bf : ab_B} : decode (ab_code (zx σ n0 bf).1 8079) 101 = .ok (.iload_n 2, 1) := zd zm_8079 (by decide +kernel)
theorem d_8079_102 {σ : Nat → Nat} {n0 : Nat} {bf : ab_B} : decode (ab_code (zx σ n0 bf).1 8079) 102 = .ok (.aload_n 0, 1) := zd zm_8079 (by decide +kernel)
theorem d_8079_103 {σ : Nat → Nat} {n0 : Nat} {bf : ab_B} : decode (ab_code (zx σ n0 bf).1 8079) 103 = .ok (.getfield 93, 3) := zd zm_8079 (by decide +kernel)
theorem d_8079_106 {σ : Nat → Nat} {n0 : Nat} {bf : ab_B} : decode (ab_code (zx σ n0 bf).1 8079) 106 = .ok (.iload_n 3, 1) := zd zm_8079 (by decide +kernel)
theorem d_8079_107 {σ : Nat → Nat} {n0 : Nat} {bf : ab_B} : decode (ab_code (zx σ n0 bf).1 8079) 107 = .ok (.iaload, 1) := zd zm_8079 (by decide +kernel)
theorem d_8079_108 {σ : Nat → Nat} {n0 : Nat} {bf : ab_B} : decode (ab_code (zx σ n0 bf).1 8079) 108 = .ok (.iastore, 1) := zd zm_8079 (by decide +kernel)
theorem d_8079_109 {σ : Nat → Nat} {n0 : Nat} {bf : ab_B} : decode (ab_code (zx σ n0 bf).1 8079) 109 = .ok (.aload_n 0, 1) := zd zm_8079 (by decide +kernel)
theorem d_8079_110 {σ : Nat → Nat} {n0 : Nat} {bf : ab_B} : decode (ab_code (zx σ n0 bf).1 8079) 110 = .ok (.getfield 200, 3) := zd zm_8079 (by decide +kernel)
theorem d_8079_113 {σ : Nat → Nat} {n0 : Nat} {bf : ab_B} : decode (ab_code (zx σ n0 bf).1 8079) 113 = .ok (.iload_n 2, 1) := zd zm_8079 (by decide +kernel)
theorem d_8079_114 {σ : Nat → Nat} {n0 : Nat} {bf : ab_B} : decode (ab_code (zx σ n0 bf).1 8079) 114 = .ok (.aload_n 0, 1) := zd zm_8079 (by decide +kernel)
theorem d_8079_115 {σ : Nat → Nat} {n0 : Nat} {bf : ab_B} : decode (ab_code (zx σ n0 bf).1 8079) 115 = .ok (.getfield 200, 3) := zd zm_8079 (by decide +kernel)
theorem d_8079_118 {σ : Nat → Nat} {n0 : Nat} {bf : ab_B} : decode (ab_code (zx σ n0 bf).1 8079) 118 = .ok (.iload_n 2, 1) := zd zm_8079 (by decide +kernel)
theorem d_8079_119 {σ : Nat → Nat} {n0 : Nat} {bf : ab_B} : decode (ab_code (zx σ n0 bf).1 8079) 119 = .ok (.iaload, 1) := zd zm_8079 (by decide +kernel)
theorem d_8079_120 {σ : Nat → Nat} {n0 : Nat} {bf : ab_B} : decode (ab_code (zx σ n0 bf).1 8079) 120 = .ok (.iconst 1, 1) := zd zm_8079 (by decide +kernel)
theorem d_8079_121 {σ : Nat → Nat} {n0 : Nat} {bf : ab_B} : decode (ab_code (zx σ n0 bf).1 8079) 121 = .ok (.iand, 1) := zd zm_8079 (by decide +kernel)
theorem d_8079_122 {σ : Nat → Nat} {n0 : Nat} {bf : ab_B} : decode (ab_code (zx σ n0 bf).1 8079) 122 = .ok (.iastore, 1) := zd zm_8079 (by decide +kernel)
theorem d_8079_123 {σ : Nat → Nat} {n0 : Nat} {bf : ab_B} : decode (ab_code (zx σ n0 bf).1 8079) 123 = .ok (.aload_n 0, 1) := zd zm_8079 (by decide +kernel)
theorem d_8079_124 {σ : Nat → Nat} {n0 : Nat} {bf : ab_B} : decode (ab_code (zx σ n0 bf).1 8079) 124 = .ok (.getfield 206, 3) := zd zm_8079 (by decide +kernel)
theorem d_8079_127 {σ : Nat → Nat} {n0 : Nat} {bf : ab_B} : decode (ab_code (zx σ n0 bf).1 8079) 127 = .ok (.iload_n 2, 1) := zd zm_8079 (by decide +kernel)
theorem d_8079_128 {σ : Nat → Nat} {n0 : Nat} {bf : ab_B} : decode (ab_code (zx σ n0 bf).1 8079) 128 = .ok (.iload_n 1, 1) := zd zm_8079 (by decide +kernel)
theorem d_8079_129 {σ : Nat → Nat} {n0 : Nat} {bf : ab_B} : decode (ab_code (zx σ n0 bf).1 8079) 129 = .ok (.iastore, 1) := zd zm_8079 (by decide +kernel)
theorem d_8079_130 {σ : Nat → Nat} {n0 : Nat} {bf : ab_B} : decode (ab_code (zx σ n0 bf).1 8079) 130 = .ok (.aload_n 0, 1) := zd zm_8079 (by decide +kernel)
theorem d_8079_131 {σ : Nat → Nat} {n0 : Nat} {bf : ab_B} : decode (ab_code (zx σ n0 bf).1 8079) 131 = .ok (.bipush 12, 2) := zd zm_8079 (by decide +kernel)
theorem d_8079_133 {σ : Nat → Nat} {n0 : Nat} {bf : ab_B} : decode (ab_code (zx σ n0 bf).1 8079) 133 = .ok (.invokevirtual 535, 3) := zd zm_8079 (by decide +kernel)
theorem d_8079_136 {σ : Nat → Nat} {n0 : Nat} {bf : ab_B} : decode (ab_code (zx σ n0 bf).1 8079) 136 = .ok (.ifCond .eq 55, 3) := zd zm_8079 (by decide +kernel)
theorem d_8079_139 {σ : Nat → Nat} {n0 : Nat} {bf : ab_B} : decode (ab_code (zx σ n0 bf).1 8079) 139 = .ok (.aload_n 0, 1) := zd zm_8079 (by decide +kernel)
theorem d_8079_140 {σ : Nat → Nat} {n0 : Nat} {bf : ab_B} : decode (ab_code (zx σ n0 bf).1 8079) 140 = .ok (.getfield 90, 3) := zd zm_8079 (by decide +kernel)
theorem d_8079_143 {σ : Nat → Nat} {n0 : Nat} {bf : ab_B} : decode (ab_code (zx σ n0 bf).1 8079) 143 = .ok (.aload_n 0, 1) := zd zm_8079 (by decide +kernel)
theorem d_8079_144 {σ : Nat → Nat} {n0 : Nat} {bf : ab_B} : decode (ab_code (zx σ n0 bf).1 8079) 144 = .ok (.aload_n 0, 1) := zd zm_8079 (by decide +kernel)
theorem d_8079_145 {σ : Nat → Nat} {n0 : Nat} {bf : ab_B} : decode (ab_code (zx σ n0 bf).1 8079) 145 = .ok (.getfield 191, 3) := zd zm_8079 (by decide +kernel)
theorem d_8079_148 {σ : Nat → Nat} {n0 : Nat} {bf : ab_B} : decode (ab_code (zx σ n0 bf).1 8079) 148 = .ok (.iload_n 2, 1) := zd zm_8079 (by decide +kernel)
theorem d_8079_149 {σ : Nat → Nat} {n0 : Nat} {bf : ab_B} : decode (ab_code (zx σ n0 bf).1 8079) 149 = .ok (.iaload, 1) := zd zm_8079 (by decide +kernel)
theorem d_8079_150 {σ : Nat → Nat} {n0 : Nat} {bf : ab_B} : decode (ab_code (zx σ n0 bf).1 8079) 150 = .ok (.invokevirtual 730, 3) := zd zm_8079 (by decide +kernel)
theorem d_8079_153 {σ : Nat → Nat} {n0 : Nat} {bf : ab_B} : decode (ab_code (zx σ n0 bf).1 8079) 153 = .ok (.baload, 1) := zd zm_8079 (by decide +kernel)
theorem d_8079_154 {σ : Nat → Nat} {n0 : Nat} {bf : ab_B} : decode (ab_code (zx σ n0 bf).1 8079) 154 = .ok (.bipush 8, 2) := zd zm_8079 (by decide +kernel)
theorem d_8079_156 {σ : Nat → Nat} {n0 : Nat} {bf : ab_B} : decode (ab_code (zx σ n0 bf).1 8079) 156 = .ok (.if_icmp .eq 8, 3) := zd zm_8079 (by decide +kernel)
theorem d_8079_159 {σ : Nat → Nat} {n0 : Nat} {bf : ab_B} : decode (ab_code (zx σ n0 bf).1 8079) 159 = .ok (.aload_n 0, 1) := zd zm_8079 (by decide +kernel)
theorem d_8079_160 {σ : Nat → Nat} {n0 : Nat} {bf : ab_B} : decode (ab_code (zx σ n0 bf).1 8079) 160 = .ok (.iconst 5, 1) := zd zm_8079 (by decide +kernel)
theorem d_8079_161 {σ : Nat → Nat} {n0 : Nat} {bf : ab_B} : decode (ab_code (zx σ n0 bf).1 8079) 161 = .ok (.invokevirtual 541, 3) := zd zm_8079 (by decide +kernel)
theorem d_8079_164 {σ : Nat → Nat} {n0 : Nat} {bf : ab_B} : decode (ab_code (zx σ n0 bf).1 8079) 164 = .ok (.aload_n 0, 1) := zd zm_8079 (by decide +kernel)
theorem d_8079_165 {σ : Nat → Nat} {n0 : Nat} {bf : ab_B} : decode (ab_code (zx σ n0 bf).1 8079) 165 = .ok (.bipush 19, 2) := zd zm_8079 (by decide +kernel)
theorem d_8079_167 {σ : Nat → Nat} {n0 : Nat} {bf : ab_B} : decode (ab_code (zx σ n0 bf).1 8079) 167 = .ok (.aload_n 0, 1) := zd zm_8079 (by decide +kernel)
theorem d_8079_168 {σ : Nat → Nat} {n0 : Nat} {bf : ab_B} : decode (ab_code (zx σ n0 bf).1 8079) 168 = .ok (.getfield 450, 3) := zd zm_8079 (by decide +kernel)
theorem d_8079_171 {σ : Nat → Nat} {n0 : Nat} {bf : ab_B} : decode (ab_code (zx σ n0 bf).1 8079) 171 = .ok (.iconst 0, 1) := zd zm_8079 (by decide +kernel)
theorem d_8079_172 {σ : Nat → Nat} {n0 : Nat} {bf : ab_B} : decode (ab_code (zx σ n0 bf).1 8079) 172 = .ok (.iconst 0, 1) := zd zm_8079 (by decide +kernel)
theorem d_8079_173 {σ : Nat → Nat} {n0 : Nat} {bf : ab_B} : decode (ab_code (zx σ n0 bf).1 8079) 173 = .ok (.invokevirtual 649, 3) := zd zm_8079 (by decide +kernel)
theorem d_8079_176 {σ : Nat → Nat} {n0 : Nat} {bf : ab_B} : decode (ab_code (zx σ n0 bf).1 8079) 176 = .ok (.aload_n 0, 1) := zd zm_8079 (by decide +kernel)
theorem d_8079_177 {σ : Nat → Nat} {n0 : Nat} {bf : ab_B} : decode (ab_code (zx σ n0 bf).1 8079) 177 = .ok (.iconst 2, 1) := zd zm_8079 (by decide +kernel)
theorem d_8079_178 {σ : Nat → Nat} {n0 : Nat} {bf : ab_B} : decode (ab_code (zx σ n0 bf).1 8079) 178 = .ok (.iconst 0, 1) := zd zm_8079 (by decide +kernel)
theorem d_8079_179 {σ : Nat → Nat} {n0 : Nat} {bf : ab_B} : decode (ab_code (zx σ n0 bf).1 8079) 179 = .ok (.iconst 0, 1) := zd zm_8079 (by decide +kernel)
theorem d_8079_180 {σ : Nat → Nat} {n0 : Nat} {bf : ab_B} : decode (ab_code (zx σ n0 bf).1 8079) 180 = .ok (.iconst 0, 1) := zd zm_8079 (by decide +kernel)
theorem d_8079_181 {σ : Nat → Nat} {n0 : Nat} {bf : ab_B} : decode (ab_code (zx σ n0 bf).1 8079) 181 = .ok (.invokevirtual 649, 3) := zd zm_8079 (by decide +kernel)
theorem d_8079_184 {σ : Nat → Nat} {n0 : Nat} {bf : ab_B} : decode (ab_code (zx σ n0 bf).1 8079) 184 = .ok (.aload_n 0, 1) := zd zm_8079 (by decide +kernel)
theorem d_8079_185 {σ : Nat → Nat} {n0 : Nat} {bf : ab_B} : decode (ab_code (zx σ n0 bf).1 8079) 185 = .ok (.invokevirtual 538, 3) := zd zm_8079 (by decide +kernel)
theorem d_8079_188 {σ : Nat → Nat} {n0 : Nat} {bf : ab_B} : decode (ab_code (zx σ n0 bf).1 8079) 188 = .ok (.goto 9, 3) := zd zm_8079 (by decide +kernel)
theorem d_8079_191 {σ : Nat → Nat} {n0 : Nat} {bf : ab_B} : decode (ab_code (zx σ n0 bf).1 8079) 191 = .ok (.aload_n 0, 1) := zd zm_8079 (by decide +kernel)
theorem d_8079_192 {σ : Nat → Nat} {n0 : Nat} {bf : ab_B} : decode (ab_code (zx σ n0 bf).1 8079) 192 = .ok (.bipush 11, 2) := zd zm_8079 (by decide +kernel)
theorem d_8079_194 {σ : Nat → Nat} {n0 : Nat} {bf : ab_B} : decode (ab_code (zx σ n0 bf).1 8079) 194 = .ok (.invokevirtual 746, 3) := zd zm_8079 (by decide +kernel)
theorem d_8079_197 {σ : Nat → Nat} {n0 : Nat} {bf : ab_B} : decode (ab_code (zx σ n0 bf).1 8079) 197 = .ok (.return_, 1) := zd zm_8079 (by decide +kernel)
def w_X9_indexed_197 (X : zs_X) (d : Nat)  (S : zs_T) (Q : zs_Q) : Prop :=
  (Q (.returned none) S)
theorem u_X9_indexed_197 {σ : Nat → Nat} {n0 : Nat} {bf : ab_B} {d : Nat}  {S : zs_T} {Q : zs_Q} (hB : zt_B bf) (h : w_X9_indexed_197 (zx σ n0 bf) d  S Q) : zs_U (zx σ n0 bf) d 8079 197 [] [] S Q := by
  unfold w_X9_indexed_197 at h
  exact zu_vret d_8079_197 zr_8079 h
def w_X9_indexed_164 (X : zs_X) (d : Nat) (p0 : Nat) (S : zs_T) (Q : zs_Q) : Prop :=
  (zs_K S p0 = some (.inl 8) ∧ zs_C X d 8030 [.ref p0, .int (19 : Int32), .int (zs_I S 8007 p0), .int (0 : Int32), .int (0 : Int32)] S (zs_kV (fun S2 => (zs_K S2 p0 = some (.inl 8) ∧ zs_C X d 8030 [.ref p0, .int (2 : Int32), .int (0 : Int32), .int (0 : Int32), .int (0 : Int32)] S2 (zs_kV (fun S5 => (zs_K S5 p0 = some (.inl 8) ∧ zs_C X d 8014 [.ref p0] S5 (zs_kV (fun S8 => (w_X9_indexed_197 X d  S8 Q)) Q))) Q))) Q))
theorem u_X9_indexed_164 {σ : Nat → Nat} {n0 : Nat} {bf : ab_B} {d : Nat} {p0 : Nat} {S : zs_T} {Q : zs_Q} (hB : zt_B bf) (h : w_X9_indexed_164 (zx σ n0 bf) d p0 S Q) : zs_U (zx σ n0 bf) d 8079 164 [(0, .ref p0)] [] S Q := by
  unfold w_X9_indexed_164 at h
  refine zu_aload_n d_8079_164 rfl (zs_ra _) ?_
  refine zu_bipush d_8079_165 zj_19 ?_
  refine zu_aload_n d_8079_167 rfl (zs_ra _) ?_
  obtain ⟨k1, h⟩ := h
  refine zg_8_450 rfl d_8079_168 k1 ?_
  refine zu_iconst d_8079_171 zi_0 ?_
  refine zu_iconst d_8079_172 zi_0 ?_
  refine zc_8_649 (x0 := (19 : Int32)) (x1 := (zs_I S 8007 p0)) (x2 := (0 : Int32)) (x3 := (0 : Int32)) hB rfl k1 d_8079_173 (Nat.le_of_ble_eq_true rfl) h (fun S2 h => ?_)
  refine zu_aload_n d_8079_176 rfl (zs_ra _) ?_
  refine zu_iconst d_8079_177 zi_2 ?_
  refine zu_iconst d_8079_178 zi_0 ?_
  refine zu_iconst d_8079_179 zi_0 ?_
  refine zu_iconst d_8079_180 zi_0 ?_
  obtain ⟨k4, h⟩ := h
  refine zc_8_649 (x0 := (2 : Int32)) (x1 := (0 : Int32)) (x2 := (0 : Int32)) (x3 := (0 : Int32)) hB rfl k4 d_8079_181 (Nat.le_of_ble_eq_true rfl) h (fun S5 h => ?_)
  refine zu_aload_n d_8079_184 rfl (zs_ra _) ?_
  obtain ⟨k7, h⟩ := h
  refine zc_8_538  hB rfl k7 d_8079_185 (Nat.le_of_ble_eq_true rfl) h (fun S8 h => ?_)
  refine zu_goto (t := 197) d_8079_188 rfl ?_
  exact (u_X9_indexed_197 hB h).weak trivial
def w_X9_indexed_159 (X : zs_X) (d : Nat) (p0 : Nat) (S : zs_T) (Q : zs_Q) : Prop :=
  (zs_K S p0 = some (.inl 8) ∧ zs_C X d 8027 [.ref p0, .int (5 : Int32)] S (zs_kV (fun S2 => w_X9_indexed_164 X d p0 S2 Q) Q))
theorem u_X9_indexed_159 {σ : Nat → Nat} {n0 : Nat} {bf : ab_B} {d : Nat} {p0 : Nat} {S : zs_T} {Q : zs_Q} (hB : zt_B bf) (h : w_X9_indexed_159 (zx σ n0 bf) d p0 S Q) : zs_U (zx σ n0 bf) d 8079 159 [(0, .ref p0)] [] S Q := by
  unfold w_X9_indexed_159 at h
  refine zu_aload_n d_8079_159 rfl (zs_ra _) ?_
  refine zu_iconst d_8079_160 zi_5 ?_
  obtain ⟨k1, h⟩ := h
  refine zc_8_541 (x0 := (5 : Int32)) hB rfl k1 d_8079_161 (Nat.le_of_ble_eq_true rfl) h (fun S2 h => ?_)
  exact (u_X9_indexed_164 hB h).weak ⟨rfl, trivial⟩
def w_X9_indexed_123 (X : zs_X) (d : Nat) (p0 : Nat) (p1 : Int32) (p2 : Int32) (S : zs_T) (Q : zs_Q) : Prop :=
  (zs_K S p0 = some (.inl 8) ∧ ∃ b2, (zs_R S 8096 p0) = some b2 ∧ zs_A S b2 0 p2 ∧ ab_n0 X.1 ≤ b2 ∧ ∀ S6, S6 = zs_si S b2 p2.toNatClampNeg p1 → zs_C X d 8029 [.ref p0, .int (12 : Int32)] S6 (zs_kI (fun v10 S9 => (((v10 = 0 → (zs_K S9 p0 = some (.inl 8) ∧ zs_C X d 8028 [.ref p0, .int (11 : Int32)] S9 (zs_kV (fun S13 => w_X9_indexed_197 X d  S13 Q) Q))) ∧ (¬ (v10 = 0) → (zs_K S9 p0 = some (.inl 8) ∧ ∃ b16, (zs_R S9 8091 p0) = some b16 ∧ zs_A S9 b16 0 p2 ∧ zs_C X d 8073 [.ref p0, .int (zs_i S9 b16 p2.toNatClampNeg)] S9 (zs_kI (fun v20 S19 => (∃ b21, (zs_R S9 8044 p0) = some b21 ∧ zs_A S19 b21 1 v20 ∧ (((zs_i S19 b21 v20.toNatClampNeg) = (8 : Int32) → w_X9_indexed_164 X d p0 S19 Q) ∧ (¬ ((zs_i S19 b21 v20.toNatClampNeg) = (8 : Int32)) → w_X9_indexed_159 X d p0 S19 Q)))) Q)))))) Q))
theorem u_X9_indexed_123 {σ : Nat → Nat} {n0 : Nat} {bf : ab_B} {d : Nat} {p0 : Nat} {p1 : Int32} {p2 : Int32} {S : zs_T} {Q : zs_Q} (hB : zt_B bf) (h : w_X9_indexed_123 (zx σ n0 bf) d p0 p1 p2 S Q) : zs_U (zx σ n0 bf) d 8079 123 [(0, .ref p0), (1, .int p1), (2, .int p2)] [] S Q := by
  unfold w_X9_indexed_123 at h
  refine zu_aload_n d_8079_123 rfl (zs_ra _) ?_
  obtain ⟨k1, h⟩ := h
  refine zg_8_206 rfl d_8079_124 k1 ?_
  refine zu_iload_n d_8079_127 rfl ?_
  refine zu_iload_n d_8079_128 rfl ?_
  obtain ⟨b2, e3, h⟩ := h
  refine zs_stk2 (zs_rfe e3) ?_
  obtain ⟨k4, h⟩ := h
  obtain ⟨k5, h⟩ := h
  refine zu_iast (k := 0) d_8079_129 rfl rfl k5 k4 ?_
  generalize e7 : zs_si S b2 p2.toNatClampNeg p1 = S6
  have h := h S6 e7.symm
  have K8 : ∀ b, zs_K S6 b = zs_K S b := zs_Kt e7 (zs_Ksi _ _ _ _) (fun _ => rfl)
  refine zu_aload_n d_8079_130 rfl (zs_ra _) ?_
  refine zu_bipush d_8079_131 zj_12 ?_
  refine zc_8_535 (x0 := (12 : Int32)) hB rfl ((K8 _).trans k1) d_8079_133 (Nat.le_of_ble_eq_true rfl) h (fun v10 S9 h => ?_)
  refine zu_ifeq (t := 191) d_8079_136 rfl (fun c11 => ?_) (fun c11 => ?_)
  · have h := h.1 c11
    refine zu_aload_n d_8079_191 rfl (zs_ra _) ?_
    refine zu_bipush d_8079_192 zj_11 ?_
    obtain ⟨k12, h⟩ := h
    refine zc_8_746 (x0 := (11 : Int32)) hB rfl k12 d_8079_194 (Nat.le_of_ble_eq_true rfl) h (fun S13 h => ?_)
    exact (u_X9_indexed_197 hB h).weak trivial
  · have h := h.2 c11
    refine zu_aload_n d_8079_139 rfl (zs_ra _) ?_
    obtain ⟨k15, h⟩ := h
    refine zg_8_90 rfl d_8079_140 k15 ?_
    refine zu_aload_n d_8079_143 rfl (zs_ra _) ?_
    refine zu_aload_n d_8079_144 rfl (zs_ra _) ?_
    refine zg_8_191 rfl d_8079_145 k15 ?_
    refine zu_iload_n d_8079_148 rfl ?_
    obtain ⟨b16, e17, h⟩ := h
    refine zs_stk1 (zs_rfe e17) ?_
    obtain ⟨k18, h⟩ := h
    refine zu_iald (k := 0) d_8079_149 rfl rfl k18 ?_
    refine zc_8_730 (x0 := (zs_i S9 b16 p2.toNatClampNeg)) hB rfl k15 d_8079_150 (by simp only [List.map_cons, List.map_nil, List.sum_cons, List.sum_nil, zs_cat, zs_cI, zs_cJ, zs_cA]; exact Nat.le_of_ble_eq_true rfl) h (fun v20 S19 h => ?_)
    obtain ⟨b21, e22, h⟩ := h
    refine zs_stk1 (zs_rfe e22) ?_
    obtain ⟨k23, h⟩ := h
    refine zu_bald (k := 1) d_8079_153 rfl (Or.inl rfl) k23 ?_
    refine zu_bipush d_8079_154 zj_8 ?_
    refine zu_cmpeq (t := 164) d_8079_156 rfl (fun c24 => ?_) (fun c24 => ?_)
    · have h := h.1 c24
      exact (u_X9_indexed_164 hB h).weak ⟨rfl, trivial⟩
    · have h := h.2 c24
      exact (u_X9_indexed_159 hB h).weak ⟨rfl, trivial⟩
def w_X9_indexed_87 (X : zs_X) (d : Nat) (p0 : Nat) (p1 : Int32) (p2 : Int32) (p3 : Int32) (S : zs_T) (Q : zs_Q) : Prop :=
  (zs_K S p0 = some (.inl 8) ∧ zs_C X d 8012 [.ref p0, .int (5 : Int32), .int (0 : Int32), .int (0 : Int32), .int p1] S (zs_kI (fun v3 S2 => (zs_K S2 p0 = some (.inl 8) ∧ ∃ b5, (zs_R S2 8045 p0) = some b5 ∧ zs_A S2 b5 0 p3 ∧ ∃ b8, (zs_R S2 8091 p0) = some b8 ∧ zs_A S2 b8 0 p2 ∧ ab_n0 X.1 ≤ b8 ∧ ∀ S12, S12 = zs_si S2 b8 p2.toNatClampNeg (zs_i S2 b5 p3.toNatClampNeg) → ∃ b15, (zs_R S12 8094 p0) = some b15 ∧ zs_A S2 b15 0 p2 ∧ ab_n0 X.1 ≤ b15 ∧ ∀ S19, S19 = zs_si S12 b15 p2.toNatClampNeg ((zs_i S12 b15 p2.toNatClampNeg) &&& (1 : Int32)) → w_X9_indexed_123 X d p0 p1 p2 S19 Q)) Q))
theorem u_X9_indexed_87 {σ : Nat → Nat} {n0 : Nat} {bf : ab_B} {d : Nat} {p0 : Nat} {p1 : Int32} {p2 : Int32} {p3 : Int32} {S : zs_T} {Q : zs_Q} (hB : zt_B bf) (h : w_X9_indexed_87 (zx σ n0 bf) d p0 p1 p2 p3 S Q) : zs_U (zx σ n0 bf) d 8079 87 [(0, .ref p0), (1, .int p1), (2, .int p2), (3, .int p3)] [] S Q := by
  unfold w_X9_indexed_87 at h
  refine zu_aload_n d_8079_87 rfl (zs_ra _) ?_
  refine zu_iconst d_8079_88 zi_5 ?_
  refine zu_iconst d_8079_89 zi_0 ?_
  refine zu_iconst d_8079_90 zi_0 ?_
  refine zu_iload_n d_8079_91 rfl ?_
  obtain ⟨k1, h⟩ := h
  refine zc_8_656 (x0 := (5 : Int32)) (x1 := (0 : Int32)) (x2 := (0 : Int32)) (x3 := p1) hB rfl k1 d_8079_92 (Nat.le_of_ble_eq_true rfl) h (fun v3 S2 h => ?_)
  refine zu_istore d_8079_95 (zs_lt zq_8079 rfl) ?_
  refine zu_aload_n d_8079_97 rfl (zs_ra _) ?_
  obtain ⟨k4, h⟩ := h
  refine zg_8_191 rfl d_8079_98 k4 ?_
  refine zu_iload_n d_8079_101 rfl ?_
  refine zu_aload_n d_8079_102 rfl (zs_ra _) ?_
  refine zg_8_93 rfl d_8079_103 k4 ?_
  refine zu_iload_n d_8079_106 rfl ?_
  obtain ⟨b5, e6, h⟩ := h
  refine zs_stk1 (zs_rfe e6) ?_
  obtain ⟨k7, h⟩ := h
  refine zu_iald (k := 0) d_8079_107 rfl rfl k7 ?_
  obtain ⟨b8, e9, h⟩ := h
  refine zs_stk2 (zs_rfe e9) ?_
  obtain ⟨k10, h⟩ := h
  obtain ⟨k11, h⟩ := h
  refine zu_iast (k := 0) d_8079_108 rfl rfl k11 k10 ?_
  generalize e13 : zs_si S2 b8 p2.toNatClampNeg (zs_i S2 b5 p3.toNatClampNeg) = S12
  have h := h S12 e13.symm
  have K14 : ∀ b, zs_K S12 b = zs_K S2 b := zs_Kt e13 (zs_Ksi _ _ _ _) (fun _ => rfl)
  refine zu_aload_n d_8079_109 rfl (zs_ra _) ?_
  refine zg_8_200 rfl d_8079_110 ((K14 _).trans k4) ?_
  refine zu_iload_n d_8079_113 rfl ?_
  refine zu_aload_n d_8079_114 rfl (zs_ra _) ?_
  refine zg_8_200 rfl d_8079_115 ((K14 _).trans k4) ?_
  refine zu_iload_n d_8079_118 rfl ?_
  obtain ⟨b15, e16, h⟩ := h
  refine zs_stk1 (zs_rfe e16) ?_
  obtain ⟨k17, h⟩ := h
  refine zu_iald (k := 0) d_8079_119 rfl rfl (zs_Ak K14 k17) ?_
  refine zu_iconst d_8079_120 zi_1 ?_
  refine zu_stk d_8079_121 rfl rfl ?_
  refine zs_stk2 (zs_rfe e16) ?_
  obtain ⟨k18, h⟩ := h
  refine zu_iast (k := 0) d_8079_122 rfl rfl k18 (zs_Ak K14 k17) ?_
  generalize e20 : zs_si S12 b15 p2.toNatClampNeg ((zs_i S12 b15 p2.toNatClampNeg) &&& (1 : Int32)) = S19
  have h := h S19 e20.symm
  have K21 : ∀ b, zs_K S19 b = zs_K S2 b := zs_Kt e20 (zs_Ksi _ _ _ _) K14
  exact (u_X9_indexed_123 hB h).weak ⟨rfl, rfl, rfl, trivial⟩
def w_X9_indexed_82 (X : zs_X) (d : Nat) (p0 : Nat) (p1 : Int32) (p2 : Int32) (p3 : Int32) (S : zs_T) (Q : zs_Q) : Prop :=
  (zs_K S p0 = some (.inl 8) ∧ zs_C X d 8027 [.ref p0, .int (5 : Int32)] S (zs_kV (fun S2 => w_X9_indexed_87 X d p0 p1 p2 p3 S2 Q) Q))
theorem u_X9_indexed_82 {σ : Nat → Nat} {n0 : Nat} {bf : ab_B} {d : Nat} {p0 : Nat} {p1 : Int32} {p2 : Int32} {p3 : Int32} {S : zs_T} {Q : zs_Q} (hB : zt_B bf) (h : w_X9_indexed_82 (zx σ n0 bf) d p0 p1 p2 p3 S Q) : zs_U (zx σ n0 bf) d 8079 82 [(0, .ref p0), (1, .int p1), (2, .int p2), (3, .int p3)] [] S Q := by
  unfold w_X9_indexed_82 at h
  refine zu_aload_n d_8079_82 rfl (zs_ra _) ?_
  refine zu_iconst d_8079_83 zi_5 ?_
  obtain ⟨k1, h⟩ := h
  refine zc_8_541 (x0 := (5 : Int32)) hB rfl k1 d_8079_84 (Nat.le_of_ble_eq_true rfl) h (fun S2 h => ?_)
  exact (u_X9_indexed_87 hB h).weak ⟨rfl, rfl, rfl, rfl, trivial⟩
def w_X9_indexed_29 (X : zs_X) (d : Nat) (p0 : Nat) (p1 : Int32) (p2 : Int32) (S : zs_T) (Q : zs_Q) : Prop :=
  (zs_K S p0 = some (.inl 8) ∧ ∃ b2, (zs_R S 8091 p0) = some b2 ∧ zs_A S b2 0 p2 ∧ zs_C X d 8073 [.ref p0, .int (zs_i S b2 p2.toNatClampNeg)] S (zs_kI (fun v6 S5 => (zs_K S5 p0 = some (.inl 8) ∧ ∃ b8, (zs_R S5 8091 p0) = some b8 ∧ zs_A S5 b8 0 (zs_I S5 8097 p0) ∧ zs_C X d 8036 [.ref p0, .int (zs_i S5 b8 (zs_I S5 8097 p0).toNatClampNeg)] S5 (zs_kI (fun v12 S11 => (((v12 = 0 → w_X9_indexed_82 X d p0 p1 p2 v6 S11 Q) ∧ (¬ (v12 = 0) → (zs_K S11 p0 = some (.inl 8) ∧ ∃ b15, (zs_R S11 8091 p0) = some b15 ∧ zs_A S11 b15 0 (zs_I S11 8097 p0) ∧ zs_C X d 8042 [.ref p0, .int (zs_i S11 b15 (zs_I S11 8097 p0).toNatClampNeg)] S11 (zs_kI (fun v19 S18 => (zs_K S18 p0 = some (.inl 8) ∧ ∃ b21, (zs_R S18 8046 p0) = some b21 ∧ zs_A S18 b21 0 v6 ∧ zs_C X d 8042 [.ref p0, .int (zs_i S18 b21 v6.toNatClampNeg)] S18 (zs_kI (fun v25 S24 => (((v19 = v25 → w_X9_indexed_87 X d p0 p1 p2 v6 S24 Q) ∧ (¬ (v19 = v25) → w_X9_indexed_82 X d p0 p1 p2 v6 S24 Q)))) Q))) Q)))))) Q))) Q))
theorem u_X9_indexed_29 {σ : Nat → Nat} {n0 : Nat} {bf : ab_B} {d : Nat} {p0 : Nat} {p1 : Int32} {p2 : Int32} {S : zs_T} {Q : zs_Q} (hB : zt_B bf) (h : w_X9_indexed_29 (zx σ n0 bf) d p0 p1 p2 S Q) : zs_U (zx σ n0 bf) d 8079 29 [(0, .ref p0), (1, .int p1), (2, .int p2)] [] S Q := by
  unfold w_X9_indexed_29 at h
  refine zu_aload_n d_8079_29 rfl (zs_ra _) ?_
  refine zu_aload_n d_8079_30 rfl (zs_ra _) ?_
  obtain ⟨k1, h⟩ := h
  refine zg_8_191 rfl d_8079_31 k1 ?_
  refine zu_iload_n d_8079_34 rfl ?_
  obtain ⟨b2, e3, h⟩ := h
  refine zs_stk1 (zs_rfe e3) ?_
  obtain ⟨k4, h⟩ := h
  refine zu_iald (k := 0) d_8079_35 rfl rfl k4 ?_
  refine zc_8_730 (x0 := (zs_i S b2 p2.toNatClampNeg)) hB rfl k1 d_8079_36 (Nat.le_of_ble_eq_true rfl) h (fun v6 S5 h => ?_)
  refine zu_istore_n d_8079_39 (zs_lt zq_8079 rfl) ?_
  refine zu_aload_n d_8079_40 rfl (zs_ra _) ?_
  refine zu_aload_n d_8079_41 rfl (zs_ra _) ?_
  obtain ⟨k7, h⟩ := h
  refine zg_8_191 rfl d_8079_42 k7 ?_
  refine zu_aload_n d_8079_45 rfl (zs_ra _) ?_
  refine zg_8_653 rfl d_8079_46 k7 ?_
  obtain ⟨b8, e9, h⟩ := h
  refine zs_stk1 (zs_rfe e9) ?_
  obtain ⟨k10, h⟩ := h
  refine zu_iald (k := 0) d_8079_49 rfl rfl k10 ?_
  refine zc_8_564 (x0 := (zs_i S5 b8 (zs_I S5 8097 p0).toNatClampNeg)) hB rfl k7 d_8079_50 (Nat.le_of_ble_eq_true rfl) h (fun v12 S11 h => ?_)
  refine zu_ifeq (t := 82) d_8079_53 rfl (fun c13 => ?_) (fun c13 => ?_)
  · have h := h.1 c13
    exact (u_X9_indexed_82 hB h).weak ⟨rfl, rfl, rfl, rfl, trivial⟩
  · have h := h.2 c13
    refine zu_aload_n d_8079_56 rfl (zs_ra _) ?_
    refine zu_aload_n d_8079_57 rfl (zs_ra _) ?_
    obtain ⟨k14, h⟩ := h
    refine zg_8_191 rfl d_8079_58 k14 ?_
    refine zu_aload_n d_8079_61 rfl (zs_ra _) ?_
    refine zg_8_653 rfl d_8079_62 k14 ?_
    obtain ⟨b15, e16, h⟩ := h
    refine zs_stk1 (zs_rfe e16) ?_
    obtain ⟨k17, h⟩ := h
    refine zu_iald (k := 0) d_8079_65 rfl rfl k17 ?_
    refine zc_8_561 (x0 := (zs_i S11 b15 (zs_I S11 8097 p0).toNatClampNeg)) hB rfl k14 d_8079_66 (Nat.le_of_ble_eq_true rfl) h (fun v19 S18 h => ?_)
    refine zu_aload_n d_8079_69 rfl (zs_ra _) ?_
    refine zu_aload_n d_8079_70 rfl (zs_ra _) ?_
    obtain ⟨k20, h⟩ := h
    refine zg_8_96 rfl d_8079_71 k20 ?_
    refine zu_iload_n d_8079_74 rfl ?_
    obtain ⟨b21, e22, h⟩ := h
    refine zs_stk1 (zs_rfe e22) ?_
    obtain ⟨k23, h⟩ := h
    refine zu_iald (k := 0) d_8079_75 rfl rfl k23 ?_
    refine zc_8_561 (x0 := (zs_i S18 b21 v6.toNatClampNeg)) hB rfl k20 d_8079_76 (Nat.le_of_ble_eq_true rfl) h (fun v25 S24 h => ?_)
    refine zu_cmpeq (t := 87) d_8079_79 rfl (fun c26 => ?_) (fun c26 => ?_)
    · have h := h.1 c26
      exact (u_X9_indexed_87 hB h).weak ⟨rfl, rfl, rfl, rfl, trivial⟩
    · have h := h.2 c26
      exact (u_X9_indexed_82 hB h).weak ⟨rfl, rfl, rfl, rfl, trivial⟩
def w_X9_indexed (X : zs_X) (d : Nat) (p0 : Nat) (p1 : Int32) (S : zs_T) (Q : zs_Q) : Prop :=
  (zs_K S p0 = some (.inl 8) ∧ zs_C X d 8037 [.ref p0] S (zs_kV (fun S2 => (zs_K S2 p0 = some (.inl 8) ∧ (((zs_I S2 8010 p0) ≤ 0 → (ab_n0 X.1 ≤ p0 ∧ ∀ S7, S7 = zs_sI S2 8097 p0 ((zs_I S2 8097 p0) - (1 : Int32)) → w_X9_indexed_29 X d p0 p1 ((zs_I S7 8097 p0) - (1 : Int32)) S7 Q)) ∧ (¬ ((zs_I S2 8010 p0) ≤ 0) → (Q (.returned none) S2))))) Q))
theorem u_X9_indexed {σ : Nat → Nat} {n0 : Nat} {bf : ab_B} {d : Nat} {p0 : Nat} {p1 : Int32} {S : zs_T} {Q : zs_Q} (hB : zt_B bf) (hd : 1 ≤ d) (h : w_X9_indexed (zx σ n0 bf) (d - 1) p0 p1 S Q) : zs_C (zx σ n0 bf) d 8079 [.ref p0, .int p1] S Q := by
  have hL : lv_args 0 [.ref p0, .int p1] = [(0, .ref p0), (1, .int p1)] := rfl
  refine zs_C.of1 (hB.2 8079 (by decide) (by decide)) hd (by rw [hL]; exact zs_sub_self _ (by exact ⟨rfl, rfl, trivial⟩)) ?_
  rw [hL]
  clear hL
  unfold w_X9_indexed at h
  refine zu_aload_n d_8079_0 rfl (zs_ra _) ?_
  obtain ⟨k1, h⟩ := h
  refine zc_8_660  hB rfl k1 d_8079_1 (Nat.le_of_ble_eq_true rfl) h (fun S2 h => ?_)
  refine zu_aload_n d_8079_4 rfl (zs_ra _) ?_
  obtain ⟨k4, h⟩ := h
  refine zg_8_444 rfl d_8079_5 k4 ?_
  refine zu_ifle (t := 12) d_8079_8 rfl (fun c5 => ?_) (fun c5 => ?_)
  · have h := h.1 c5
    refine zu_aload_n d_8079_12 rfl (zs_ra _) ?_
    refine zu_dup d_8079_13 rfl ?_
    refine zg_8_653 rfl d_8079_14 k4 ?_
    refine zu_iconst d_8079_17 zi_1 ?_
    refine zu_stk d_8079_18 rfl rfl ?_
    obtain ⟨k6, h⟩ := h
    refine zp_8_653 (v := ((zs_I S2 8097 p0) - (1 : Int32))) rfl d_8079_19 k4 k6 ?_
    generalize e8 : zs_sI S2 8097 p0 ((zs_I S2 8097 p0) - (1 : Int32)) = S7
    have h := h S7 e8.symm
    have K9 : ∀ b, zs_K S7 b = zs_K S2 b := zs_Kt e8 (zs_KsI _ _ _ _) (fun _ => rfl)
    refine zu_aload_n d_8079_22 rfl (zs_ra _) ?_
    refine zg_8_653 rfl d_8079_23 ((K9 _).trans k4) ?_
    refine zu_iconst d_8079_26 zi_1 ?_
    refine zu_stk d_8079_27 rfl rfl ?_
    refine zu_istore_n d_8079_28 (zs_lt zq_8079 rfl) ?_
    exact (u_X9_indexed_29 hB h).weak ⟨rfl, rfl, rfl, trivial⟩
  · have h := h.2 c5
    exact zu_vret d_8079_11 zr_8079 h
/-! SchemaPascalModel.argument(III)V -/
theorem zm_8080 {σ : Nat → Nat} {n0 : Nat} {bf : ab_B} : ab_code (zx σ n0 bf).1 8080 = prog_17_method_82_code := rfl
theorem zq_8080 {σ : Nat → Nat} {n0 : Nat} {bf : ab_B} : ab_maxL (zx σ n0 bf).1 8080 = 8 := rfl
theorem zr_8080 {σ : Nat → Nat} {n0 : Nat} {bf : ab_B} : ab_ret (zx σ n0 bf).1 8080 = (Option.none : Option Jvm.ClassFile.FieldType) := rfl
theorem d_8080_0 {σ : Nat → Nat} {n0 : Nat} {bf : ab_B} : decode (ab_code (zx σ n0 bf).1 8080) 0 = .ok (.aload_n 0, 1) := zd zm_8080 (by decide +kernel)
theorem d_8080_1 {σ : Nat → Nat} {n0 : Nat} {bf : ab_B} : decode (ab_code (zx σ n0 bf).1 8080) 1 = .ok (.getfield 444, 3) := zd zm_8080 (by decide +kernel)
theorem d_8080_4 {σ : Nat → Nat} {n0 : Nat} {bf : ab_B} : decode (ab_code (zx σ n0 bf).1 8080) 4 = .ok (.ifCond .le 4, 3) := zd zm_8080 (by decide +kernel)
theorem d_8080_7 {σ : Nat → Nat} {n0 : Nat} {bf : ab_B} : decode (ab_code (zx σ n0 bf).1 8080) 7 = .ok (.return_, 1) := zd zm_8080 (by decide +kernel)
theorem d_8080_8 {σ : Nat → Nat} {n0 : Nat} {bf : ab_B} : decode (ab_code (zx σ n0 bf).1 8080) 8 = .ok (.aload_n 0, 1) := zd zm_8080 (by decide +kernel)
theorem d_8080_9 {σ : Nat → Nat} {n0 : Nat} {bf : ab_B} : decode (ab_code (zx σ n0 bf).1 8080) 9 = .ok (.getfield 227, 3) := zd zm_8080 (by decide +kernel)
theorem d_8080_12 {σ : Nat → Nat} {n0 : Nat} {bf : ab_B} : decode (ab_code (zx σ n0 bf).1 8080) 12 = .ok (.iload_n 1, 1) := zd zm_8080 (by decide +kernel)
theorem d_8080_13 {σ : Nat → Nat} {n0 : Nat} {bf : ab_B} : decode (ab_code (zx σ n0 bf).1 8080) 13 = .ok (.iaload, 1) := zd zm_8080 (by decide +kernel)
theorem d_8080_14 {σ : Nat → Nat} {n0 : Nat} {bf : ab_B} : decode (ab_code (zx σ n0 bf).1 8080) 14 = .ok (.iload_n 2, 1) := zd zm_8080 (by decide +kernel)
theorem d_8080_15 {σ : Nat → Nat} {n0 : Nat} {bf : ab_B} : decode (ab_code (zx σ n0 bf).1 8080) 15 = .ok (.iadd, 1) := zd zm_8080 (by decide +kernel)
theorem d_8080_16 {σ : Nat → Nat} {n0 : Nat} {bf : ab_B} : decode (ab_code (zx σ n0 bf).1 8080) 16 = .ok (.istore 4, 2) := zd zm_8080 (by decide +kernel)
theorem d_8080_18 {σ : Nat → Nat} {n0 : Nat} {bf : ab_B} : decode (ab_code (zx σ n0 bf).1 8080) 18 = .ok (.aload_n 0, 1) := zd zm_8080 (by decide +kernel)
theorem d_8080_19 {σ : Nat → Nat} {n0 : Nat} {bf : ab_B} : decode (ab_code (zx σ n0 bf).1 8080) 19 = .ok (.getfield 239, 3) := zd zm_8080 (by decide +kernel)
theorem d_8080_22 {σ : Nat → Nat} {n0 : Nat} {bf : ab_B} : decode (ab_code (zx σ n0 bf).1 8080) 22 = .ok (.iload 4, 2) := zd zm_8080 (by decide +kernel)
theorem d_8080_24 {σ : Nat → Nat} {n0 : Nat} {bf : ab_B} : decode (ab_code (zx σ n0 bf).1 8080) 24 = .ok (.iaload, 1) := zd zm_8080 (by decide +kernel)
theorem d_8080_25 {σ : Nat → Nat} {n0 : Nat} {bf : ab_B} : decode (ab_code (zx σ n0 bf).1 8080) 25 = .ok (.istore 5, 2) := zd zm_8080 (by decide +kernel)
theorem d_8080_27 {σ : Nat → Nat} {n0 : Nat} {bf : ab_B} : decode (ab_code (zx σ n0 bf).1 8080) 27 = .ok (.aload_n 0, 1) := zd zm_8080 (by decide +kernel)
theorem d_8080_28 {σ : Nat → Nat} {n0 : Nat} {bf : ab_B} : decode (ab_code (zx σ n0 bf).1 8080) 28 = .ok (.getfield 242, 3) := zd zm_8080 (by decide +kernel)
theorem d_8080_31 {σ : Nat → Nat} {n0 : Nat} {bf : ab_B} : decode (ab_code (zx σ n0 bf).1 8080) 31 = .ok (.iload 4, 2) := zd zm_8080 (by decide +kernel)
theorem d_8080_33 {σ : Nat → Nat} {n0 : Nat} {bf : ab_B} : decode (ab_code (zx σ n0 bf).1 8080) 33 = .ok (.baload, 1) := zd zm_8080 (by decide +kernel)
theorem d_8080_34 {σ : Nat → Nat} {n0 : Nat} {bf : ab_B} : decode (ab_code (zx σ n0 bf).1 8080) 34 = .ok (.ifCond .ne 103, 3) := zd zm_8080 (by decide +kernel)
theorem d_8080_37 {σ : Nat → Nat} {n0 : Nat} {bf : ab_B} : decode (ab_code (zx σ n0 bf).1 8080) 37 = .ok (.aload_n 0, 1) := zd zm_8080 (by decide +kernel)
theorem d_8080_38 {σ : Nat → Nat} {n0 : Nat} {bf : ab_B} : decode (ab_code (zx σ n0 bf).1 8080) 38 = .ok (.iload 5, 2) := zd zm_8080 (by decide +kernel)
theorem d_8080_40 {σ : Nat → Nat} {n0 : Nat} {bf : ab_B} : decode (ab_code (zx σ n0 bf).1 8080) 40 = .ok (.invokevirtual 752, 3) := zd zm_8080 (by decide +kernel)
theorem d_8080_43 {σ : Nat → Nat} {n0 : Nat} {bf : ab_B} : decode (ab_code (zx σ n0 bf).1 8080) 43 = .ok (.aload_n 0, 1) := zd zm_8080 (by decide +kernel)
theorem d_8080_44 {σ : Nat → Nat} {n0 : Nat} {bf : ab_B} : decode (ab_code (zx σ n0 bf).1 8080) 44 = .ok (.getfield 444, 3) := zd zm_8080 (by decide +kernel)
theorem d_8080_47 {σ : Nat → Nat} {n0 : Nat} {bf : ab_B} : decode (ab_code (zx σ n0 bf).1 8080) 47 = .ok (.ifCond .ne 17, 3) := zd zm_8080 (by decide +kernel)
theorem d_8080_50 {σ : Nat → Nat} {n0 : Nat} {bf : ab_B} : decode (ab_code (zx σ n0 bf).1 8080) 50 = .ok (.aload_n 0, 1) := zd zm_8080 (by decide +kernel)
theorem d_8080_51 {σ : Nat → Nat} {n0 : Nat} {bf : ab_B} : decode (ab_code (zx σ n0 bf).1 8080) 51 = .ok (.iload 5, 2) := zd zm_8080 (by decide +kernel)
theorem d_8080_53 {σ : Nat → Nat} {n0 : Nat} {bf : ab_B} : decode (ab_code (zx σ n0 bf).1 8080) 53 = .ok (.invokevirtual 755, 3) := zd zm_8080 (by decide +kernel)
theorem d_8080_56 {σ : Nat → Nat} {n0 : Nat} {bf : ab_B} : decode (ab_code (zx σ n0 bf).1 8080) 56 = .ok (.ifCond .ne 8, 3) := zd zm_8080 (by decide +kernel)
theorem d_8080_59 {σ : Nat → Nat} {n0 : Nat} {bf : ab_B} : decode (ab_code (zx σ n0 bf).1 8080) 59 = .ok (.aload_n 0, 1) := zd zm_8080 (by decide +kernel)
theorem d_8080_60 {σ : Nat → Nat} {n0 : Nat} {bf : ab_B} : decode (ab_code (zx σ n0 bf).1 8080) 60 = .ok (.iconst 5, 1) := zd zm_8080 (by decide +kernel)
theorem d_8080_61 {σ : Nat → Nat} {n0 : Nat} {bf : ab_B} : decode (ab_code (zx σ n0 bf).1 8080) 61 = .ok (.invokevirtual 541, 3) := zd zm_8080 (by decide +kernel)
theorem d_8080_64 {σ : Nat → Nat} {n0 : Nat} {bf : ab_B} : decode (ab_code (zx σ n0 bf).1 8080) 64 = .ok (.aload_n 0, 1) := zd zm_8080 (by decide +kernel)
theorem d_8080_65 {σ : Nat → Nat} {n0 : Nat} {bf : ab_B} : decode (ab_code (zx σ n0 bf).1 8080) 65 = .ok (.getfield 444, 3) := zd zm_8080 (by decide +kernel)
theorem d_8080_68 {σ : Nat → Nat} {n0 : Nat} {bf : ab_B} : decode (ab_code (zx σ n0 bf).1 8080) 68 = .ok (.ifCond .ne 19, 3) := zd zm_8080 (by decide +kernel)
theorem d_8080_71 {σ : Nat → Nat} {n0 : Nat} {bf : ab_B} : decode (ab_code (zx σ n0 bf).1 8080) 71 = .ok (.aload_n 0, 1) := zd zm_8080 (by decide +kernel)
theorem d_8080_72 {σ : Nat → Nat} {n0 : Nat} {bf : ab_B} : decode (ab_code (zx σ n0 bf).1 8080) 72 = .ok (.getfield 90, 3) := zd zm_8080 (by decide +kernel)
theorem d_8080_75 {σ : Nat → Nat} {n0 : Nat} {bf : ab_B} : decode (ab_code (zx σ n0 bf).1 8080) 75 = .ok (.iload 5, 2) := zd zm_8080 (by decide +kernel)
theorem d_8080_77 {σ : Nat → Nat} {n0 : Nat} {bf : ab_B} : decode (ab_code (zx σ n0 bf).1 8080) 77 = .ok (.baload, 1) := zd zm_8080 (by decide +kernel)
theorem d_8080_78 {σ : Nat → Nat} {n0 : Nat} {bf : ab_B} : decode (ab_code (zx σ n0 bf).1 8080) 78 = .ok (.bipush 7, 2) := zd zm_8080 (by decide +kernel)
theorem d_8080_80 {σ : Nat → Nat} {n0 : Nat} {bf : ab_B} : decode (ab_code (zx σ n0 bf).1 8080) 80 = .ok (.if_icmp .ne 7, 3) := zd zm_8080 (by decide +kernel)
theorem d_8080_83 {σ : Nat → Nat} {n0 : Nat} {bf : ab_B} : decode (ab_code (zx σ n0 bf).1 8080) 83 = .ok (.iconst 1, 1) := zd zm_8080 (by decide +kernel)
theorem d_8080_84 {σ : Nat → Nat} {n0 : Nat} {bf : ab_B} : decode (ab_code (zx σ n0 bf).1 8080) 84 = .ok (.goto 4, 3) := zd zm_8080 (by decide +kernel)
theorem d_8080_87 {σ : Nat → Nat} {n0 : Nat} {bf : ab_B} : decode (ab_code (zx σ n0 bf).1 8080) 87 = .ok (.iconst 0, 1) := zd zm_8080 (by decide +kernel)
theorem d_8080_88 {σ : Nat → Nat} {n0 : Nat} {bf : ab_B} : decode (ab_code (zx σ n0 bf).1 8080) 88 = .ok (.istore 6, 2) := zd zm_8080 (by decide +kernel)
theorem d_8080_90 {σ : Nat → Nat} {n0 : Nat} {bf : ab_B} : decode (ab_code (zx σ n0 bf).1 8080) 90 = .ok (.iload 6, 2) := zd zm_8080 (by decide +kernel)
theorem d_8080_92 {σ : Nat → Nat} {n0 : Nat} {bf : ab_B} : decode (ab_code (zx σ n0 bf).1 8080) 92 = .ok (.ifCond .eq 42, 3) := zd zm_8080 (by decide +kernel)
theorem d_8080_95 {σ : Nat → Nat} {n0 : Nat} {bf : ab_B} : decode (ab_code (zx σ n0 bf).1 8080) 95 = .ok (.aload_n 0, 1) := zd zm_8080 (by decide +kernel)
theorem d_8080_96 {σ : Nat → Nat} {n0 : Nat} {bf : ab_B} : decode (ab_code (zx σ n0 bf).1 8080) 96 = .ok (.aload_n 0, 1) := zd zm_8080 (by decide +kernel)
theorem d_8080_97 {σ : Nat → Nat} {n0 : Nat} {bf : ab_B} : decode (ab_code (zx σ n0 bf).1 8080) 97 = .ok (.getfield 191, 3) := zd zm_8080 (by decide +kernel)
theorem d_8080_100 {σ : Nat → Nat} {n0 : Nat} {bf : ab_B} : decode (ab_code (zx σ n0 bf).1 8080) 100 = .ok (.aload_n 0, 1) := zd zm_8080 (by decide +kernel)
theorem d_8080_101 {σ : Nat → Nat} {n0 : Nat} {bf : ab_B} : decode (ab_code (zx σ n0 bf).1 8080) 101 = .ok (.getfield 653, 3) := zd zm_8080 (by decide +kernel)
theorem d_8080_104 {σ : Nat → Nat} {n0 : Nat} {bf : ab_B} : decode (ab_code (zx σ n0 bf).1 8080) 104 = .ok (.iconst 1, 1) := zd zm_8080 (by decide +kernel)
theorem d_8080_105 {σ : Nat → Nat} {n0 : Nat} {bf : ab_B} : decode (ab_code (zx σ n0 bf).1 8080) 105 = .ok (.isub, 1) := zd zm_8080 (by decide +kernel)
theorem d_8080_106 {σ : Nat → Nat} {n0 : Nat} {bf : ab_B} : decode (ab_code (zx σ n0 bf).1 8080) 106 = .ok (.iaload, 1) := zd zm_8080 (by decide +kernel)
theorem d_8080_107 {σ : Nat → Nat} {n0 : Nat} {bf : ab_B} : decode (ab_code (zx σ n0 bf).1 8080) 107 = .ok (.invokevirtual 676, 3) := zd zm_8080 (by decide +kernel)
theorem d_8080_110 {σ : Nat → Nat} {n0 : Nat} {bf : ab_B} : decode (ab_code (zx σ n0 bf).1 8080) 110 = .ok (.ifCond .ne 24, 3) := zd zm_8080 (by decide +kernel)
theorem d_8080_113 {σ : Nat → Nat} {n0 : Nat} {bf : ab_B} : decode (ab_code (zx σ n0 bf).1 8080) 113 = .ok (.aload_n 0, 1) := zd zm_8080 (by decide +kernel)
theorem d_8080_114 {σ : Nat → Nat} {n0 : Nat} {bf : ab_B} : decode (ab_code (zx σ n0 bf).1 8080) 114 = .ok (.bipush 10, 2) := zd zm_8080 (by decide +kernel)
theorem d_8080_116 {σ : Nat → Nat} {n0 : Nat} {bf : ab_B} : decode (ab_code (zx σ n0 bf).1 8080) 116 = .ok (.iconst 0, 1) := zd zm_8080 (by decide +kernel)
theorem d_8080_117 {σ : Nat → Nat} {n0 : Nat} {bf : ab_B} : decode (ab_code (zx σ n0 bf).1 8080) 117 = .ok (.iconst 0, 1) := zd zm_8080 (by decide +kernel)
theorem d_8080_118 {σ : Nat → Nat} {n0 : Nat} {bf : ab_B} : decode (ab_code (zx σ n0 bf).1 8080) 118 = .ok (.aload_n 0, 1) := zd zm_8080 (by decide +kernel)
theorem d_8080_119 {σ : Nat → Nat} {n0 : Nat} {bf : ab_B} : decode (ab_code (zx σ n0 bf).1 8080) 119 = .ok (.getfield 206, 3) := zd zm_8080 (by decide +kernel)
theorem d_8080_122 {σ : Nat → Nat} {n0 : Nat} {bf : ab_B} : decode (ab_code (zx σ n0 bf).1 8080) 122 = .ok (.aload_n 0, 1) := zd zm_8080 (by decide +kernel)
theorem d_8080_123 {σ : Nat → Nat} {n0 : Nat} {bf : ab_B} : decode (ab_code (zx σ n0 bf).1 8080) 123 = .ok (.getfield 653, 3) := zd zm_8080 (by decide +kernel)
theorem d_8080_126 {σ : Nat → Nat} {n0 : Nat} {bf : ab_B} : decode (ab_code (zx σ n0 bf).1 8080) 126 = .ok (.iconst 1, 1) := zd zm_8080 (by decide +kernel)
theorem d_8080_127 {σ : Nat → Nat} {n0 : Nat} {bf : ab_B} : decode (ab_code (zx σ n0 bf).1 8080) 127 = .ok (.isub, 1) := zd zm_8080 (by decide +kernel)
theorem d_8080_128 {σ : Nat → Nat} {n0 : Nat} {bf : ab_B} : decode (ab_code (zx σ n0 bf).1 8080) 128 = .ok (.iaload, 1) := zd zm_8080 (by decide +kernel)
theorem d_8080_129 {σ : Nat → Nat} {n0 : Nat} {bf : ab_B} : decode (ab_code (zx σ n0 bf).1 8080) 129 = .ok (.invokevirtual 656, 3) := zd zm_8080 (by decide +kernel)
theorem d_8080_132 {σ : Nat → Nat} {n0 : Nat} {bf : ab_B} : decode (ab_code (zx σ n0 bf).1 8080) 132 = .ok (.istore 7, 2) := zd zm_8080 (by decide +kernel)
theorem d_8080_134 {σ : Nat → Nat} {n0 : Nat} {bf : ab_B} : decode (ab_code (zx σ n0 bf).1 8080) 134 = .ok (.goto 50, 3) := zd zm_8080 (by decide +kernel)
theorem d_8080_137 {σ : Nat → Nat} {n0 : Nat} {bf : ab_B} : decode (ab_code (zx σ n0 bf).1 8080) 137 = .ok (.aload_n 0, 1) := zd zm_8080 (by decide +kernel)
theorem d_8080_138 {σ : Nat → Nat} {n0 : Nat} {bf : ab_B} : decode (ab_code (zx σ n0 bf).1 8080) 138 = .ok (.iload 5, 2) := zd zm_8080 (by decide +kernel)
theorem d_8080_140 {σ : Nat → Nat} {n0 : Nat} {bf : ab_B} : decode (ab_code (zx σ n0 bf).1 8080) 140 = .ok (.invokevirtual 758, 3) := zd zm_8080 (by decide +kernel)
theorem d_8080_143 {σ : Nat → Nat} {n0 : Nat} {bf : ab_B} : decode (ab_code (zx σ n0 bf).1 8080) 143 = .ok (.ifCond .ne 8, 3) := zd zm_8080 (by decide +kernel)
theorem d_8080_146 {σ : Nat → Nat} {n0 : Nat} {bf : ab_B} : decode (ab_code (zx σ n0 bf).1 8080) 146 = .ok (.aload_n 0, 1) := zd zm_8080 (by decide +kernel)
theorem d_8080_147 {σ : Nat → Nat} {n0 : Nat} {bf : ab_B} : decode (ab_code (zx σ n0 bf).1 8080) 147 = .ok (.iconst 5, 1) := zd zm_8080 (by decide +kernel)
theorem d_8080_148 {σ : Nat → Nat} {n0 : Nat} {bf : ab_B} : decode (ab_code (zx σ n0 bf).1 8080) 148 = .ok (.invokevirtual 541, 3) := zd zm_8080 (by decide +kernel)
theorem d_8080_151 {σ : Nat → Nat} {n0 : Nat} {bf : ab_B} : decode (ab_code (zx σ n0 bf).1 8080) 151 = .ok (.aload_n 0, 1) := zd zm_8080 (by decide +kernel)
theorem d_8080_152 {σ : Nat → Nat} {n0 : Nat} {bf : ab_B} : decode (ab_code (zx σ n0 bf).1 8080) 152 = .ok (.getfield 242, 3) := zd zm_8080 (by decide +kernel)
theorem d_8080_155 {σ : Nat → Nat} {n0 : Nat} {bf : ab_B} : decode (ab_code (zx σ n0 bf).1 8080) 155 = .ok (.iload 4, 2) := zd zm_8080 (by decide +kernel)
theorem d_8080_157 {σ : Nat → Nat} {n0 : Nat} {bf : ab_B} : decode (ab_code (zx σ n0 bf).1 8080) 157 = .ok (.baload, 1) := zd zm_8080 (by decide +kernel)
theorem d_8080_158 {σ : Nat → Nat} {n0 : Nat} {bf : ab_B} : decode (ab_code (zx σ n0 bf).1 8080) 158 = .ok (.iconst 1, 1) := zd zm_8080 (by decide +kernel)
theorem d_8080_159 {σ : Nat → Nat} {n0 : Nat} {bf : ab_B} : decode (ab_code (zx σ n0 bf).1 8080) 159 = .ok (.if_icmp .ne 25, 3) := zd zm_8080 (by decide +kernel)
theorem d_8080_162 {σ : Nat → Nat} {n0 : Nat} {bf : ab_B} : decode (ab_code (zx σ n0 bf).1 8080) 162 = .ok (.aload_n 0, 1) := zd zm_8080 (by decide +kernel)
theorem d_8080_163 {σ : Nat → Nat} {n0 : Nat} {bf : ab_B} : decode (ab_code (zx σ n0 bf).1 8080) 163 = .ok (.getfield 200, 3) := zd zm_8080 (by decide +kernel)
theorem d_8080_166 {σ : Nat → Nat} {n0 : Nat} {bf : ab_B} : decode (ab_code (zx σ n0 bf).1 8080) 166 = .ok (.aload_n 0, 1) := zd zm_8080 (by decide +kernel)
theorem d_8080_167 {σ : Nat → Nat} {n0 : Nat} {bf : ab_B} : decode (ab_code (zx σ n0 bf).1 8080) 167 = .ok (.getfield 653, 3) := zd zm_8080 (by decide +kernel)
theorem d_8080_170 {σ : Nat → Nat} {n0 : Nat} {bf : ab_B} : decode (ab_code (zx σ n0 bf).1 8080) 170 = .ok (.iconst 1, 1) := zd zm_8080 (by decide +kernel)
theorem d_8080_171 {σ : Nat → Nat} {n0 : Nat} {bf : ab_B} : decode (ab_code (zx σ n0 bf).1 8080) 171 = .ok (.isub, 1) := zd zm_8080 (by decide +kernel)
theorem d_8080_172 {σ : Nat → Nat} {n0 : Nat} {bf : ab_B} : decode (ab_code (zx σ n0 bf).1 8080) 172 = .ok (.iaload, 1) := zd zm_8080 (by decide +kernel)
theorem d_8080_173 {σ : Nat → Nat} {n0 : Nat} {bf : ab_B} : decode (ab_code (zx σ n0 bf).1 8080) 173 = .ok (.iconst 3, 1) := zd zm_8080 (by decide +kernel)
theorem d_8080_174 {σ : Nat → Nat} {n0 : Nat} {bf : ab_B} : decode (ab_code (zx σ n0 bf).1 8080) 174 = .ok (.iand, 1) := zd zm_8080 (by decide +kernel)
theorem d_8080_175 {σ : Nat → Nat} {n0 : Nat} {bf : ab_B} : decode (ab_code (zx σ n0 bf).1 8080) 175 = .ok (.ifCond .eq 9, 3) := zd zm_8080 (by decide +kernel)
theorem d_8080_178 {σ : Nat → Nat} {n0 : Nat} {bf : ab_B} : decode (ab_code (zx σ n0 bf).1 8080) 178 = .ok (.aload_n 0, 1) := zd zm_8080 (by decide +kernel)
theorem d_8080_179 {σ : Nat → Nat} {n0 : Nat} {bf : ab_B} : decode (ab_code (zx σ n0 bf).1 8080) 179 = .ok (.bipush 6, 2) := zd zm_8080 (by decide +kernel)
theorem d_8080_181 {σ : Nat → Nat} {n0 : Nat} {bf : ab_B} : decode (ab_code (zx σ n0 bf).1 8080) 181 = .ok (.invokevirtual 541, 3) := zd zm_8080 (by decide +kernel)
theorem d_8080_184 {σ : Nat → Nat} {n0 : Nat} {bf : ab_B} : decode (ab_code (zx σ n0 bf).1 8080) 184 = .ok (.aload_n 0, 1) := zd zm_8080 (by decide +kernel)
theorem d_8080_185 {σ : Nat → Nat} {n0 : Nat} {bf : ab_B} : decode (ab_code (zx σ n0 bf).1 8080) 185 = .ok (.dup, 1) := zd zm_8080 (by decide +kernel)
theorem d_8080_186 {σ : Nat → Nat} {n0 : Nat} {bf : ab_B} : decode (ab_code (zx σ n0 bf).1 8080) 186 = .ok (.getfield 653, 3) := zd zm_8080 (by decide +kernel)
theorem d_8080_189 {σ : Nat → Nat} {n0 : Nat} {bf : ab_B} : decode (ab_code (zx σ n0 bf).1 8080) 189 = .ok (.iconst 1, 1) := zd zm_8080 (by decide +kernel)
theorem d_8080_190 {σ : Nat → Nat} {n0 : Nat} {bf : ab_B} : decode (ab_code (zx σ n0 bf).1 8080) 190 = .ok (.isub, 1) := zd zm_8080 (by decide +kernel)
theorem d_8080_191 {σ : Nat → Nat} {n0 : Nat} {bf : ab_B} : decode (ab_code (zx σ n0 bf).1 8080) 191 = .ok (.putfield 653, 3) := zd zm_8080 (by decide +kernel)
theorem d_8080_194 {σ : Nat → Nat} {n0 : Nat} {bf : ab_B} : decode (ab_code (zx σ n0 bf).1 8080) 194 = .ok (.iload_n 2, 1) := zd zm_8080 (by decide +kernel)
theorem d_8080_195 {σ : Nat → Nat} {n0 : Nat} {bf : ab_B} : decode (ab_code (zx σ n0 bf).1 8080) 195 = .ok (.iconst 1, 1) := zd zm_8080 (by decide +kernel)
theorem d_8080_196 {σ : Nat → Nat} {n0 : Nat} {bf : ab_B} : decode (ab_code (zx σ n0 bf).1 8080) 196 = .ok (.iadd, 1) := zd zm_8080 (by decide +kernel)
theorem d_8080_197 {σ : Nat → Nat} {n0 : Nat} {bf : ab_B} : decode (ab_code (zx σ n0 bf).1 8080) 197 = .ok (.aload_n 0, 1) := zd zm_8080 (by decide +kernel)
theorem d_8080_198 {σ : Nat → Nat} {n0 : Nat} {bf : ab_B} : decode (ab_code (zx σ n0 bf).1 8080) 198 = .ok (.getfield 224, 3) := zd zm_8080 (by decide +kernel)
theorem d_8080_201 {σ : Nat → Nat} {n0 : Nat} {bf : ab_B} : decode (ab_code (zx σ n0 bf).1 8080) 201 = .ok (.iload_n 1, 1) := zd zm_8080 (by decide +kernel)
theorem d_8080_202 {σ : Nat → Nat} {n0 : Nat} {bf : ab_B} : decode (ab_code (zx σ n0 bf).1 8080) 202 = .ok (.iaload, 1) := zd zm_8080 (by decide +kernel)
theorem d_8080_203 {σ : Nat → Nat} {n0 : Nat} {bf : ab_B} : decode (ab_code (zx σ n0 bf).1 8080) 203 = .ok (.if_icmp .ge 59, 3) := zd zm_8080 (by decide +kernel)
theorem d_8080_206 {σ : Nat → Nat} {n0 : Nat} {bf : ab_B} : decode (ab_code (zx σ n0 bf).1 8080) 206 = .ok (.aload_n 0, 1) := zd zm_8080 (by decide +kernel)
theorem d_8080_207 {σ : Nat → Nat} {n0 : Nat} {bf : ab_B} : decode (ab_code (zx σ n0 bf).1 8080) 207 = .ok (.bipush 12, 2) := zd zm_8080 (by decide +kernel)
theorem d_8080_209 {σ : Nat → Nat} {n0 : Nat} {bf : ab_B} : decode (ab_code (zx σ n0 bf).1 8080) 209 = .ok (.invokevirtual 535, 3) := zd zm_8080 (by decide +kernel)
theorem d_8080_212 {σ : Nat → Nat} {n0 : Nat} {bf : ab_B} : decode (ab_code (zx σ n0 bf).1 8080) 212 = .ok (.ifCond .eq 29, 3) := zd zm_8080 (by decide +kernel)
theorem d_8080_215 {σ : Nat → Nat} {n0 : Nat} {bf : ab_B} : decode (ab_code (zx σ n0 bf).1 8080) 215 = .ok (.aload_n 0, 1) := zd zm_8080 (by decide +kernel)
theorem d_8080_216 {σ : Nat → Nat} {n0 : Nat} {bf : ab_B} : decode (ab_code (zx σ n0 bf).1 8080) 216 = .ok (.bipush 20, 2) := zd zm_8080 (by decide +kernel)
theorem d_8080_218 {σ : Nat → Nat} {n0 : Nat} {bf : ab_B} : decode (ab_code (zx σ n0 bf).1 8080) 218 = .ok (.iload_n 1, 1) := zd zm_8080 (by decide +kernel)
theorem d_8080_219 {σ : Nat → Nat} {n0 : Nat} {bf : ab_B} : decode (ab_code (zx σ n0 bf).1 8080) 219 = .ok (.iload_n 2, 1) := zd zm_8080 (by decide +kernel)
theorem d_8080_220 {σ : Nat → Nat} {n0 : Nat} {bf : ab_B} : decode (ab_code (zx σ n0 bf).1 8080) 220 = .ok (.iconst 1, 1) := zd zm_8080 (by decide +kernel)
theorem d_8080_221 {σ : Nat → Nat} {n0 : Nat} {bf : ab_B} : decode (ab_code (zx σ n0 bf).1 8080) 221 = .ok (.iadd, 1) := zd zm_8080 (by decide +kernel)
theorem d_8080_222 {σ : Nat → Nat} {n0 : Nat} {bf : ab_B} : decode (ab_code (zx σ n0 bf).1 8080) 222 = .ok (.iload_n 3, 1) := zd zm_8080 (by decide +kernel)
theorem d_8080_223 {σ : Nat → Nat} {n0 : Nat} {bf : ab_B} : decode (ab_code (zx σ n0 bf).1 8080) 223 = .ok (.invokevirtual 649, 3) := zd zm_8080 (by decide +kernel)
theorem d_8080_226 {σ : Nat → Nat} {n0 : Nat} {bf : ab_B} : decode (ab_code (zx σ n0 bf).1 8080) 226 = .ok (.aload_n 0, 1) := zd zm_8080 (by decide +kernel)
theorem d_8080_227 {σ : Nat → Nat} {n0 : Nat} {bf : ab_B} : decode (ab_code (zx σ n0 bf).1 8080) 227 = .ok (.iconst 2, 1) := zd zm_8080 (by decide +kernel)
theorem d_8080_228 {σ : Nat → Nat} {n0 : Nat} {bf : ab_B} : decode (ab_code (zx σ n0 bf).1 8080) 228 = .ok (.iconst 0, 1) := zd zm_8080 (by decide +kernel)
theorem d_8080_229 {σ : Nat → Nat} {n0 : Nat} {bf : ab_B} : decode (ab_code (zx σ n0 bf).1 8080) 229 = .ok (.iconst 0, 1) := zd zm_8080 (by decide +kernel)
theorem d_8080_230 {σ : Nat → Nat} {n0 : Nat} {bf : ab_B} : decode (ab_code (zx σ n0 bf).1 8080) 230 = .ok (.iconst 0, 1) := zd zm_8080 (by decide +kernel)
theorem d_8080_231 {σ : Nat → Nat} {n0 : Nat} {bf : ab_B} : decode (ab_code (zx σ n0 bf).1 8080) 231 = .ok (.invokevirtual 649, 3) := zd zm_8080 (by decide +kernel)
theorem d_8080_234 {σ : Nat → Nat} {n0 : Nat} {bf : ab_B} : decode (ab_code (zx σ n0 bf).1 8080) 234 = .ok (.aload_n 0, 1) := zd zm_8080 (by decide +kernel)
theorem d_8080_235 {σ : Nat → Nat} {n0 : Nat} {bf : ab_B} : decode (ab_code (zx σ n0 bf).1 8080) 235 = .ok (.invokevirtual 538, 3) := zd zm_8080 (by decide +kernel)
theorem d_8080_238 {σ : Nat → Nat} {n0 : Nat} {bf : ab_B} : decode (ab_code (zx σ n0 bf).1 8080) 238 = .ok (.goto 38, 3) := zd zm_8080 (by decide +kernel)
theorem d_8080_241 {σ : Nat → Nat} {n0 : Nat} {bf : ab_B} : decode (ab_code (zx σ n0 bf).1 8080) 241 = .ok (.aload_n 0, 1) := zd zm_8080 (by decide +kernel)
theorem d_8080_242 {σ : Nat → Nat} {n0 : Nat} {bf : ab_B} : decode (ab_code (zx σ n0 bf).1 8080) 242 = .ok (.aload_n 0, 1) := zd zm_8080 (by decide +kernel)
theorem d_8080_243 {σ : Nat → Nat} {n0 : Nat} {bf : ab_B} : decode (ab_code (zx σ n0 bf).1 8080) 243 = .ok (.bipush 9, 2) := zd zm_8080 (by decide +kernel)
theorem d_8080_245 {σ : Nat → Nat} {n0 : Nat} {bf : ab_B} : decode (ab_code (zx σ n0 bf).1 8080) 245 = .ok (.invokevirtual 535, 3) := zd zm_8080 (by decide +kernel)
theorem d_8080_248 {σ : Nat → Nat} {n0 : Nat} {bf : ab_B} : decode (ab_code (zx σ n0 bf).1 8080) 248 = .ok (.ifCond .eq 7, 3) := zd zm_8080 (by decide +kernel)
theorem d_8080_251 {σ : Nat → Nat} {n0 : Nat} {bf : ab_B} : decode (ab_code (zx σ n0 bf).1 8080) 251 = .ok (.iconst 5, 1) := zd zm_8080 (by decide +kernel)
theorem d_8080_252 {σ : Nat → Nat} {n0 : Nat} {bf : ab_B} : decode (ab_code (zx σ n0 bf).1 8080) 252 = .ok (.goto 4, 3) := zd zm_8080 (by decide +kernel)
theorem d_8080_255 {σ : Nat → Nat} {n0 : Nat} {bf : ab_B} : decode (ab_code (zx σ n0 bf).1 8080) 255 = .ok (.iconst 2, 1) := zd zm_8080 (by decide +kernel)
theorem d_8080_256 {σ : Nat → Nat} {n0 : Nat} {bf : ab_B} : decode (ab_code (zx σ n0 bf).1 8080) 256 = .ok (.invokevirtual 541, 3) := zd zm_8080 (by decide +kernel)
theorem d_8080_259 {σ : Nat → Nat} {n0 : Nat} {bf : ab_B} : decode (ab_code (zx σ n0 bf).1 8080) 259 = .ok (.goto 17, 3) := zd zm_8080 (by decide +kernel)
theorem d_8080_262 {σ : Nat → Nat} {n0 : Nat} {bf : ab_B} : decode (ab_code (zx σ n0 bf).1 8080) 262 = .ok (.aload_n 0, 1) := zd zm_8080 (by decide +kernel)
theorem d_8080_263 {σ : Nat → Nat} {n0 : Nat} {bf : ab_B} : decode (ab_code (zx σ n0 bf).1 8080) 263 = .ok (.bipush 12, 2) := zd zm_8080 (by decide +kernel)
theorem d_8080_265 {σ : Nat → Nat} {n0 : Nat} {bf : ab_B} : decode (ab_code (zx σ n0 bf).1 8080) 265 = .ok (.invokevirtual 535, 3) := zd zm_8080 (by decide +kernel)
theorem d_8080_268 {σ : Nat → Nat} {n0 : Nat} {bf : ab_B} : decode (ab_code (zx σ n0 bf).1 8080) 268 = .ok (.ifCond .eq 8, 3) := zd zm_8080 (by decide +kernel)
theorem d_8080_271 {σ : Nat → Nat} {n0 : Nat} {bf : ab_B} : decode (ab_code (zx σ n0 bf).1 8080) 271 = .ok (.aload_n 0, 1) := zd zm_8080 (by decide +kernel)
theorem d_8080_272 {σ : Nat → Nat} {n0 : Nat} {bf : ab_B} : decode (ab_code (zx σ n0 bf).1 8080) 272 = .ok (.iconst 5, 1) := zd zm_8080 (by decide +kernel)
theorem d_8080_273 {σ : Nat → Nat} {n0 : Nat} {bf : ab_B} : decode (ab_code (zx σ n0 bf).1 8080) 273 = .ok (.invokevirtual 541, 3) := zd zm_8080 (by decide +kernel)
theorem d_8080_276 {σ : Nat → Nat} {n0 : Nat} {bf : ab_B} : decode (ab_code (zx σ n0 bf).1 8080) 276 = .ok (.return_, 1) := zd zm_8080 (by decide +kernel)
def w_X9_argument_276 (X : zs_X) (d : Nat)  (S : zs_T) (Q : zs_Q) : Prop :=
  (Q (.returned none) S)
theorem u_X9_argument_276 {σ : Nat → Nat} {n0 : Nat} {bf : ab_B} {d : Nat}  {S : zs_T} {Q : zs_Q} (hB : zt_B bf) (h : w_X9_argument_276 (zx σ n0 bf) d  S Q) : zs_U (zx σ n0 bf) d 8080 276 [] [] S Q := by
  unfold w_X9_argument_276 at h
  exact zu_vret d_8080_276 zr_8080 h
def w_X9_argument_271 (X : zs_X) (d : Nat) (p0 : Nat) (S : zs_T) (Q : zs_Q) : Prop :=
  (zs_K S p0 = some (.inl 8) ∧ zs_C X d 8027 [.ref p0, .int (5 : Int32)] S (zs_kV (fun S2 => w_X9_argument_276 X d  S2 Q) Q))
theorem u_X9_argument_271 {σ : Nat → Nat} {n0 : Nat} {bf : ab_B} {d : Nat} {p0 : Nat} {S : zs_T} {Q : zs_Q} (hB : zt_B bf) (h : w_X9_argument_271 (zx σ n0 bf) d p0 S Q) : zs_U (zx σ n0 bf) d 8080 271 [(0, .ref p0)] [] S Q := by
  unfold w_X9_argument_271 at h
  refine zu_aload_n d_8080_271 rfl (zs_ra _) ?_
  refine zu_iconst d_8080_272 zi_5 ?_
  obtain ⟨k1, h⟩ := h
  refine zc_8_541 (x0 := (5 : Int32)) hB rfl k1 d_8080_273 (Nat.le_of_ble_eq_true rfl) h (fun S2 h => ?_)
  exact (u_X9_argument_276 hB h).weak trivial
def w_X9_argument_256 (X : zs_X) (d : Nat) (q0 : Option Nat) (q1 : Int32) (S : zs_T) (Q : zs_Q) : Prop :=
  (∃ b1, q0 = some b1 ∧ zs_K S b1 = some (.inl 8) ∧ zs_C X d 8027 [.ref b1, .int q1] S (zs_kV (fun S4 => (w_X9_argument_276 X d  S4 Q)) Q))
theorem u_X9_argument_256 {σ : Nat → Nat} {n0 : Nat} {bf : ab_B} {d : Nat} {q0 : Option Nat} {q1 : Int32} {S : zs_T} {Q : zs_Q} (hB : zt_B bf) (h : w_X9_argument_256 (zx σ n0 bf) d q0 q1 S Q) : zs_U (zx σ n0 bf) d 8080 256 [] [.int q1, va_rf q0] S Q := by
  unfold w_X9_argument_256 at h
  obtain ⟨b1, e2, h⟩ := h
  refine zs_stk1 (zs_rfe e2) ?_
  obtain ⟨k3, h⟩ := h
  refine zc_8_541 (x0 := q1) hB rfl k3 d_8080_256 (Nat.le_of_ble_eq_true rfl) h (fun S4 h => ?_)
  refine zu_goto (t := 276) d_8080_259 rfl ?_
  exact (u_X9_argument_276 hB h).weak trivial
def w_X9_argument_241 (X : zs_X) (d : Nat) (p0 : Nat) (S : zs_T) (Q : zs_Q) : Prop :=
  (zs_K S p0 = some (.inl 8) ∧ zs_C X d 8029 [.ref p0, .int (9 : Int32)] S (zs_kI (fun v3 S2 => (((v3 = 0 → (w_X9_argument_256 X d (some p0) (2 : Int32) S2 Q)) ∧ (¬ (v3 = 0) → (w_X9_argument_256 X d (some p0) (5 : Int32) S2 Q))))) Q))
theorem u_X9_argument_241 {σ : Nat → Nat} {n0 : Nat} {bf : ab_B} {d : Nat} {p0 : Nat} {S : zs_T} {Q : zs_Q} (hB : zt_B bf) (h : w_X9_argument_241 (zx σ n0 bf) d p0 S Q) : zs_U (zx σ n0 bf) d 8080 241 [(0, .ref p0)] [] S Q := by
  unfold w_X9_argument_241 at h
  refine zu_aload_n d_8080_241 rfl (zs_ra _) ?_
  refine zu_aload_n d_8080_242 rfl (zs_ra _) ?_
  refine zu_bipush d_8080_243 zj_9 ?_
  obtain ⟨k1, h⟩ := h
  refine zc_8_535 (x0 := (9 : Int32)) hB rfl k1 d_8080_245 (Nat.le_of_ble_eq_true rfl) h (fun v3 S2 h => ?_)
  refine zu_ifeq (t := 255) d_8080_248 rfl (fun c4 => ?_) (fun c4 => ?_)
  · have h := h.1 c4
    refine zu_iconst d_8080_255 zi_2 ?_
    exact (u_X9_argument_256 hB h).weak trivial
  · have h := h.2 c4
    refine zu_iconst d_8080_251 zi_5 ?_
    refine zu_goto (t := 256) d_8080_252 rfl ?_
    exact (u_X9_argument_256 hB h).weak trivial
def w_X9_argument_238 (X : zs_X) (d : Nat)  (S : zs_T) (Q : zs_Q) : Prop :=
  (w_X9_argument_276 X d  S Q)
theorem u_X9_argument_238 {σ : Nat → Nat} {n0 : Nat} {bf : ab_B} {d : Nat}  {S : zs_T} {Q : zs_Q} (hB : zt_B bf) (h : w_X9_argument_238 (zx σ n0 bf) d  S Q) : zs_U (zx σ n0 bf) d 8080 238 [] [] S Q := by
  unfold w_X9_argument_238 at h
  refine zu_goto (t := 276) d_8080_238 rfl ?_
  exact (u_X9_argument_276 hB h).weak trivial
def w_X9_argument_215 (X : zs_X) (d : Nat) (p0 : Nat) (p1 : Int32) (p2 : Int32) (p3 : Int32) (S : zs_T) (Q : zs_Q) : Prop :=
  (zs_K S p0 = some (.inl 8) ∧ zs_C X d 8030 [.ref p0, .int (20 : Int32), .int p1, .int (p2 + (1 : Int32)), .int p3] S (zs_kV (fun S2 => (zs_K S2 p0 = some (.inl 8) ∧ zs_C X d 8030 [.ref p0, .int (2 : Int32), .int (0 : Int32), .int (0 : Int32), .int (0 : Int32)] S2 (zs_kV (fun S5 => (zs_K S5 p0 = some (.inl 8) ∧ zs_C X d 8014 [.ref p0] S5 (zs_kV (fun S8 => w_X9_argument_238 X d  S8 Q) Q))) Q))) Q))
theorem u_X9_argument_215 {σ : Nat → Nat} {n0 : Nat} {bf : ab_B} {d : Nat} {p0 : Nat} {p1 : Int32} {p2 : Int32} {p3 : Int32} {S : zs_T} {Q : zs_Q} (hB : zt_B bf) (h : w_X9_argument_215 (zx σ n0 bf) d p0 p1 p2 p3 S Q) : zs_U (zx σ n0 bf) d 8080 215 [(0, .ref p0), (1, .int p1), (2, .int p2), (3, .int p3)] [] S Q := by
  unfold w_X9_argument_215 at h
  refine zu_aload_n d_8080_215 rfl (zs_ra _) ?_
  refine zu_bipush d_8080_216 zj_20 ?_
  refine zu_iload_n d_8080_218 rfl ?_
  refine zu_iload_n d_8080_219 rfl ?_
  refine zu_iconst d_8080_220 zi_1 ?_
  refine zu_stk d_8080_221 rfl rfl ?_
  refine zu_iload_n d_8080_222 rfl ?_
  obtain ⟨k1, h⟩ := h
  refine zc_8_649 (x0 := (20 : Int32)) (x1 := p1) (x2 := (p2 + (1 : Int32))) (x3 := p3) hB rfl k1 d_8080_223 (Nat.le_of_ble_eq_true rfl) h (fun S2 h => ?_)
  refine zu_aload_n d_8080_226 rfl (zs_ra _) ?_
  refine zu_iconst d_8080_227 zi_2 ?_
  refine zu_iconst d_8080_228 zi_0 ?_
  refine zu_iconst d_8080_229 zi_0 ?_
  refine zu_iconst d_8080_230 zi_0 ?_
  obtain ⟨k4, h⟩ := h
  refine zc_8_649 (x0 := (2 : Int32)) (x1 := (0 : Int32)) (x2 := (0 : Int32)) (x3 := (0 : Int32)) hB rfl k4 d_8080_231 (Nat.le_of_ble_eq_true rfl) h (fun S5 h => ?_)
  refine zu_aload_n d_8080_234 rfl (zs_ra _) ?_
  obtain ⟨k7, h⟩ := h
  refine zc_8_538  hB rfl k7 d_8080_235 (Nat.le_of_ble_eq_true rfl) h (fun S8 h => ?_)
  exact (u_X9_argument_238 hB h).weak trivial
def w_X9_argument_184 (X : zs_X) (d : Nat) (p0 : Nat) (p1 : Int32) (p2 : Int32) (p3 : Int32) (S : zs_T) (Q : zs_Q) : Prop :=
  (zs_K S p0 = some (.inl 8) ∧ ab_n0 X.1 ≤ p0 ∧ ∀ S3, S3 = zs_sI S 8097 p0 ((zs_I S 8097 p0) - (1 : Int32)) → ∃ b6, (zs_R S3 8103 p0) = some b6 ∧ zs_A S b6 0 p1 ∧ (((zs_i S3 b6 p1.toNatClampNeg) ≤ (p2 + (1 : Int32)) → (zs_C X d 8029 [.ref p0, .int (12 : Int32)] S3 (zs_kI (fun v11 S10 => (((v11 = 0 → w_X9_argument_276 X d  S10 Q) ∧ (¬ (v11 = 0) → w_X9_argument_271 X d p0 S10 Q)))) Q))) ∧ (¬ ((zs_i S3 b6 p1.toNatClampNeg) ≤ (p2 + (1 : Int32))) → (zs_C X d 8029 [.ref p0, .int (12 : Int32)] S3 (zs_kI (fun v14 S13 => (((v14 = 0 → w_X9_argument_241 X d p0 S13 Q) ∧ (¬ (v14 = 0) → w_X9_argument_215 X d p0 p1 p2 p3 S13 Q)))) Q)))))
theorem u_X9_argument_184 {σ : Nat → Nat} {n0 : Nat} {bf : ab_B} {d : Nat} {p0 : Nat} {p1 : Int32} {p2 : Int32} {p3 : Int32} {S : zs_T} {Q : zs_Q} (hB : zt_B bf) (h : w_X9_argument_184 (zx σ n0 bf) d p0 p1 p2 p3 S Q) : zs_U (zx σ n0 bf) d 8080 184 [(0, .ref p0), (1, .int p1), (2, .int p2), (3, .int p3)] [] S Q := by
  unfold w_X9_argument_184 at h
  refine zu_aload_n d_8080_184 rfl (zs_ra _) ?_
  refine zu_dup d_8080_185 rfl ?_
  obtain ⟨k1, h⟩ := h
  refine zg_8_653 rfl d_8080_186 k1 ?_
  refine zu_iconst d_8080_189 zi_1 ?_
  refine zu_stk d_8080_190 rfl rfl ?_
  obtain ⟨k2, h⟩ := h
  refine zp_8_653 (v := ((zs_I S 8097 p0) - (1 : Int32))) rfl d_8080_191 k1 k2 ?_
  generalize e4 : zs_sI S 8097 p0 ((zs_I S 8097 p0) - (1 : Int32)) = S3
  have h := h S3 e4.symm
  have K5 : ∀ b, zs_K S3 b = zs_K S b := zs_Kt e4 (zs_KsI _ _ _ _) (fun _ => rfl)
  refine zu_iload_n d_8080_194 rfl ?_
  refine zu_iconst d_8080_195 zi_1 ?_
  refine zu_stk d_8080_196 rfl rfl ?_
  refine zu_aload_n d_8080_197 rfl (zs_ra _) ?_
  refine zg_8_224 rfl d_8080_198 ((K5 _).trans k1) ?_
  refine zu_iload_n d_8080_201 rfl ?_
  obtain ⟨b6, e7, h⟩ := h
  refine zs_stk1 (zs_rfe e7) ?_
  obtain ⟨k8, h⟩ := h
  refine zu_iald (k := 0) d_8080_202 rfl rfl (zs_Ak K5 k8) ?_
  refine zu_cmpge (t := 262) d_8080_203 rfl (fun c9 => ?_) (fun c9 => ?_)
  · have h := h.1 c9
    refine zu_aload_n d_8080_262 rfl (zs_ra _) ?_
    refine zu_bipush d_8080_263 zj_12 ?_
    refine zc_8_535 (x0 := (12 : Int32)) hB rfl ((K5 _).trans k1) d_8080_265 (Nat.le_of_ble_eq_true rfl) h (fun v11 S10 h => ?_)
    refine zu_ifeq (t := 276) d_8080_268 rfl (fun c12 => ?_) (fun c12 => ?_)
    · have h := h.1 c12
      exact (u_X9_argument_276 hB h).weak trivial
    · have h := h.2 c12
      exact (u_X9_argument_271 hB h).weak ⟨rfl, trivial⟩
  · have h := h.2 c9
    refine zu_aload_n d_8080_206 rfl (zs_ra _) ?_
    refine zu_bipush d_8080_207 zj_12 ?_
    refine zc_8_535 (x0 := (12 : Int32)) hB rfl ((K5 _).trans k1) d_8080_209 (Nat.le_of_ble_eq_true rfl) h (fun v14 S13 h => ?_)
    refine zu_ifeq (t := 241) d_8080_212 rfl (fun c15 => ?_) (fun c15 => ?_)
    · have h := h.1 c15
      exact (u_X9_argument_241 hB h).weak ⟨rfl, trivial⟩
    · have h := h.2 c15
      exact (u_X9_argument_215 hB h).weak ⟨rfl, rfl, rfl, rfl, trivial⟩
def w_X9_argument_134 (X : zs_X) (d : Nat) (p0 : Nat) (p1 : Int32) (p2 : Int32) (p3 : Int32) (S : zs_T) (Q : zs_Q) : Prop :=
  (w_X9_argument_184 X d p0 p1 p2 p3 S Q)
theorem u_X9_argument_134 {σ : Nat → Nat} {n0 : Nat} {bf : ab_B} {d : Nat} {p0 : Nat} {p1 : Int32} {p2 : Int32} {p3 : Int32} {S : zs_T} {Q : zs_Q} (hB : zt_B bf) (h : w_X9_argument_134 (zx σ n0 bf) d p0 p1 p2 p3 S Q) : zs_U (zx σ n0 bf) d 8080 134 [(0, .ref p0), (1, .int p1), (2, .int p2), (3, .int p3)] [] S Q := by
  unfold w_X9_argument_134 at h
  refine zu_goto (t := 184) d_8080_134 rfl ?_
  exact (u_X9_argument_184 hB h).weak ⟨rfl, rfl, rfl, rfl, trivial⟩
def w_X9_argument_88 (X : zs_X) (d : Nat) (p0 : Nat) (p1 : Int32) (p2 : Int32) (p3 : Int32) (q0 : Int32) (S : zs_T) (Q : zs_Q) : Prop :=
  (((q0 = 0 → w_X9_argument_134 X d p0 p1 p2 p3 S Q) ∧ (¬ (q0 = 0) → (zs_K S p0 = some (.inl 8) ∧ ∃ b3, (zs_R S 8091 p0) = some b3 ∧ zs_A S b3 0 ((zs_I S 8097 p0) - (1 : Int32)) ∧ zs_C X d 8044 [.ref p0, .int (zs_i S b3 ((zs_I S 8097 p0) - (1 : Int32)).toNatClampNeg)] S (zs_kI (fun v7 S6 => (((¬ v7 = 0 → w_X9_argument_134 X d p0 p1 p2 p3 S6 Q) ∧ (¬ (¬ v7 = 0) → (zs_K S6 p0 = some (.inl 8) ∧ ∃ b10, (zs_R S6 8096 p0) = some b10 ∧ zs_A S6 b10 0 ((zs_I S6 8097 p0) - (1 : Int32)) ∧ zs_C X d 8012 [.ref p0, .int (10 : Int32), .int (0 : Int32), .int (0 : Int32), .int (zs_i S6 b10 ((zs_I S6 8097 p0) - (1 : Int32)).toNatClampNeg)] S6 (zs_kI (fun v14 S13 => (w_X9_argument_134 X d p0 p1 p2 p3 S13 Q)) Q)))))) Q)))))
theorem u_X9_argument_88 {σ : Nat → Nat} {n0 : Nat} {bf : ab_B} {d : Nat} {p0 : Nat} {p1 : Int32} {p2 : Int32} {p3 : Int32} {q0 : Int32} {S : zs_T} {Q : zs_Q} (hB : zt_B bf) (h : w_X9_argument_88 (zx σ n0 bf) d p0 p1 p2 p3 q0 S Q) : zs_U (zx σ n0 bf) d 8080 88 [(0, .ref p0), (1, .int p1), (2, .int p2), (3, .int p3)] [.int q0] S Q := by
  unfold w_X9_argument_88 at h
  refine zu_istore d_8080_88 (zs_lt zq_8080 rfl) ?_
  refine zu_iload d_8080_90 rfl ?_
  refine zu_ifeq (t := 134) d_8080_92 rfl (fun c1 => ?_) (fun c1 => ?_)
  · have h := h.1 c1
    exact (u_X9_argument_134 hB h).weak ⟨rfl, rfl, rfl, rfl, trivial⟩
  · have h := h.2 c1
    refine zu_aload_n d_8080_95 rfl (zs_ra _) ?_
    refine zu_aload_n d_8080_96 rfl (zs_ra _) ?_
    obtain ⟨k2, h⟩ := h
    refine zg_8_191 rfl d_8080_97 k2 ?_
    refine zu_aload_n d_8080_100 rfl (zs_ra _) ?_
    refine zg_8_653 rfl d_8080_101 k2 ?_
    refine zu_iconst d_8080_104 zi_1 ?_
    refine zu_stk d_8080_105 rfl rfl ?_
    obtain ⟨b3, e4, h⟩ := h
    refine zs_stk1 (zs_rfe e4) ?_
    obtain ⟨k5, h⟩ := h
    refine zu_iald (k := 0) d_8080_106 rfl rfl k5 ?_
    refine zc_8_676 (x0 := (zs_i S b3 ((zs_I S 8097 p0) - (1 : Int32)).toNatClampNeg)) hB rfl k2 d_8080_107 (Nat.le_of_ble_eq_true rfl) h (fun v7 S6 h => ?_)
    refine zu_ifne (t := 134) d_8080_110 rfl (fun c8 => ?_) (fun c8 => ?_)
    · have h := h.1 c8
      exact (u_X9_argument_134 hB h).weak ⟨rfl, rfl, rfl, rfl, trivial⟩
    · have h := h.2 c8
      refine zu_aload_n d_8080_113 rfl (zs_ra _) ?_
      refine zu_bipush d_8080_114 zj_10 ?_
      refine zu_iconst d_8080_116 zi_0 ?_
      refine zu_iconst d_8080_117 zi_0 ?_
      refine zu_aload_n d_8080_118 rfl (zs_ra _) ?_
      obtain ⟨k9, h⟩ := h
      refine zg_8_206 rfl d_8080_119 k9 ?_
      refine zu_aload_n d_8080_122 rfl (zs_ra _) ?_
      refine zg_8_653 rfl d_8080_123 k9 ?_
      refine zu_iconst d_8080_126 zi_1 ?_
      refine zu_stk d_8080_127 rfl rfl ?_
      obtain ⟨b10, e11, h⟩ := h
      refine zs_stk1 (zs_rfe e11) ?_
      obtain ⟨k12, h⟩ := h
      refine zu_iald (k := 0) d_8080_128 rfl rfl k12 ?_
      refine zc_8_656 (x0 := (10 : Int32)) (x1 := (0 : Int32)) (x2 := (0 : Int32)) (x3 := (zs_i S6 b10 ((zs_I S6 8097 p0) - (1 : Int32)).toNatClampNeg)) hB rfl k9 d_8080_129 (Nat.le_of_ble_eq_true rfl) h (fun v14 S13 h => ?_)
      refine zu_istore d_8080_132 (zs_lt zq_8080 rfl) ?_
      exact (u_X9_argument_134 hB h).weak ⟨rfl, rfl, rfl, rfl, trivial⟩
def w_X9_argument_87 (X : zs_X) (d : Nat) (p0 : Nat) (p1 : Int32) (p2 : Int32) (p3 : Int32) (S : zs_T) (Q : zs_Q) : Prop :=
  (w_X9_argument_88 X d p0 p1 p2 p3 (0 : Int32) S Q)
theorem u_X9_argument_87 {σ : Nat → Nat} {n0 : Nat} {bf : ab_B} {d : Nat} {p0 : Nat} {p1 : Int32} {p2 : Int32} {p3 : Int32} {S : zs_T} {Q : zs_Q} (hB : zt_B bf) (h : w_X9_argument_87 (zx σ n0 bf) d p0 p1 p2 p3 S Q) : zs_U (zx σ n0 bf) d 8080 87 [(0, .ref p0), (1, .int p1), (2, .int p2), (3, .int p3)] [] S Q := by
  unfold w_X9_argument_87 at h
  refine zu_iconst d_8080_87 zi_0 ?_
  exact (u_X9_argument_88 hB h).weak ⟨rfl, rfl, rfl, rfl, trivial⟩
def w_X9_argument_64 (X : zs_X) (d : Nat) (p0 : Nat) (p1 : Int32) (p2 : Int32) (p3 : Int32) (p5 : Int32) (S : zs_T) (Q : zs_Q) : Prop :=
  (zs_K S p0 = some (.inl 8) ∧ ((¬ (zs_I S 8010 p0) = 0 → w_X9_argument_87 X d p0 p1 p2 p3 S Q) ∧ (¬ (¬ (zs_I S 8010 p0) = 0) → (∃ b3, (zs_R S 8044 p0) = some b3 ∧ zs_A S b3 1 p5 ∧ ((¬ (zs_i S b3 p5.toNatClampNeg) = (7 : Int32) → w_X9_argument_87 X d p0 p1 p2 p3 S Q) ∧ (¬ (¬ (zs_i S b3 p5.toNatClampNeg) = (7 : Int32)) → (w_X9_argument_88 X d p0 p1 p2 p3 (1 : Int32) S Q)))))))
theorem u_X9_argument_64 {σ : Nat → Nat} {n0 : Nat} {bf : ab_B} {d : Nat} {p0 : Nat} {p1 : Int32} {p2 : Int32} {p3 : Int32} {p5 : Int32} {S : zs_T} {Q : zs_Q} (hB : zt_B bf) (h : w_X9_argument_64 (zx σ n0 bf) d p0 p1 p2 p3 p5 S Q) : zs_U (zx σ n0 bf) d 8080 64 [(0, .ref p0), (1, .int p1), (2, .int p2), (3, .int p3), (5, .int p5)] [] S Q := by
  unfold w_X9_argument_64 at h
  refine zu_aload_n d_8080_64 rfl (zs_ra _) ?_
  obtain ⟨k1, h⟩ := h
  refine zg_8_444 rfl d_8080_65 k1 ?_
  refine zu_ifne (t := 87) d_8080_68 rfl (fun c2 => ?_) (fun c2 => ?_)
  · have h := h.1 c2
    exact (u_X9_argument_87 hB h).weak ⟨rfl, rfl, rfl, rfl, trivial⟩
  · have h := h.2 c2
    refine zu_aload_n d_8080_71 rfl (zs_ra _) ?_
    refine zg_8_90 rfl d_8080_72 k1 ?_
    refine zu_iload d_8080_75 rfl ?_
    obtain ⟨b3, e4, h⟩ := h
    refine zs_stk1 (zs_rfe e4) ?_
    obtain ⟨k5, h⟩ := h
    refine zu_bald (k := 1) d_8080_77 rfl (Or.inl rfl) k5 ?_
    refine zu_bipush d_8080_78 zj_7 ?_
    refine zu_cmpne (t := 87) d_8080_80 rfl (fun c6 => ?_) (fun c6 => ?_)
    · have h := h.1 c6
      exact (u_X9_argument_87 hB h).weak ⟨rfl, rfl, rfl, rfl, trivial⟩
    · have h := h.2 c6
      refine zu_iconst d_8080_83 zi_1 ?_
      refine zu_goto (t := 88) d_8080_84 rfl ?_
      exact (u_X9_argument_88 hB h).weak ⟨rfl, rfl, rfl, rfl, trivial⟩
def w_X9_argument_37 (X : zs_X) (d : Nat) (p0 : Nat) (p1 : Int32) (p2 : Int32) (p3 : Int32) (p5 : Int32) (S : zs_T) (Q : zs_Q) : Prop :=
  (zs_K S p0 = some (.inl 8) ∧ zs_C X d 8081 [.ref p0, .int p5] S (zs_kV (fun S2 => (zs_K S2 p0 = some (.inl 8) ∧ ((¬ (zs_I S2 8010 p0) = 0 → w_X9_argument_64 X d p0 p1 p2 p3 p5 S2 Q) ∧ (¬ (¬ (zs_I S2 8010 p0) = 0) → (zs_C X d 8082 [.ref p0, .int p5] S2 (zs_kI (fun v7 S6 => (((¬ v7 = 0 → w_X9_argument_64 X d p0 p1 p2 p3 p5 S6 Q) ∧ (¬ (¬ v7 = 0) → (zs_K S6 p0 = some (.inl 8) ∧ zs_C X d 8027 [.ref p0, .int (5 : Int32)] S6 (zs_kV (fun S10 => w_X9_argument_64 X d p0 p1 p2 p3 p5 S10 Q) Q)))))) Q)))))) Q))
theorem u_X9_argument_37 {σ : Nat → Nat} {n0 : Nat} {bf : ab_B} {d : Nat} {p0 : Nat} {p1 : Int32} {p2 : Int32} {p3 : Int32} {p5 : Int32} {S : zs_T} {Q : zs_Q} (hB : zt_B bf) (h : w_X9_argument_37 (zx σ n0 bf) d p0 p1 p2 p3 p5 S Q) : zs_U (zx σ n0 bf) d 8080 37 [(0, .ref p0), (1, .int p1), (2, .int p2), (3, .int p3), (5, .int p5)] [] S Q := by
  unfold w_X9_argument_37 at h
  refine zu_aload_n d_8080_37 rfl (zs_ra _) ?_
  refine zu_iload d_8080_38 rfl ?_
  obtain ⟨k1, h⟩ := h
  refine zc_8_752 (x0 := p5) hB rfl k1 d_8080_40 (Nat.le_of_ble_eq_true rfl) h (fun S2 h => ?_)
  refine zu_aload_n d_8080_43 rfl (zs_ra _) ?_
  obtain ⟨k4, h⟩ := h
  refine zg_8_444 rfl d_8080_44 k4 ?_
  refine zu_ifne (t := 64) d_8080_47 rfl (fun c5 => ?_) (fun c5 => ?_)
  · have h := h.1 c5
    exact (u_X9_argument_64 hB h).weak ⟨rfl, rfl, rfl, rfl, rfl, trivial⟩
  · have h := h.2 c5
    refine zu_aload_n d_8080_50 rfl (zs_ra _) ?_
    refine zu_iload d_8080_51 rfl ?_
    refine zc_8_755 (x0 := p5) hB rfl k4 d_8080_53 (Nat.le_of_ble_eq_true rfl) h (fun v7 S6 h => ?_)
    refine zu_ifne (t := 64) d_8080_56 rfl (fun c8 => ?_) (fun c8 => ?_)
    · have h := h.1 c8
      exact (u_X9_argument_64 hB h).weak ⟨rfl, rfl, rfl, rfl, rfl, trivial⟩
    · have h := h.2 c8
      refine zu_aload_n d_8080_59 rfl (zs_ra _) ?_
      refine zu_iconst d_8080_60 zi_5 ?_
      obtain ⟨k9, h⟩ := h
      refine zc_8_541 (x0 := (5 : Int32)) hB rfl k9 d_8080_61 (Nat.le_of_ble_eq_true rfl) h (fun S10 h => ?_)
      exact (u_X9_argument_64 hB h).weak ⟨rfl, rfl, rfl, rfl, rfl, trivial⟩
def w_X9_argument_178 (X : zs_X) (d : Nat) (p0 : Nat) (p1 : Int32) (p2 : Int32) (p3 : Int32) (S : zs_T) (Q : zs_Q) : Prop :=
  (zs_K S p0 = some (.inl 8) ∧ zs_C X d 8027 [.ref p0, .int (6 : Int32)] S (zs_kV (fun S2 => w_X9_argument_184 X d p0 p1 p2 p3 S2 Q) Q))
theorem u_X9_argument_178 {σ : Nat → Nat} {n0 : Nat} {bf : ab_B} {d : Nat} {p0 : Nat} {p1 : Int32} {p2 : Int32} {p3 : Int32} {S : zs_T} {Q : zs_Q} (hB : zt_B bf) (h : w_X9_argument_178 (zx σ n0 bf) d p0 p1 p2 p3 S Q) : zs_U (zx σ n0 bf) d 8080 178 [(0, .ref p0), (1, .int p1), (2, .int p2), (3, .int p3)] [] S Q := by
  unfold w_X9_argument_178 at h
  refine zu_aload_n d_8080_178 rfl (zs_ra _) ?_
  refine zu_bipush d_8080_179 zj_6 ?_
  obtain ⟨k1, h⟩ := h
  refine zc_8_541 (x0 := (6 : Int32)) hB rfl k1 d_8080_181 (Nat.le_of_ble_eq_true rfl) h (fun S2 h => ?_)
  exact (u_X9_argument_184 hB h).weak ⟨rfl, rfl, rfl, rfl, trivial⟩
def w_X9_argument_151 (X : zs_X) (d : Nat) (p0 : Nat) (p1 : Int32) (p2 : Int32) (p3 : Int32) (p4 : Int32) (S : zs_T) (Q : zs_Q) : Prop :=
  (zs_K S p0 = some (.inl 8) ∧ ∃ b2, (zs_R S 8110 p0) = some b2 ∧ zs_A S b2 1 p4 ∧ ((¬ (zs_i S b2 p4.toNatClampNeg) = (1 : Int32) → w_X9_argument_184 X d p0 p1 p2 p3 S Q) ∧ (¬ (¬ (zs_i S b2 p4.toNatClampNeg) = (1 : Int32)) → (∃ b6, (zs_R S 8094 p0) = some b6 ∧ zs_A S b6 0 ((zs_I S 8097 p0) - (1 : Int32)) ∧ ((((zs_i S b6 ((zs_I S 8097 p0) - (1 : Int32)).toNatClampNeg) &&& (3 : Int32)) = 0 → w_X9_argument_184 X d p0 p1 p2 p3 S Q) ∧ (¬ (((zs_i S b6 ((zs_I S 8097 p0) - (1 : Int32)).toNatClampNeg) &&& (3 : Int32)) = 0) → w_X9_argument_178 X d p0 p1 p2 p3 S Q))))))
theorem u_X9_argument_151 {σ : Nat → Nat} {n0 : Nat} {bf : ab_B} {d : Nat} {p0 : Nat} {p1 : Int32} {p2 : Int32} {p3 : Int32} {p4 : Int32} {S : zs_T} {Q : zs_Q} (hB : zt_B bf) (h : w_X9_argument_151 (zx σ n0 bf) d p0 p1 p2 p3 p4 S Q) : zs_U (zx σ n0 bf) d 8080 151 [(0, .ref p0), (1, .int p1), (2, .int p2), (3, .int p3), (4, .int p4)] [] S Q := by
  unfold w_X9_argument_151 at h
  refine zu_aload_n d_8080_151 rfl (zs_ra _) ?_
  obtain ⟨k1, h⟩ := h
  refine zg_8_242 rfl d_8080_152 k1 ?_
  refine zu_iload d_8080_155 rfl ?_
  obtain ⟨b2, e3, h⟩ := h
  refine zs_stk1 (zs_rfe e3) ?_
  obtain ⟨k4, h⟩ := h
  refine zu_bald (k := 1) d_8080_157 rfl (Or.inl rfl) k4 ?_
  refine zu_iconst d_8080_158 zi_1 ?_
  refine zu_cmpne (t := 184) d_8080_159 rfl (fun c5 => ?_) (fun c5 => ?_)
  · have h := h.1 c5
    exact (u_X9_argument_184 hB h).weak ⟨rfl, rfl, rfl, rfl, trivial⟩
  · have h := h.2 c5
    refine zu_aload_n d_8080_162 rfl (zs_ra _) ?_
    refine zg_8_200 rfl d_8080_163 k1 ?_
    refine zu_aload_n d_8080_166 rfl (zs_ra _) ?_
    refine zg_8_653 rfl d_8080_167 k1 ?_
    refine zu_iconst d_8080_170 zi_1 ?_
    refine zu_stk d_8080_171 rfl rfl ?_
    obtain ⟨b6, e7, h⟩ := h
    refine zs_stk1 (zs_rfe e7) ?_
    obtain ⟨k8, h⟩ := h
    refine zu_iald (k := 0) d_8080_172 rfl rfl k8 ?_
    refine zu_iconst d_8080_173 zi_3 ?_
    refine zu_stk d_8080_174 rfl rfl ?_
    refine zu_ifeq (t := 184) d_8080_175 rfl (fun c9 => ?_) (fun c9 => ?_)
    · have h := h.1 c9
      exact (u_X9_argument_184 hB h).weak ⟨rfl, rfl, rfl, rfl, trivial⟩
    · have h := h.2 c9
      exact (u_X9_argument_178 hB h).weak ⟨rfl, rfl, rfl, rfl, trivial⟩
def w_X9_argument_137 (X : zs_X) (d : Nat) (p0 : Nat) (p1 : Int32) (p2 : Int32) (p3 : Int32) (p4 : Int32) (p5 : Int32) (S : zs_T) (Q : zs_Q) : Prop :=
  (zs_K S p0 = some (.inl 8) ∧ zs_C X d 8083 [.ref p0, .int p5] S (zs_kI (fun v3 S2 => (((¬ v3 = 0 → w_X9_argument_151 X d p0 p1 p2 p3 p4 S2 Q) ∧ (¬ (¬ v3 = 0) → (zs_K S2 p0 = some (.inl 8) ∧ zs_C X d 8027 [.ref p0, .int (5 : Int32)] S2 (zs_kV (fun S6 => w_X9_argument_151 X d p0 p1 p2 p3 p4 S6 Q) Q)))))) Q))
theorem u_X9_argument_137 {σ : Nat → Nat} {n0 : Nat} {bf : ab_B} {d : Nat} {p0 : Nat} {p1 : Int32} {p2 : Int32} {p3 : Int32} {p4 : Int32} {p5 : Int32} {S : zs_T} {Q : zs_Q} (hB : zt_B bf) (h : w_X9_argument_137 (zx σ n0 bf) d p0 p1 p2 p3 p4 p5 S Q) : zs_U (zx σ n0 bf) d 8080 137 [(0, .ref p0), (1, .int p1), (2, .int p2), (3, .int p3), (4, .int p4), (5, .int p5)] [] S Q := by
  unfold w_X9_argument_137 at h
  refine zu_aload_n d_8080_137 rfl (zs_ra _) ?_
  refine zu_iload d_8080_138 rfl ?_
  obtain ⟨k1, h⟩ := h
  refine zc_8_758 (x0 := p5) hB rfl k1 d_8080_140 (Nat.le_of_ble_eq_true rfl) h (fun v3 S2 h => ?_)
  refine zu_ifne (t := 151) d_8080_143 rfl (fun c4 => ?_) (fun c4 => ?_)
  · have h := h.1 c4
    exact (u_X9_argument_151 hB h).weak ⟨rfl, rfl, rfl, rfl, rfl, trivial⟩
  · have h := h.2 c4
    refine zu_aload_n d_8080_146 rfl (zs_ra _) ?_
    refine zu_iconst d_8080_147 zi_5 ?_
    obtain ⟨k5, h⟩ := h
    refine zc_8_541 (x0 := (5 : Int32)) hB rfl k5 d_8080_148 (Nat.le_of_ble_eq_true rfl) h (fun S6 h => ?_)
    exact (u_X9_argument_151 hB h).weak ⟨rfl, rfl, rfl, rfl, rfl, trivial⟩
def w_X9_argument (X : zs_X) (d : Nat) (p0 : Nat) (p1 : Int32) (p2 : Int32) (p3 : Int32) (S : zs_T) (Q : zs_Q) : Prop :=
  (zs_K S p0 = some (.inl 8) ∧ (((zs_I S 8010 p0) ≤ 0 → (∃ b3, (zs_R S 8104 p0) = some b3 ∧ zs_A S b3 0 p1 ∧ ∃ b6, (zs_R S 8109 p0) = some b6 ∧ zs_A S b6 0 ((zs_i S b3 p1.toNatClampNeg) + p2) ∧ ∃ b9, (zs_R S 8110 p0) = some b9 ∧ zs_A S b9 1 ((zs_i S b3 p1.toNatClampNeg) + p2) ∧ ((¬ (zs_i S b9 ((zs_i S b3 p1.toNatClampNeg) + p2).toNatClampNeg) = 0 → w_X9_argument_137 X d p0 p1 p2 p3 ((zs_i S b3 p1.toNatClampNeg) + p2) (zs_i S b6 ((zs_i S b3 p1.toNatClampNeg) + p2).toNatClampNeg) S Q) ∧ (¬ (¬ (zs_i S b9 ((zs_i S b3 p1.toNatClampNeg) + p2).toNatClampNeg) = 0) → w_X9_argument_37 X d p0 p1 p2 p3 (zs_i S b6 ((zs_i S b3 p1.toNatClampNeg) + p2).toNatClampNeg) S Q)))) ∧ (¬ ((zs_I S 8010 p0) ≤ 0) → (Q (.returned none) S))))
theorem u_X9_argument {σ : Nat → Nat} {n0 : Nat} {bf : ab_B} {d : Nat} {p0 : Nat} {p1 : Int32} {p2 : Int32} {p3 : Int32} {S : zs_T} {Q : zs_Q} (hB : zt_B bf) (hd : 1 ≤ d) (h : w_X9_argument (zx σ n0 bf) (d - 1) p0 p1 p2 p3 S Q) : zs_C (zx σ n0 bf) d 8080 [.ref p0, .int p1, .int p2, .int p3] S Q := by
  have hL : lv_args 0 [.ref p0, .int p1, .int p2, .int p3] = [(0, .ref p0), (1, .int p1), (2, .int p2), (3, .int p3)] := rfl
  refine zs_C.of1 (hB.2 8080 (by decide) (by decide)) hd (by rw [hL]; exact zs_sub_self _ (by exact ⟨rfl, rfl, rfl, rfl, trivial⟩)) ?_
  rw [hL]
  clear hL
  unfold w_X9_argument at h
  refine zu_aload_n d_8080_0 rfl (zs_ra _) ?_
  obtain ⟨k1, h⟩ := h
  refine zg_8_444 rfl d_8080_1 k1 ?_
  refine zu_ifle (t := 8) d_8080_4 rfl (fun c2 => ?_) (fun c2 => ?_)
  · have h := h.1 c2
    refine zu_aload_n d_8080_8 rfl (zs_ra _) ?_
    refine zg_8_227 rfl d_8080_9 k1 ?_
    refine zu_iload_n d_8080_12 rfl ?_
    obtain ⟨b3, e4, h⟩ := h
    refine zs_stk1 (zs_rfe e4) ?_
    obtain ⟨k5, h⟩ := h
    refine zu_iald (k := 0) d_8080_13 rfl rfl k5 ?_
    refine zu_iload_n d_8080_14 rfl ?_
    refine zu_stk d_8080_15 rfl rfl ?_
    refine zu_istore d_8080_16 (zs_lt zq_8080 rfl) ?_
    refine zu_aload_n d_8080_18 rfl (zs_ra _) ?_
    refine zg_8_239 rfl d_8080_19 k1 ?_
    refine zu_iload d_8080_22 rfl ?_
    obtain ⟨b6, e7, h⟩ := h
    refine zs_stk1 (zs_rfe e7) ?_
    obtain ⟨k8, h⟩ := h
    refine zu_iald (k := 0) d_8080_24 rfl rfl k8 ?_
    refine zu_istore d_8080_25 (zs_lt zq_8080 rfl) ?_
    refine zu_aload_n d_8080_27 rfl (zs_ra _) ?_
    refine zg_8_242 rfl d_8080_28 k1 ?_
    refine zu_iload d_8080_31 rfl ?_
    obtain ⟨b9, e10, h⟩ := h
    refine zs_stk1 (zs_rfe e10) ?_
    obtain ⟨k11, h⟩ := h
    refine zu_bald (k := 1) d_8080_33 rfl (Or.inl rfl) k11 ?_
    refine zu_ifne (t := 137) d_8080_34 rfl (fun c12 => ?_) (fun c12 => ?_)
    · have h := h.1 c12
      exact (u_X9_argument_137 hB h).weak ⟨rfl, rfl, rfl, rfl, rfl, rfl, trivial⟩
    · have h := h.2 c12
      exact (u_X9_argument_37 hB h).weak ⟨rfl, rfl, rfl, rfl, rfl, trivial⟩
  · have h := h.2 c2
    exact zu_vret d_8080_7 zr_8080 h
/-! SchemaPascalModel.loadFor(I)V -/
theorem zm_8081 {σ : Nat → Nat} {n0 : Nat} {bf : ab_B} : ab_code (zx σ n0 bf).1 8081 = prog_17_method_81_code := rfl
theorem zq_8081 {σ : Nat → Nat} {n0 : Nat} {bf : ab_B} : ab_maxL (zx σ n0 bf).1 8081 = 3 := rfl
theorem zr_8081 {σ : Nat → Nat} {n0 : Nat} {bf : ab_B} : ab_ret (zx σ n0 bf).1 8081 = (Option.none : Option Jvm.ClassFile.FieldType) := rfl
theorem d_8081_0 {σ : Nat → Nat} {n0 : Nat} {bf : ab_B} : decode (ab_code (zx σ n0 bf).1 8081) 0 = .ok (.aload_n 0, 1) := zd zm_8081 (by decide +kernel)
theorem d_8081_1 {σ : Nat → Nat} {n0 : Nat} {bf : ab_B} : decode (ab_code (zx σ n0 bf).1 8081) 1 = .ok (.getfield 90, 3) := zd zm_8081 (by decide +kernel)
theorem d_8081_4 {σ : Nat → Nat} {n0 : Nat} {bf : ab_B} : decode (ab_code (zx σ n0 bf).1 8081) 4 = .ok (.aload_n 0, 1) := zd zm_8081 (by decide +kernel)
theorem d_8081_5 {σ : Nat → Nat} {n0 : Nat} {bf : ab_B} : decode (ab_code (zx σ n0 bf).1 8081) 5 = .ok (.getfield 191, 3) := zd zm_8081 (by decide +kernel)
theorem d_8081_8 {σ : Nat → Nat} {n0 : Nat} {bf : ab_B} : decode (ab_code (zx σ n0 bf).1 8081) 8 = .ok (.aload_n 0, 1) := zd zm_8081 (by decide +kernel)
theorem d_8081_9 {σ : Nat → Nat} {n0 : Nat} {bf : ab_B} : decode (ab_code (zx σ n0 bf).1 8081) 9 = .ok (.getfield 653, 3) := zd zm_8081 (by decide +kernel)
theorem d_8081_12 {σ : Nat → Nat} {n0 : Nat} {bf : ab_B} : decode (ab_code (zx σ n0 bf).1 8081) 12 = .ok (.iconst 1, 1) := zd zm_8081 (by decide +kernel)
theorem d_8081_13 {σ : Nat → Nat} {n0 : Nat} {bf : ab_B} : decode (ab_code (zx σ n0 bf).1 8081) 13 = .ok (.isub, 1) := zd zm_8081 (by decide +kernel)
theorem d_8081_14 {σ : Nat → Nat} {n0 : Nat} {bf : ab_B} : decode (ab_code (zx σ n0 bf).1 8081) 14 = .ok (.iaload, 1) := zd zm_8081 (by decide +kernel)
theorem d_8081_15 {σ : Nat → Nat} {n0 : Nat} {bf : ab_B} : decode (ab_code (zx σ n0 bf).1 8081) 15 = .ok (.baload, 1) := zd zm_8081 (by decide +kernel)
theorem d_8081_16 {σ : Nat → Nat} {n0 : Nat} {bf : ab_B} : decode (ab_code (zx σ n0 bf).1 8081) 16 = .ok (.istore_n 2, 1) := zd zm_8081 (by decide +kernel)
theorem d_8081_17 {σ : Nat → Nat} {n0 : Nat} {bf : ab_B} : decode (ab_code (zx σ n0 bf).1 8081) 17 = .ok (.aload_n 0, 1) := zd zm_8081 (by decide +kernel)
theorem d_8081_18 {σ : Nat → Nat} {n0 : Nat} {bf : ab_B} : decode (ab_code (zx σ n0 bf).1 8081) 18 = .ok (.iload_n 1, 1) := zd zm_8081 (by decide +kernel)
theorem d_8081_19 {σ : Nat → Nat} {n0 : Nat} {bf : ab_B} : decode (ab_code (zx σ n0 bf).1 8081) 19 = .ok (.invokevirtual 564, 3) := zd zm_8081 (by decide +kernel)
theorem d_8081_22 {σ : Nat → Nat} {n0 : Nat} {bf : ab_B} : decode (ab_code (zx σ n0 bf).1 8081) 22 = .ok (.ifCond .ne 72, 3) := zd zm_8081 (by decide +kernel)
theorem d_8081_25 {σ : Nat → Nat} {n0 : Nat} {bf : ab_B} : decode (ab_code (zx σ n0 bf).1 8081) 25 = .ok (.aload_n 0, 1) := zd zm_8081 (by decide +kernel)
theorem d_8081_26 {σ : Nat → Nat} {n0 : Nat} {bf : ab_B} : decode (ab_code (zx σ n0 bf).1 8081) 26 = .ok (.getfield 90, 3) := zd zm_8081 (by decide +kernel)
theorem d_8081_29 {σ : Nat → Nat} {n0 : Nat} {bf : ab_B} : decode (ab_code (zx σ n0 bf).1 8081) 29 = .ok (.iload_n 1, 1) := zd zm_8081 (by decide +kernel)
theorem d_8081_30 {σ : Nat → Nat} {n0 : Nat} {bf : ab_B} : decode (ab_code (zx σ n0 bf).1 8081) 30 = .ok (.baload, 1) := zd zm_8081 (by decide +kernel)
theorem d_8081_31 {σ : Nat → Nat} {n0 : Nat} {bf : ab_B} : decode (ab_code (zx σ n0 bf).1 8081) 31 = .ok (.bipush 7, 2) := zd zm_8081 (by decide +kernel)
theorem d_8081_33 {σ : Nat → Nat} {n0 : Nat} {bf : ab_B} : decode (ab_code (zx σ n0 bf).1 8081) 33 = .ok (.if_icmp .eq 61, 3) := zd zm_8081 (by decide +kernel)
theorem d_8081_36 {σ : Nat → Nat} {n0 : Nat} {bf : ab_B} : decode (ab_code (zx σ n0 bf).1 8081) 36 = .ok (.aload_n 0, 1) := zd zm_8081 (by decide +kernel)
theorem d_8081_37 {σ : Nat → Nat} {n0 : Nat} {bf : ab_B} : decode (ab_code (zx σ n0 bf).1 8081) 37 = .ok (.getfield 90, 3) := zd zm_8081 (by decide +kernel)
theorem d_8081_40 {σ : Nat → Nat} {n0 : Nat} {bf : ab_B} : decode (ab_code (zx σ n0 bf).1 8081) 40 = .ok (.iload_n 1, 1) := zd zm_8081 (by decide +kernel)
theorem d_8081_41 {σ : Nat → Nat} {n0 : Nat} {bf : ab_B} : decode (ab_code (zx σ n0 bf).1 8081) 41 = .ok (.baload, 1) := zd zm_8081 (by decide +kernel)
theorem d_8081_42 {σ : Nat → Nat} {n0 : Nat} {bf : ab_B} : decode (ab_code (zx σ n0 bf).1 8081) 42 = .ok (.bipush 6, 2) := zd zm_8081 (by decide +kernel)
theorem d_8081_44 {σ : Nat → Nat} {n0 : Nat} {bf : ab_B} : decode (ab_code (zx σ n0 bf).1 8081) 44 = .ok (.if_icmp .eq 50, 3) := zd zm_8081 (by decide +kernel)
theorem d_8081_47 {σ : Nat → Nat} {n0 : Nat} {bf : ab_B} : decode (ab_code (zx σ n0 bf).1 8081) 47 = .ok (.aload_n 0, 1) := zd zm_8081 (by decide +kernel)
theorem d_8081_48 {σ : Nat → Nat} {n0 : Nat} {bf : ab_B} : decode (ab_code (zx σ n0 bf).1 8081) 48 = .ok (.getfield 90, 3) := zd zm_8081 (by decide +kernel)
theorem d_8081_51 {σ : Nat → Nat} {n0 : Nat} {bf : ab_B} : decode (ab_code (zx σ n0 bf).1 8081) 51 = .ok (.iload_n 1, 1) := zd zm_8081 (by decide +kernel)
theorem d_8081_52 {σ : Nat → Nat} {n0 : Nat} {bf : ab_B} : decode (ab_code (zx σ n0 bf).1 8081) 52 = .ok (.baload, 1) := zd zm_8081 (by decide +kernel)
theorem d_8081_53 {σ : Nat → Nat} {n0 : Nat} {bf : ab_B} : decode (ab_code (zx σ n0 bf).1 8081) 53 = .ok (.bipush 10, 2) := zd zm_8081 (by decide +kernel)
theorem d_8081_55 {σ : Nat → Nat} {n0 : Nat} {bf : ab_B} : decode (ab_code (zx σ n0 bf).1 8081) 55 = .ok (.if_icmp .eq 39, 3) := zd zm_8081 (by decide +kernel)
theorem d_8081_58 {σ : Nat → Nat} {n0 : Nat} {bf : ab_B} : decode (ab_code (zx σ n0 bf).1 8081) 58 = .ok (.aload_n 0, 1) := zd zm_8081 (by decide +kernel)
theorem d_8081_59 {σ : Nat → Nat} {n0 : Nat} {bf : ab_B} : decode (ab_code (zx σ n0 bf).1 8081) 59 = .ok (.aload_n 0, 1) := zd zm_8081 (by decide +kernel)
theorem d_8081_60 {σ : Nat → Nat} {n0 : Nat} {bf : ab_B} : decode (ab_code (zx σ n0 bf).1 8081) 60 = .ok (.getfield 191, 3) := zd zm_8081 (by decide +kernel)
theorem d_8081_63 {σ : Nat → Nat} {n0 : Nat} {bf : ab_B} : decode (ab_code (zx σ n0 bf).1 8081) 63 = .ok (.aload_n 0, 1) := zd zm_8081 (by decide +kernel)
theorem d_8081_64 {σ : Nat → Nat} {n0 : Nat} {bf : ab_B} : decode (ab_code (zx σ n0 bf).1 8081) 64 = .ok (.getfield 653, 3) := zd zm_8081 (by decide +kernel)
theorem d_8081_67 {σ : Nat → Nat} {n0 : Nat} {bf : ab_B} : decode (ab_code (zx σ n0 bf).1 8081) 67 = .ok (.iconst 1, 1) := zd zm_8081 (by decide +kernel)
theorem d_8081_68 {σ : Nat → Nat} {n0 : Nat} {bf : ab_B} : decode (ab_code (zx σ n0 bf).1 8081) 68 = .ok (.isub, 1) := zd zm_8081 (by decide +kernel)
theorem d_8081_69 {σ : Nat → Nat} {n0 : Nat} {bf : ab_B} : decode (ab_code (zx σ n0 bf).1 8081) 69 = .ok (.iaload, 1) := zd zm_8081 (by decide +kernel)
theorem d_8081_70 {σ : Nat → Nat} {n0 : Nat} {bf : ab_B} : decode (ab_code (zx σ n0 bf).1 8081) 70 = .ok (.invokevirtual 564, 3) := zd zm_8081 (by decide +kernel)
theorem d_8081_73 {σ : Nat → Nat} {n0 : Nat} {bf : ab_B} : decode (ab_code (zx σ n0 bf).1 8081) 73 = .ok (.ifCond .ne 21, 3) := zd zm_8081 (by decide +kernel)
theorem d_8081_76 {σ : Nat → Nat} {n0 : Nat} {bf : ab_B} : decode (ab_code (zx σ n0 bf).1 8081) 76 = .ok (.iload_n 2, 1) := zd zm_8081 (by decide +kernel)
theorem d_8081_77 {σ : Nat → Nat} {n0 : Nat} {bf : ab_B} : decode (ab_code (zx σ n0 bf).1 8081) 77 = .ok (.bipush 7, 2) := zd zm_8081 (by decide +kernel)
theorem d_8081_79 {σ : Nat → Nat} {n0 : Nat} {bf : ab_B} : decode (ab_code (zx σ n0 bf).1 8081) 79 = .ok (.if_icmp .eq 15, 3) := zd zm_8081 (by decide +kernel)
theorem d_8081_82 {σ : Nat → Nat} {n0 : Nat} {bf : ab_B} : decode (ab_code (zx σ n0 bf).1 8081) 82 = .ok (.iload_n 2, 1) := zd zm_8081 (by decide +kernel)
theorem d_8081_83 {σ : Nat → Nat} {n0 : Nat} {bf : ab_B} : decode (ab_code (zx σ n0 bf).1 8081) 83 = .ok (.bipush 6, 2) := zd zm_8081 (by decide +kernel)
theorem d_8081_85 {σ : Nat → Nat} {n0 : Nat} {bf : ab_B} : decode (ab_code (zx σ n0 bf).1 8081) 85 = .ok (.if_icmp .eq 9, 3) := zd zm_8081 (by decide +kernel)
theorem d_8081_88 {σ : Nat → Nat} {n0 : Nat} {bf : ab_B} : decode (ab_code (zx σ n0 bf).1 8081) 88 = .ok (.iload_n 2, 1) := zd zm_8081 (by decide +kernel)
theorem d_8081_89 {σ : Nat → Nat} {n0 : Nat} {bf : ab_B} : decode (ab_code (zx σ n0 bf).1 8081) 89 = .ok (.bipush 10, 2) := zd zm_8081 (by decide +kernel)
theorem d_8081_91 {σ : Nat → Nat} {n0 : Nat} {bf : ab_B} : decode (ab_code (zx σ n0 bf).1 8081) 91 = .ok (.if_icmp .ne 7, 3) := zd zm_8081 (by decide +kernel)
theorem d_8081_94 {σ : Nat → Nat} {n0 : Nat} {bf : ab_B} : decode (ab_code (zx σ n0 bf).1 8081) 94 = .ok (.aload_n 0, 1) := zd zm_8081 (by decide +kernel)
theorem d_8081_95 {σ : Nat → Nat} {n0 : Nat} {bf : ab_B} : decode (ab_code (zx σ n0 bf).1 8081) 95 = .ok (.invokevirtual 660, 3) := zd zm_8081 (by decide +kernel)
theorem d_8081_98 {σ : Nat → Nat} {n0 : Nat} {bf : ab_B} : decode (ab_code (zx σ n0 bf).1 8081) 98 = .ok (.return_, 1) := zd zm_8081 (by decide +kernel)
def w_X9_loadFor_94 (X : zs_X) (d : Nat) (p0 : Nat) (S : zs_T) (Q : zs_Q) : Prop :=
  (zs_K S p0 = some (.inl 8) ∧ zs_C X d 8037 [.ref p0] S (zs_kV (fun S2 => (Q (.returned none) S2)) Q))
theorem u_X9_loadFor_94 {σ : Nat → Nat} {n0 : Nat} {bf : ab_B} {d : Nat} {p0 : Nat} {S : zs_T} {Q : zs_Q} (hB : zt_B bf) (h : w_X9_loadFor_94 (zx σ n0 bf) d p0 S Q) : zs_U (zx σ n0 bf) d 8081 94 [(0, .ref p0)] [] S Q := by
  unfold w_X9_loadFor_94 at h
  refine zu_aload_n d_8081_94 rfl (zs_ra _) ?_
  obtain ⟨k1, h⟩ := h
  refine zc_8_660  hB rfl k1 d_8081_95 (Nat.le_of_ble_eq_true rfl) h (fun S2 h => ?_)
  exact zu_vret d_8081_98 zr_8081 h
def w_X9_loadFor_76 (X : zs_X) (d : Nat) (p0 : Nat) (p2 : Int32) (S : zs_T) (Q : zs_Q) : Prop :=
  (((p2 = (7 : Int32) → w_X9_loadFor_94 X d p0 S Q) ∧ (¬ (p2 = (7 : Int32)) → (((p2 = (6 : Int32) → w_X9_loadFor_94 X d p0 S Q) ∧ (¬ (p2 = (6 : Int32)) → (((¬ p2 = (10 : Int32) → (Q (.returned none) S)) ∧ (¬ (¬ p2 = (10 : Int32)) → w_X9_loadFor_94 X d p0 S Q)))))))))
theorem u_X9_loadFor_76 {σ : Nat → Nat} {n0 : Nat} {bf : ab_B} {d : Nat} {p0 : Nat} {p2 : Int32} {S : zs_T} {Q : zs_Q} (hB : zt_B bf) (h : w_X9_loadFor_76 (zx σ n0 bf) d p0 p2 S Q) : zs_U (zx σ n0 bf) d 8081 76 [(0, .ref p0), (2, .int p2)] [] S Q := by
  unfold w_X9_loadFor_76 at h
  refine zu_iload_n d_8081_76 rfl ?_
  refine zu_bipush d_8081_77 zj_7 ?_
  refine zu_cmpeq (t := 94) d_8081_79 rfl (fun c1 => ?_) (fun c1 => ?_)
  · have h := h.1 c1
    exact (u_X9_loadFor_94 hB h).weak ⟨rfl, trivial⟩
  · have h := h.2 c1
    refine zu_iload_n d_8081_82 rfl ?_
    refine zu_bipush d_8081_83 zj_6 ?_
    refine zu_cmpeq (t := 94) d_8081_85 rfl (fun c2 => ?_) (fun c2 => ?_)
    · have h := h.1 c2
      exact (u_X9_loadFor_94 hB h).weak ⟨rfl, trivial⟩
    · have h := h.2 c2
      refine zu_iload_n d_8081_88 rfl ?_
      refine zu_bipush d_8081_89 zj_10 ?_
      refine zu_cmpne (t := 98) d_8081_91 rfl (fun c3 => ?_) (fun c3 => ?_)
      · have h := h.1 c3
        exact zu_vret d_8081_98 zr_8081 h
      · have h := h.2 c3
        exact (u_X9_loadFor_94 hB h).weak ⟨rfl, trivial⟩
def w_X9_loadFor_36 (X : zs_X) (d : Nat) (p0 : Nat) (p1 : Int32) (p2 : Int32) (S : zs_T) (Q : zs_Q) : Prop :=
  (zs_K S p0 = some (.inl 8) ∧ ∃ b2, (zs_R S 8044 p0) = some b2 ∧ zs_A S b2 1 p1 ∧ (((zs_i S b2 p1.toNatClampNeg) = (6 : Int32) → w_X9_loadFor_94 X d p0 S Q) ∧ (¬ ((zs_i S b2 p1.toNatClampNeg) = (6 : Int32)) → ((((zs_i S b2 p1.toNatClampNeg) = (10 : Int32) → w_X9_loadFor_94 X d p0 S Q) ∧ (¬ ((zs_i S b2 p1.toNatClampNeg) = (10 : Int32)) → (∃ b7, (zs_R S 8091 p0) = some b7 ∧ zs_A S b7 0 ((zs_I S 8097 p0) - (1 : Int32)) ∧ zs_C X d 8036 [.ref p0, .int (zs_i S b7 ((zs_I S 8097 p0) - (1 : Int32)).toNatClampNeg)] S (zs_kI (fun v11 S10 => (((¬ v11 = 0 → w_X9_loadFor_94 X d p0 S10 Q) ∧ (¬ (¬ v11 = 0) → w_X9_loadFor_76 X d p0 p2 S10 Q)))) Q))))))))
theorem u_X9_loadFor_36 {σ : Nat → Nat} {n0 : Nat} {bf : ab_B} {d : Nat} {p0 : Nat} {p1 : Int32} {p2 : Int32} {S : zs_T} {Q : zs_Q} (hB : zt_B bf) (h : w_X9_loadFor_36 (zx σ n0 bf) d p0 p1 p2 S Q) : zs_U (zx σ n0 bf) d 8081 36 [(0, .ref p0), (1, .int p1), (2, .int p2)] [] S Q := by
  unfold w_X9_loadFor_36 at h
  refine zu_aload_n d_8081_36 rfl (zs_ra _) ?_
  obtain ⟨k1, h⟩ := h
  refine zg_8_90 rfl d_8081_37 k1 ?_
  refine zu_iload_n d_8081_40 rfl ?_
  obtain ⟨b2, e3, h⟩ := h
  refine zs_stk1 (zs_rfe e3) ?_
  obtain ⟨k4, h⟩ := h
  refine zu_bald (k := 1) d_8081_41 rfl (Or.inl rfl) k4 ?_
  refine zu_bipush d_8081_42 zj_6 ?_
  refine zu_cmpeq (t := 94) d_8081_44 rfl (fun c5 => ?_) (fun c5 => ?_)
  · have h := h.1 c5
    exact (u_X9_loadFor_94 hB h).weak ⟨rfl, trivial⟩
  · have h := h.2 c5
    refine zu_aload_n d_8081_47 rfl (zs_ra _) ?_
    refine zg_8_90 rfl d_8081_48 k1 ?_
    refine zu_iload_n d_8081_51 rfl ?_
    refine zs_stk1 (zs_rfe e3) ?_
    refine zu_bald (k := 1) d_8081_52 rfl (Or.inl rfl) k4 ?_
    refine zu_bipush d_8081_53 zj_10 ?_
    refine zu_cmpeq (t := 94) d_8081_55 rfl (fun c6 => ?_) (fun c6 => ?_)
    · have h := h.1 c6
      exact (u_X9_loadFor_94 hB h).weak ⟨rfl, trivial⟩
    · have h := h.2 c6
      refine zu_aload_n d_8081_58 rfl (zs_ra _) ?_
      refine zu_aload_n d_8081_59 rfl (zs_ra _) ?_
      refine zg_8_191 rfl d_8081_60 k1 ?_
      refine zu_aload_n d_8081_63 rfl (zs_ra _) ?_
      refine zg_8_653 rfl d_8081_64 k1 ?_
      refine zu_iconst d_8081_67 zi_1 ?_
      refine zu_stk d_8081_68 rfl rfl ?_
      obtain ⟨b7, e8, h⟩ := h
      refine zs_stk1 (zs_rfe e8) ?_
      obtain ⟨k9, h⟩ := h
      refine zu_iald (k := 0) d_8081_69 rfl rfl k9 ?_
      refine zc_8_564 (x0 := (zs_i S b7 ((zs_I S 8097 p0) - (1 : Int32)).toNatClampNeg)) hB rfl k1 d_8081_70 (Nat.le_of_ble_eq_true rfl) h (fun v11 S10 h => ?_)
      refine zu_ifne (t := 94) d_8081_73 rfl (fun c12 => ?_) (fun c12 => ?_)
      · have h := h.1 c12
        exact (u_X9_loadFor_94 hB h).weak ⟨rfl, trivial⟩
      · have h := h.2 c12
        exact (u_X9_loadFor_76 hB h).weak ⟨rfl, rfl, trivial⟩
def w_X9_loadFor (X : zs_X) (d : Nat) (p0 : Nat) (p1 : Int32) (S : zs_T) (Q : zs_Q) : Prop :=
  (zs_K S p0 = some (.inl 8) ∧ ∃ b2, (zs_R S 8091 p0) = some b2 ∧ zs_A S b2 0 ((zs_I S 8097 p0) - (1 : Int32)) ∧ ∃ b5, (zs_R S 8044 p0) = some b5 ∧ zs_A S b5 1 (zs_i S b2 ((zs_I S 8097 p0) - (1 : Int32)).toNatClampNeg) ∧ zs_C X d 8036 [.ref p0, .int p1] S (zs_kI (fun v9 S8 => (((¬ v9 = 0 → w_X9_loadFor_94 X d p0 S8 Q) ∧ (¬ (¬ v9 = 0) → (zs_K S8 p0 = some (.inl 8) ∧ ∃ b12, (zs_R S8 8044 p0) = some b12 ∧ zs_A S8 b12 1 p1 ∧ (((zs_i S8 b12 p1.toNatClampNeg) = (7 : Int32) → w_X9_loadFor_94 X d p0 S8 Q) ∧ (¬ ((zs_i S8 b12 p1.toNatClampNeg) = (7 : Int32)) → w_X9_loadFor_36 X d p0 p1 (zs_i S b5 (zs_i S b2 ((zs_I S 8097 p0) - (1 : Int32)).toNatClampNeg).toNatClampNeg) S8 Q))))))) Q))
theorem u_X9_loadFor {σ : Nat → Nat} {n0 : Nat} {bf : ab_B} {d : Nat} {p0 : Nat} {p1 : Int32} {S : zs_T} {Q : zs_Q} (hB : zt_B bf) (hd : 1 ≤ d) (h : w_X9_loadFor (zx σ n0 bf) (d - 1) p0 p1 S Q) : zs_C (zx σ n0 bf) d 8081 [.ref p0, .int p1] S Q := by
  have hL : lv_args 0 [.ref p0, .int p1] = [(0, .ref p0), (1, .int p1)] := rfl
  refine zs_C.of1 (hB.2 8081 (by decide) (by decide)) hd (by rw [hL]; exact zs_sub_self _ (by exact ⟨rfl, rfl, trivial⟩)) ?_
  rw [hL]
  clear hL
  unfold w_X9_loadFor at h
  refine zu_aload_n d_8081_0 rfl (zs_ra _) ?_
  obtain ⟨k1, h⟩ := h
  refine zg_8_90 rfl d_8081_1 k1 ?_
  refine zu_aload_n d_8081_4 rfl (zs_ra _) ?_
  refine zg_8_191 rfl d_8081_5 k1 ?_
  refine zu_aload_n d_8081_8 rfl (zs_ra _) ?_
  refine zg_8_653 rfl d_8081_9 k1 ?_
  refine zu_iconst d_8081_12 zi_1 ?_
  refine zu_stk d_8081_13 rfl rfl ?_
  obtain ⟨b2, e3, h⟩ := h
  refine zs_stk1 (zs_rfe e3) ?_
  obtain ⟨k4, h⟩ := h
  refine zu_iald (k := 0) d_8081_14 rfl rfl k4 ?_
  obtain ⟨b5, e6, h⟩ := h
  refine zs_stk1 (zs_rfe e6) ?_
  obtain ⟨k7, h⟩ := h
  refine zu_bald (k := 1) d_8081_15 rfl (Or.inl rfl) k7 ?_
  refine zu_istore_n d_8081_16 (zs_lt zq_8081 rfl) ?_
  refine zu_aload_n d_8081_17 rfl (zs_ra _) ?_
  refine zu_iload_n d_8081_18 rfl ?_
  refine zc_8_564 (x0 := p1) hB rfl k1 d_8081_19 (Nat.le_of_ble_eq_true rfl) h (fun v9 S8 h => ?_)
  refine zu_ifne (t := 94) d_8081_22 rfl (fun c10 => ?_) (fun c10 => ?_)
  · have h := h.1 c10
    exact (u_X9_loadFor_94 hB h).weak ⟨rfl, trivial⟩
  · have h := h.2 c10
    refine zu_aload_n d_8081_25 rfl (zs_ra _) ?_
    obtain ⟨k11, h⟩ := h
    refine zg_8_90 rfl d_8081_26 k11 ?_
    refine zu_iload_n d_8081_29 rfl ?_
    obtain ⟨b12, e13, h⟩ := h
    refine zs_stk1 (zs_rfe e13) ?_
    obtain ⟨k14, h⟩ := h
    refine zu_bald (k := 1) d_8081_30 rfl (Or.inl rfl) k14 ?_
    refine zu_bipush d_8081_31 zj_7 ?_
    refine zu_cmpeq (t := 94) d_8081_33 rfl (fun c15 => ?_) (fun c15 => ?_)
    · have h := h.1 c15
      exact (u_X9_loadFor_94 hB h).weak ⟨rfl, trivial⟩
    · have h := h.2 c15
      exact (u_X9_loadFor_36 hB h).weak ⟨rfl, rfl, rfl, trivial⟩
/-! SchemaPascalModel.fits(I)Z -/
theorem zm_8082 {σ : Nat → Nat} {n0 : Nat} {bf : ab_B} : ab_code (zx σ n0 bf).1 8082 = prog_17_method_79_code := rfl
theorem zq_8082 {σ : Nat → Nat} {n0 : Nat} {bf : ab_B} : ab_maxL (zx σ n0 bf).1 8082 = 5 := rfl
theorem zr_8082 {σ : Nat → Nat} {n0 : Nat} {bf : ab_B} : ab_ret (zx σ n0 bf).1 8082 = (Option.some Jvm.ClassFile.FieldType.boolean) := rfl
theorem d_8082_0 {σ : Nat → Nat} {n0 : Nat} {bf : ab_B} : decode (ab_code (zx σ n0 bf).1 8082) 0 = .ok (.aload_n 0, 1) := zd zm_8082 (by decide +kernel)
theorem d_8082_1 {σ : Nat → Nat} {n0 : Nat} {bf : ab_B} : decode (ab_code (zx σ n0 bf).1 8082) 1 = .ok (.getfield 653, 3) := zd zm_8082 (by decide +kernel)
theorem d_8082_4 {σ : Nat → Nat} {n0 : Nat} {bf : ab_B} : decode (ab_code (zx σ n0 bf).1 8082) 4 = .ok (.iconst 1, 1) := zd zm_8082 (by decide +kernel)
theorem d_8082_5 {σ : Nat → Nat} {n0 : Nat} {bf : ab_B} : decode (ab_code (zx σ n0 bf).1 8082) 5 = .ok (.isub, 1) := zd zm_8082 (by decide +kernel)
theorem d_8082_6 {σ : Nat → Nat} {n0 : Nat} {bf : ab_B} : decode (ab_code (zx σ n0 bf).1 8082) 6 = .ok (.istore_n 2, 1) := zd zm_8082 (by decide +kernel)
theorem d_8082_7 {σ : Nat → Nat} {n0 : Nat} {bf : ab_B} : decode (ab_code (zx σ n0 bf).1 8082) 7 = .ok (.aload_n 0, 1) := zd zm_8082 (by decide +kernel)
theorem d_8082_8 {σ : Nat → Nat} {n0 : Nat} {bf : ab_B} : decode (ab_code (zx σ n0 bf).1 8082) 8 = .ok (.getfield 191, 3) := zd zm_8082 (by decide +kernel)
theorem d_8082_11 {σ : Nat → Nat} {n0 : Nat} {bf : ab_B} : decode (ab_code (zx σ n0 bf).1 8082) 11 = .ok (.iload_n 2, 1) := zd zm_8082 (by decide +kernel)
theorem d_8082_12 {σ : Nat → Nat} {n0 : Nat} {bf : ab_B} : decode (ab_code (zx σ n0 bf).1 8082) 12 = .ok (.iaload, 1) := zd zm_8082 (by decide +kernel)
theorem d_8082_13 {σ : Nat → Nat} {n0 : Nat} {bf : ab_B} : decode (ab_code (zx σ n0 bf).1 8082) 13 = .ok (.istore_n 3, 1) := zd zm_8082 (by decide +kernel)
theorem d_8082_14 {σ : Nat → Nat} {n0 : Nat} {bf : ab_B} : decode (ab_code (zx σ n0 bf).1 8082) 14 = .ok (.aload_n 0, 1) := zd zm_8082 (by decide +kernel)
theorem d_8082_15 {σ : Nat → Nat} {n0 : Nat} {bf : ab_B} : decode (ab_code (zx σ n0 bf).1 8082) 15 = .ok (.iload_n 1, 1) := zd zm_8082 (by decide +kernel)
theorem d_8082_16 {σ : Nat → Nat} {n0 : Nat} {bf : ab_B} : decode (ab_code (zx σ n0 bf).1 8082) 16 = .ok (.invokevirtual 564, 3) := zd zm_8082 (by decide +kernel)
theorem d_8082_19 {σ : Nat → Nat} {n0 : Nat} {bf : ab_B} : decode (ab_code (zx σ n0 bf).1 8082) 19 = .ok (.ifCond .eq 30, 3) := zd zm_8082 (by decide +kernel)
theorem d_8082_22 {σ : Nat → Nat} {n0 : Nat} {bf : ab_B} : decode (ab_code (zx σ n0 bf).1 8082) 22 = .ok (.aload_n 0, 1) := zd zm_8082 (by decide +kernel)
theorem d_8082_23 {σ : Nat → Nat} {n0 : Nat} {bf : ab_B} : decode (ab_code (zx σ n0 bf).1 8082) 23 = .ok (.iload_n 3, 1) := zd zm_8082 (by decide +kernel)
theorem d_8082_24 {σ : Nat → Nat} {n0 : Nat} {bf : ab_B} : decode (ab_code (zx σ n0 bf).1 8082) 24 = .ok (.invokevirtual 564, 3) := zd zm_8082 (by decide +kernel)
theorem d_8082_27 {σ : Nat → Nat} {n0 : Nat} {bf : ab_B} : decode (ab_code (zx σ n0 bf).1 8082) 27 = .ok (.ifCond .eq 20, 3) := zd zm_8082 (by decide +kernel)
theorem d_8082_30 {σ : Nat → Nat} {n0 : Nat} {bf : ab_B} : decode (ab_code (zx σ n0 bf).1 8082) 30 = .ok (.aload_n 0, 1) := zd zm_8082 (by decide +kernel)
theorem d_8082_31 {σ : Nat → Nat} {n0 : Nat} {bf : ab_B} : decode (ab_code (zx σ n0 bf).1 8082) 31 = .ok (.iload_n 3, 1) := zd zm_8082 (by decide +kernel)
theorem d_8082_32 {σ : Nat → Nat} {n0 : Nat} {bf : ab_B} : decode (ab_code (zx σ n0 bf).1 8082) 32 = .ok (.invokevirtual 561, 3) := zd zm_8082 (by decide +kernel)
theorem d_8082_35 {σ : Nat → Nat} {n0 : Nat} {bf : ab_B} : decode (ab_code (zx σ n0 bf).1 8082) 35 = .ok (.aload_n 0, 1) := zd zm_8082 (by decide +kernel)
theorem d_8082_36 {σ : Nat → Nat} {n0 : Nat} {bf : ab_B} : decode (ab_code (zx σ n0 bf).1 8082) 36 = .ok (.iload_n 1, 1) := zd zm_8082 (by decide +kernel)
theorem d_8082_37 {σ : Nat → Nat} {n0 : Nat} {bf : ab_B} : decode (ab_code (zx σ n0 bf).1 8082) 37 = .ok (.invokevirtual 561, 3) := zd zm_8082 (by decide +kernel)
theorem d_8082_40 {σ : Nat → Nat} {n0 : Nat} {bf : ab_B} : decode (ab_code (zx σ n0 bf).1 8082) 40 = .ok (.if_icmp .ne 7, 3) := zd zm_8082 (by decide +kernel)
theorem d_8082_43 {σ : Nat → Nat} {n0 : Nat} {bf : ab_B} : decode (ab_code (zx σ n0 bf).1 8082) 43 = .ok (.iconst 1, 1) := zd zm_8082 (by decide +kernel)
theorem d_8082_44 {σ : Nat → Nat} {n0 : Nat} {bf : ab_B} : decode (ab_code (zx σ n0 bf).1 8082) 44 = .ok (.goto 4, 3) := zd zm_8082 (by decide +kernel)
theorem d_8082_47 {σ : Nat → Nat} {n0 : Nat} {bf : ab_B} : decode (ab_code (zx σ n0 bf).1 8082) 47 = .ok (.iconst 0, 1) := zd zm_8082 (by decide +kernel)
theorem d_8082_48 {σ : Nat → Nat} {n0 : Nat} {bf : ab_B} : decode (ab_code (zx σ n0 bf).1 8082) 48 = .ok (.ireturn, 1) := zd zm_8082 (by decide +kernel)
theorem d_8082_49 {σ : Nat → Nat} {n0 : Nat} {bf : ab_B} : decode (ab_code (zx σ n0 bf).1 8082) 49 = .ok (.aload_n 0, 1) := zd zm_8082 (by decide +kernel)
theorem d_8082_50 {σ : Nat → Nat} {n0 : Nat} {bf : ab_B} : decode (ab_code (zx σ n0 bf).1 8082) 50 = .ok (.getfield 90, 3) := zd zm_8082 (by decide +kernel)
theorem d_8082_53 {σ : Nat → Nat} {n0 : Nat} {bf : ab_B} : decode (ab_code (zx σ n0 bf).1 8082) 53 = .ok (.iload_n 1, 1) := zd zm_8082 (by decide +kernel)
theorem d_8082_54 {σ : Nat → Nat} {n0 : Nat} {bf : ab_B} : decode (ab_code (zx σ n0 bf).1 8082) 54 = .ok (.baload, 1) := zd zm_8082 (by decide +kernel)
theorem d_8082_55 {σ : Nat → Nat} {n0 : Nat} {bf : ab_B} : decode (ab_code (zx σ n0 bf).1 8082) 55 = .ok (.bipush 7, 2) := zd zm_8082 (by decide +kernel)
theorem d_8082_57 {σ : Nat → Nat} {n0 : Nat} {bf : ab_B} : decode (ab_code (zx σ n0 bf).1 8082) 57 = .ok (.if_icmp .ne 9, 3) := zd zm_8082 (by decide +kernel)
theorem d_8082_60 {σ : Nat → Nat} {n0 : Nat} {bf : ab_B} : decode (ab_code (zx σ n0 bf).1 8082) 60 = .ok (.aload_n 0, 1) := zd zm_8082 (by decide +kernel)
theorem d_8082_61 {σ : Nat → Nat} {n0 : Nat} {bf : ab_B} : decode (ab_code (zx σ n0 bf).1 8082) 61 = .ok (.iload_n 3, 1) := zd zm_8082 (by decide +kernel)
theorem d_8082_62 {σ : Nat → Nat} {n0 : Nat} {bf : ab_B} : decode (ab_code (zx σ n0 bf).1 8082) 62 = .ok (.invokevirtual 673, 3) := zd zm_8082 (by decide +kernel)
theorem d_8082_65 {σ : Nat → Nat} {n0 : Nat} {bf : ab_B} : decode (ab_code (zx σ n0 bf).1 8082) 65 = .ok (.ireturn, 1) := zd zm_8082 (by decide +kernel)
theorem d_8082_66 {σ : Nat → Nat} {n0 : Nat} {bf : ab_B} : decode (ab_code (zx σ n0 bf).1 8082) 66 = .ok (.aload_n 0, 1) := zd zm_8082 (by decide +kernel)
theorem d_8082_67 {σ : Nat → Nat} {n0 : Nat} {bf : ab_B} : decode (ab_code (zx σ n0 bf).1 8082) 67 = .ok (.getfield 90, 3) := zd zm_8082 (by decide +kernel)
theorem d_8082_70 {σ : Nat → Nat} {n0 : Nat} {bf : ab_B} : decode (ab_code (zx σ n0 bf).1 8082) 70 = .ok (.iload_n 1, 1) := zd zm_8082 (by decide +kernel)
theorem d_8082_71 {σ : Nat → Nat} {n0 : Nat} {bf : ab_B} : decode (ab_code (zx σ n0 bf).1 8082) 71 = .ok (.baload, 1) := zd zm_8082 (by decide +kernel)
theorem d_8082_72 {σ : Nat → Nat} {n0 : Nat} {bf : ab_B} : decode (ab_code (zx σ n0 bf).1 8082) 72 = .ok (.bipush 6, 2) := zd zm_8082 (by decide +kernel)
theorem d_8082_74 {σ : Nat → Nat} {n0 : Nat} {bf : ab_B} : decode (ab_code (zx σ n0 bf).1 8082) 74 = .ok (.if_icmp .ne 10, 3) := zd zm_8082 (by decide +kernel)
theorem d_8082_77 {σ : Nat → Nat} {n0 : Nat} {bf : ab_B} : decode (ab_code (zx σ n0 bf).1 8082) 77 = .ok (.aload_n 0, 1) := zd zm_8082 (by decide +kernel)
theorem d_8082_78 {σ : Nat → Nat} {n0 : Nat} {bf : ab_B} : decode (ab_code (zx σ n0 bf).1 8082) 78 = .ok (.iload_n 1, 1) := zd zm_8082 (by decide +kernel)
theorem d_8082_79 {σ : Nat → Nat} {n0 : Nat} {bf : ab_B} : decode (ab_code (zx σ n0 bf).1 8082) 79 = .ok (.iload_n 3, 1) := zd zm_8082 (by decide +kernel)
theorem d_8082_80 {σ : Nat → Nat} {n0 : Nat} {bf : ab_B} : decode (ab_code (zx σ n0 bf).1 8082) 80 = .ok (.invokevirtual 682, 3) := zd zm_8082 (by decide +kernel)
theorem d_8082_83 {σ : Nat → Nat} {n0 : Nat} {bf : ab_B} : decode (ab_code (zx σ n0 bf).1 8082) 83 = .ok (.ireturn, 1) := zd zm_8082 (by decide +kernel)
theorem d_8082_84 {σ : Nat → Nat} {n0 : Nat} {bf : ab_B} : decode (ab_code (zx σ n0 bf).1 8082) 84 = .ok (.aload_n 0, 1) := zd zm_8082 (by decide +kernel)
theorem d_8082_85 {σ : Nat → Nat} {n0 : Nat} {bf : ab_B} : decode (ab_code (zx σ n0 bf).1 8082) 85 = .ok (.getfield 90, 3) := zd zm_8082 (by decide +kernel)
theorem d_8082_88 {σ : Nat → Nat} {n0 : Nat} {bf : ab_B} : decode (ab_code (zx σ n0 bf).1 8082) 88 = .ok (.iload_n 1, 1) := zd zm_8082 (by decide +kernel)
theorem d_8082_89 {σ : Nat → Nat} {n0 : Nat} {bf : ab_B} : decode (ab_code (zx σ n0 bf).1 8082) 89 = .ok (.baload, 1) := zd zm_8082 (by decide +kernel)
theorem d_8082_90 {σ : Nat → Nat} {n0 : Nat} {bf : ab_B} : decode (ab_code (zx σ n0 bf).1 8082) 90 = .ok (.bipush 10, 2) := zd zm_8082 (by decide +kernel)
theorem d_8082_92 {σ : Nat → Nat} {n0 : Nat} {bf : ab_B} : decode (ab_code (zx σ n0 bf).1 8082) 92 = .ok (.if_icmp .ne 10, 3) := zd zm_8082 (by decide +kernel)
theorem d_8082_95 {σ : Nat → Nat} {n0 : Nat} {bf : ab_B} : decode (ab_code (zx σ n0 bf).1 8082) 95 = .ok (.aload_n 0, 1) := zd zm_8082 (by decide +kernel)
theorem d_8082_96 {σ : Nat → Nat} {n0 : Nat} {bf : ab_B} : decode (ab_code (zx σ n0 bf).1 8082) 96 = .ok (.iload_n 1, 1) := zd zm_8082 (by decide +kernel)
theorem d_8082_97 {σ : Nat → Nat} {n0 : Nat} {bf : ab_B} : decode (ab_code (zx σ n0 bf).1 8082) 97 = .ok (.iload_n 3, 1) := zd zm_8082 (by decide +kernel)
theorem d_8082_98 {σ : Nat → Nat} {n0 : Nat} {bf : ab_B} : decode (ab_code (zx σ n0 bf).1 8082) 98 = .ok (.invokevirtual 686, 3) := zd zm_8082 (by decide +kernel)
theorem d_8082_101 {σ : Nat → Nat} {n0 : Nat} {bf : ab_B} : decode (ab_code (zx σ n0 bf).1 8082) 101 = .ok (.ireturn, 1) := zd zm_8082 (by decide +kernel)
theorem d_8082_102 {σ : Nat → Nat} {n0 : Nat} {bf : ab_B} : decode (ab_code (zx σ n0 bf).1 8082) 102 = .ok (.aload_n 0, 1) := zd zm_8082 (by decide +kernel)
theorem d_8082_103 {σ : Nat → Nat} {n0 : Nat} {bf : ab_B} : decode (ab_code (zx σ n0 bf).1 8082) 103 = .ok (.getfield 194, 3) := zd zm_8082 (by decide +kernel)
theorem d_8082_106 {σ : Nat → Nat} {n0 : Nat} {bf : ab_B} : decode (ab_code (zx σ n0 bf).1 8082) 106 = .ok (.iload_n 2, 1) := zd zm_8082 (by decide +kernel)
theorem d_8082_107 {σ : Nat → Nat} {n0 : Nat} {bf : ab_B} : decode (ab_code (zx σ n0 bf).1 8082) 107 = .ok (.baload, 1) := zd zm_8082 (by decide +kernel)
theorem d_8082_108 {σ : Nat → Nat} {n0 : Nat} {bf : ab_B} : decode (ab_code (zx σ n0 bf).1 8082) 108 = .ok (.ifCond .eq 15, 3) := zd zm_8082 (by decide +kernel)
theorem d_8082_111 {σ : Nat → Nat} {n0 : Nat} {bf : ab_B} : decode (ab_code (zx σ n0 bf).1 8082) 111 = .ok (.aload_n 0, 1) := zd zm_8082 (by decide +kernel)
theorem d_8082_112 {σ : Nat → Nat} {n0 : Nat} {bf : ab_B} : decode (ab_code (zx σ n0 bf).1 8082) 112 = .ok (.getfield 200, 3) := zd zm_8082 (by decide +kernel)
theorem d_8082_115 {σ : Nat → Nat} {n0 : Nat} {bf : ab_B} : decode (ab_code (zx σ n0 bf).1 8082) 115 = .ok (.iload_n 2, 1) := zd zm_8082 (by decide +kernel)
theorem d_8082_116 {σ : Nat → Nat} {n0 : Nat} {bf : ab_B} : decode (ab_code (zx σ n0 bf).1 8082) 116 = .ok (.iaload, 1) := zd zm_8082 (by decide +kernel)
theorem d_8082_117 {σ : Nat → Nat} {n0 : Nat} {bf : ab_B} : decode (ab_code (zx σ n0 bf).1 8082) 117 = .ok (.bipush 8, 2) := zd zm_8082 (by decide +kernel)
theorem d_8082_119 {σ : Nat → Nat} {n0 : Nat} {bf : ab_B} : decode (ab_code (zx σ n0 bf).1 8082) 119 = .ok (.iand, 1) := zd zm_8082 (by decide +kernel)
theorem d_8082_120 {σ : Nat → Nat} {n0 : Nat} {bf : ab_B} : decode (ab_code (zx σ n0 bf).1 8082) 120 = .ok (.ifCond .eq 5, 3) := zd zm_8082 (by decide +kernel)
theorem d_8082_123 {σ : Nat → Nat} {n0 : Nat} {bf : ab_B} : decode (ab_code (zx σ n0 bf).1 8082) 123 = .ok (.iconst 0, 1) := zd zm_8082 (by decide +kernel)
theorem d_8082_124 {σ : Nat → Nat} {n0 : Nat} {bf : ab_B} : decode (ab_code (zx σ n0 bf).1 8082) 124 = .ok (.ireturn, 1) := zd zm_8082 (by decide +kernel)
theorem d_8082_125 {σ : Nat → Nat} {n0 : Nat} {bf : ab_B} : decode (ab_code (zx σ n0 bf).1 8082) 125 = .ok (.aload_n 0, 1) := zd zm_8082 (by decide +kernel)
theorem d_8082_126 {σ : Nat → Nat} {n0 : Nat} {bf : ab_B} : decode (ab_code (zx σ n0 bf).1 8082) 126 = .ok (.iload_n 1, 1) := zd zm_8082 (by decide +kernel)
theorem d_8082_127 {σ : Nat → Nat} {n0 : Nat} {bf : ab_B} : decode (ab_code (zx σ n0 bf).1 8082) 127 = .ok (.invokevirtual 727, 3) := zd zm_8082 (by decide +kernel)
theorem d_8082_130 {σ : Nat → Nat} {n0 : Nat} {bf : ab_B} : decode (ab_code (zx σ n0 bf).1 8082) 130 = .ok (.istore 4, 2) := zd zm_8082 (by decide +kernel)
theorem d_8082_132 {σ : Nat → Nat} {n0 : Nat} {bf : ab_B} : decode (ab_code (zx σ n0 bf).1 8082) 132 = .ok (.iload 4, 2) := zd zm_8082 (by decide +kernel)
theorem d_8082_134 {σ : Nat → Nat} {n0 : Nat} {bf : ab_B} : decode (ab_code (zx σ n0 bf).1 8082) 134 = .ok (.ifCond .le 21, 3) := zd zm_8082 (by decide +kernel)
theorem d_8082_137 {σ : Nat → Nat} {n0 : Nat} {bf : ab_B} : decode (ab_code (zx σ n0 bf).1 8082) 137 = .ok (.aload_n 0, 1) := zd zm_8082 (by decide +kernel)
theorem d_8082_138 {σ : Nat → Nat} {n0 : Nat} {bf : ab_B} : decode (ab_code (zx σ n0 bf).1 8082) 138 = .ok (.iload_n 3, 1) := zd zm_8082 (by decide +kernel)
theorem d_8082_139 {σ : Nat → Nat} {n0 : Nat} {bf : ab_B} : decode (ab_code (zx σ n0 bf).1 8082) 139 = .ok (.invokevirtual 727, 3) := zd zm_8082 (by decide +kernel)
theorem d_8082_142 {σ : Nat → Nat} {n0 : Nat} {bf : ab_B} : decode (ab_code (zx σ n0 bf).1 8082) 142 = .ok (.iload 4, 2) := zd zm_8082 (by decide +kernel)
theorem d_8082_144 {σ : Nat → Nat} {n0 : Nat} {bf : ab_B} : decode (ab_code (zx σ n0 bf).1 8082) 144 = .ok (.if_icmp .ne 7, 3) := zd zm_8082 (by decide +kernel)
theorem d_8082_147 {σ : Nat → Nat} {n0 : Nat} {bf : ab_B} : decode (ab_code (zx σ n0 bf).1 8082) 147 = .ok (.iconst 1, 1) := zd zm_8082 (by decide +kernel)
theorem d_8082_148 {σ : Nat → Nat} {n0 : Nat} {bf : ab_B} : decode (ab_code (zx σ n0 bf).1 8082) 148 = .ok (.goto 26, 3) := zd zm_8082 (by decide +kernel)
theorem d_8082_151 {σ : Nat → Nat} {n0 : Nat} {bf : ab_B} : decode (ab_code (zx σ n0 bf).1 8082) 151 = .ok (.iconst 0, 1) := zd zm_8082 (by decide +kernel)
theorem d_8082_152 {σ : Nat → Nat} {n0 : Nat} {bf : ab_B} : decode (ab_code (zx σ n0 bf).1 8082) 152 = .ok (.goto 22, 3) := zd zm_8082 (by decide +kernel)
theorem d_8082_155 {σ : Nat → Nat} {n0 : Nat} {bf : ab_B} : decode (ab_code (zx σ n0 bf).1 8082) 155 = .ok (.iload_n 3, 1) := zd zm_8082 (by decide +kernel)
theorem d_8082_156 {σ : Nat → Nat} {n0 : Nat} {bf : ab_B} : decode (ab_code (zx σ n0 bf).1 8082) 156 = .ok (.iload_n 1, 1) := zd zm_8082 (by decide +kernel)
theorem d_8082_157 {σ : Nat → Nat} {n0 : Nat} {bf : ab_B} : decode (ab_code (zx σ n0 bf).1 8082) 157 = .ok (.if_icmp .ne 16, 3) := zd zm_8082 (by decide +kernel)
theorem d_8082_160 {σ : Nat → Nat} {n0 : Nat} {bf : ab_B} : decode (ab_code (zx σ n0 bf).1 8082) 160 = .ok (.aload_n 0, 1) := zd zm_8082 (by decide +kernel)
theorem d_8082_161 {σ : Nat → Nat} {n0 : Nat} {bf : ab_B} : decode (ab_code (zx σ n0 bf).1 8082) 161 = .ok (.getfield 105, 3) := zd zm_8082 (by decide +kernel)
theorem d_8082_164 {σ : Nat → Nat} {n0 : Nat} {bf : ab_B} : decode (ab_code (zx σ n0 bf).1 8082) 164 = .ok (.iload_n 1, 1) := zd zm_8082 (by decide +kernel)
theorem d_8082_165 {σ : Nat → Nat} {n0 : Nat} {bf : ab_B} : decode (ab_code (zx σ n0 bf).1 8082) 165 = .ok (.baload, 1) := zd zm_8082 (by decide +kernel)
theorem d_8082_166 {σ : Nat → Nat} {n0 : Nat} {bf : ab_B} : decode (ab_code (zx σ n0 bf).1 8082) 166 = .ok (.ifCond .ne 7, 3) := zd zm_8082 (by decide +kernel)
theorem d_8082_169 {σ : Nat → Nat} {n0 : Nat} {bf : ab_B} : decode (ab_code (zx σ n0 bf).1 8082) 169 = .ok (.iconst 1, 1) := zd zm_8082 (by decide +kernel)
theorem d_8082_170 {σ : Nat → Nat} {n0 : Nat} {bf : ab_B} : decode (ab_code (zx σ n0 bf).1 8082) 170 = .ok (.goto 4, 3) := zd zm_8082 (by decide +kernel)
theorem d_8082_173 {σ : Nat → Nat} {n0 : Nat} {bf : ab_B} : decode (ab_code (zx σ n0 bf).1 8082) 173 = .ok (.iconst 0, 1) := zd zm_8082 (by decide +kernel)
theorem d_8082_174 {σ : Nat → Nat} {n0 : Nat} {bf : ab_B} : decode (ab_code (zx σ n0 bf).1 8082) 174 = .ok (.ireturn, 1) := zd zm_8082 (by decide +kernel)
def w_X9_fits_47 (X : zs_X) (d : Nat)  (S : zs_T) (Q : zs_Q) : Prop :=
  (Q (.returned (some (.int (0 : Int32)))) S)
theorem u_X9_fits_47 {σ : Nat → Nat} {n0 : Nat} {bf : ab_B} {d : Nat}  {S : zs_T} {Q : zs_Q} (hB : zt_B bf) (h : w_X9_fits_47 (zx σ n0 bf) d  S Q) : zs_U (zx σ n0 bf) d 8082 47 [] [] S Q := by
  unfold w_X9_fits_47 at h
  refine zu_iconst d_8082_47 zi_0 ?_
  exact zu_iret d_8082_48 zr_8082 (zs_b_n (Or.inl rfl)) h
def w_X9_fits_30 (X : zs_X) (d : Nat) (p0 : Nat) (p1 : Int32) (p3 : Int32) (S : zs_T) (Q : zs_Q) : Prop :=
  (zs_K S p0 = some (.inl 8) ∧ zs_C X d 8042 [.ref p0, .int p3] S (zs_kI (fun v3 S2 => (zs_K S2 p0 = some (.inl 8) ∧ zs_C X d 8042 [.ref p0, .int p1] S2 (zs_kI (fun v6 S5 => (((¬ v3 = v6 → w_X9_fits_47 X d  S5 Q) ∧ (¬ (¬ v3 = v6) → (Q (.returned (some (.int (1 : Int32)))) S5))))) Q))) Q))
theorem u_X9_fits_30 {σ : Nat → Nat} {n0 : Nat} {bf : ab_B} {d : Nat} {p0 : Nat} {p1 : Int32} {p3 : Int32} {S : zs_T} {Q : zs_Q} (hB : zt_B bf) (h : w_X9_fits_30 (zx σ n0 bf) d p0 p1 p3 S Q) : zs_U (zx σ n0 bf) d 8082 30 [(0, .ref p0), (1, .int p1), (3, .int p3)] [] S Q := by
  unfold w_X9_fits_30 at h
  refine zu_aload_n d_8082_30 rfl (zs_ra _) ?_
  refine zu_iload_n d_8082_31 rfl ?_
  obtain ⟨k1, h⟩ := h
  refine zc_8_561 (x0 := p3) hB rfl k1 d_8082_32 (Nat.le_of_ble_eq_true rfl) h (fun v3 S2 h => ?_)
  refine zu_aload_n d_8082_35 rfl (zs_ra _) ?_
  refine zu_iload_n d_8082_36 rfl ?_
  obtain ⟨k4, h⟩ := h
  refine zc_8_561 (x0 := p1) hB rfl k4 d_8082_37 (Nat.le_of_ble_eq_true rfl) h (fun v6 S5 h => ?_)
  refine zu_cmpne (t := 47) d_8082_40 rfl (fun c7 => ?_) (fun c7 => ?_)
  · have h := h.1 c7
    exact (u_X9_fits_47 hB h).weak trivial
  · have h := h.2 c7
    refine zu_iconst d_8082_43 zi_1 ?_
    refine zu_goto (t := 48) d_8082_44 rfl ?_
    exact zu_iret d_8082_48 zr_8082 (zs_b_n (Or.inr rfl)) h
def w_X9_fits_60 (X : zs_X) (d : Nat) (p0 : Nat) (p3 : Int32) (S : zs_T) (Q : zs_Q) : Prop :=
  (zs_K S p0 = some (.inl 8) ∧ zs_C X d 8043 [.ref p0, .int p3] S (zs_kI (fun v3 S2 => (zs_b v3 ∧ Q (.returned (some (.int v3))) S2)) Q))
theorem u_X9_fits_60 {σ : Nat → Nat} {n0 : Nat} {bf : ab_B} {d : Nat} {p0 : Nat} {p3 : Int32} {S : zs_T} {Q : zs_Q} (hB : zt_B bf) (h : w_X9_fits_60 (zx σ n0 bf) d p0 p3 S Q) : zs_U (zx σ n0 bf) d 8082 60 [(0, .ref p0), (3, .int p3)] [] S Q := by
  unfold w_X9_fits_60 at h
  refine zu_aload_n d_8082_60 rfl (zs_ra _) ?_
  refine zu_iload_n d_8082_61 rfl ?_
  obtain ⟨k1, h⟩ := h
  refine zc_8_673 (x0 := p3) hB rfl k1 d_8082_62 (Nat.le_of_ble_eq_true rfl) h (fun v3 S2 h => ?_)
  obtain ⟨k4, h⟩ := h
  exact zu_iret d_8082_65 zr_8082 (zs_b_n k4) h
def w_X9_fits_123 (X : zs_X) (d : Nat)  (S : zs_T) (Q : zs_Q) : Prop :=
  (Q (.returned (some (.int (0 : Int32)))) S)
theorem u_X9_fits_123 {σ : Nat → Nat} {n0 : Nat} {bf : ab_B} {d : Nat}  {S : zs_T} {Q : zs_Q} (hB : zt_B bf) (h : w_X9_fits_123 (zx σ n0 bf) d  S Q) : zs_U (zx σ n0 bf) d 8082 123 [] [] S Q := by
  unfold w_X9_fits_123 at h
  refine zu_iconst d_8082_123 zi_0 ?_
  exact zu_iret d_8082_124 zr_8082 (zs_b_n (Or.inl rfl)) h
def w_X9_fits_173 (X : zs_X) (d : Nat)  (S : zs_T) (Q : zs_Q) : Prop :=
  (Q (.returned (some (.int (0 : Int32)))) S)
theorem u_X9_fits_173 {σ : Nat → Nat} {n0 : Nat} {bf : ab_B} {d : Nat}  {S : zs_T} {Q : zs_Q} (hB : zt_B bf) (h : w_X9_fits_173 (zx σ n0 bf) d  S Q) : zs_U (zx σ n0 bf) d 8082 173 [] [] S Q := by
  unfold w_X9_fits_173 at h
  refine zu_iconst d_8082_173 zi_0 ?_
  exact zu_iret d_8082_174 zr_8082 (zs_b_n (Or.inl rfl)) h
def w_X9_fits_160 (X : zs_X) (d : Nat) (p0 : Nat) (p1 : Int32) (S : zs_T) (Q : zs_Q) : Prop :=
  (zs_K S p0 = some (.inl 8) ∧ ∃ b2, (zs_R S 8049 p0) = some b2 ∧ zs_A S b2 2 p1 ∧ ((¬ (zs_i S b2 p1.toNatClampNeg) = 0 → w_X9_fits_173 X d  S Q) ∧ (¬ (¬ (zs_i S b2 p1.toNatClampNeg) = 0) → (Q (.returned (some (.int (1 : Int32)))) S))))
theorem u_X9_fits_160 {σ : Nat → Nat} {n0 : Nat} {bf : ab_B} {d : Nat} {p0 : Nat} {p1 : Int32} {S : zs_T} {Q : zs_Q} (hB : zt_B bf) (h : w_X9_fits_160 (zx σ n0 bf) d p0 p1 S Q) : zs_U (zx σ n0 bf) d 8082 160 [(0, .ref p0), (1, .int p1)] [] S Q := by
  unfold w_X9_fits_160 at h
  refine zu_aload_n d_8082_160 rfl (zs_ra _) ?_
  obtain ⟨k1, h⟩ := h
  refine zg_8_105 rfl d_8082_161 k1 ?_
  refine zu_iload_n d_8082_164 rfl ?_
  obtain ⟨b2, e3, h⟩ := h
  refine zs_stk1 (zs_rfe e3) ?_
  obtain ⟨k4, h⟩ := h
  refine zu_bald (k := 2) d_8082_165 rfl (Or.inr rfl) k4 ?_
  refine zu_ifne (t := 173) d_8082_166 rfl (fun c5 => ?_) (fun c5 => ?_)
  · have h := h.1 c5
    exact (u_X9_fits_173 hB h).weak trivial
  · have h := h.2 c5
    refine zu_iconst d_8082_169 zi_1 ?_
    refine zu_goto (t := 174) d_8082_170 rfl ?_
    exact zu_iret d_8082_174 zr_8082 (zs_b_n (Or.inr rfl)) h
def w_X9_fits_151 (X : zs_X) (d : Nat)  (S : zs_T) (Q : zs_Q) : Prop :=
  (Q (.returned (some (.int (0 : Int32)))) S)
theorem u_X9_fits_151 {σ : Nat → Nat} {n0 : Nat} {bf : ab_B} {d : Nat}  {S : zs_T} {Q : zs_Q} (hB : zt_B bf) (h : w_X9_fits_151 (zx σ n0 bf) d  S Q) : zs_U (zx σ n0 bf) d 8082 151 [] [] S Q := by
  unfold w_X9_fits_151 at h
  refine zu_iconst d_8082_151 zi_0 ?_
  refine zu_goto (t := 174) d_8082_152 rfl ?_
  exact zu_iret d_8082_174 zr_8082 (zs_b_n (Or.inl rfl)) h
def w_X9_fits_147 (X : zs_X) (d : Nat)  (S : zs_T) (Q : zs_Q) : Prop :=
  (Q (.returned (some (.int (1 : Int32)))) S)
theorem u_X9_fits_147 {σ : Nat → Nat} {n0 : Nat} {bf : ab_B} {d : Nat}  {S : zs_T} {Q : zs_Q} (hB : zt_B bf) (h : w_X9_fits_147 (zx σ n0 bf) d  S Q) : zs_U (zx σ n0 bf) d 8082 147 [] [] S Q := by
  unfold w_X9_fits_147 at h
  refine zu_iconst d_8082_147 zi_1 ?_
  refine zu_goto (t := 174) d_8082_148 rfl ?_
  exact zu_iret d_8082_174 zr_8082 (zs_b_n (Or.inr rfl)) h
def w_X9_fits_111 (X : zs_X) (d : Nat) (p0 : Nat) (p1 : Int32) (p2 : Int32) (p3 : Int32) (S : zs_T) (Q : zs_Q) : Prop :=
  (zs_K S p0 = some (.inl 8) ∧ ∃ b2, (zs_R S 8094 p0) = some b2 ∧ zs_A S b2 0 p2 ∧ ((((zs_i S b2 p2.toNatClampNeg) &&& (8 : Int32)) = 0 → (zs_C X d 8074 [.ref p0, .int p1] S (zs_kI (fun v7 S6 => (((v7 ≤ 0 → (((¬ p3 = p1 → w_X9_fits_173 X d  S6 Q) ∧ (¬ (¬ p3 = p1) → w_X9_fits_160 X d p0 p1 S6 Q)))) ∧ (¬ (v7 ≤ 0) → (zs_K S6 p0 = some (.inl 8) ∧ zs_C X d 8074 [.ref p0, .int p3] S6 (zs_kI (fun v12 S11 => (((¬ v12 = v7 → w_X9_fits_151 X d  S11 Q) ∧ (¬ (¬ v12 = v7) → w_X9_fits_147 X d  S11 Q)))) Q)))))) Q))) ∧ (¬ (((zs_i S b2 p2.toNatClampNeg) &&& (8 : Int32)) = 0) → w_X9_fits_123 X d  S Q)))
theorem u_X9_fits_111 {σ : Nat → Nat} {n0 : Nat} {bf : ab_B} {d : Nat} {p0 : Nat} {p1 : Int32} {p2 : Int32} {p3 : Int32} {S : zs_T} {Q : zs_Q} (hB : zt_B bf) (h : w_X9_fits_111 (zx σ n0 bf) d p0 p1 p2 p3 S Q) : zs_U (zx σ n0 bf) d 8082 111 [(0, .ref p0), (1, .int p1), (2, .int p2), (3, .int p3)] [] S Q := by
  unfold w_X9_fits_111 at h
  refine zu_aload_n d_8082_111 rfl (zs_ra _) ?_
  obtain ⟨k1, h⟩ := h
  refine zg_8_200 rfl d_8082_112 k1 ?_
  refine zu_iload_n d_8082_115 rfl ?_
  obtain ⟨b2, e3, h⟩ := h
  refine zs_stk1 (zs_rfe e3) ?_
  obtain ⟨k4, h⟩ := h
  refine zu_iald (k := 0) d_8082_116 rfl rfl k4 ?_
  refine zu_bipush d_8082_117 zj_8 ?_
  refine zu_stk d_8082_119 rfl rfl ?_
  refine zu_ifeq (t := 125) d_8082_120 rfl (fun c5 => ?_) (fun c5 => ?_)
  · have h := h.1 c5
    refine zu_aload_n d_8082_125 rfl (zs_ra _) ?_
    refine zu_iload_n d_8082_126 rfl ?_
    refine zc_8_727 (x0 := p1) hB rfl k1 d_8082_127 (Nat.le_of_ble_eq_true rfl) h (fun v7 S6 h => ?_)
    refine zu_istore d_8082_130 (zs_lt zq_8082 rfl) ?_
    refine zu_iload d_8082_132 rfl ?_
    refine zu_ifle (t := 155) d_8082_134 rfl (fun c8 => ?_) (fun c8 => ?_)
    · have h := h.1 c8
      refine zu_iload_n d_8082_155 rfl ?_
      refine zu_iload_n d_8082_156 rfl ?_
      refine zu_cmpne (t := 173) d_8082_157 rfl (fun c9 => ?_) (fun c9 => ?_)
      · have h := h.1 c9
        exact (u_X9_fits_173 hB h).weak trivial
      · have h := h.2 c9
        exact (u_X9_fits_160 hB h).weak ⟨rfl, rfl, trivial⟩
    · have h := h.2 c8
      refine zu_aload_n d_8082_137 rfl (zs_ra _) ?_
      refine zu_iload_n d_8082_138 rfl ?_
      obtain ⟨k10, h⟩ := h
      refine zc_8_727 (x0 := p3) hB rfl k10 d_8082_139 (Nat.le_of_ble_eq_true rfl) h (fun v12 S11 h => ?_)
      refine zu_iload d_8082_142 rfl ?_
      refine zu_cmpne (t := 151) d_8082_144 rfl (fun c13 => ?_) (fun c13 => ?_)
      · have h := h.1 c13
        exact (u_X9_fits_151 hB h).weak trivial
      · have h := h.2 c13
        exact (u_X9_fits_147 hB h).weak trivial
  · have h := h.2 c5
    exact (u_X9_fits_123 hB h).weak trivial
def w_X9_fits_66 (X : zs_X) (d : Nat) (p0 : Nat) (p1 : Int32) (p2 : Int32) (p3 : Int32) (S : zs_T) (Q : zs_Q) : Prop :=
  (zs_K S p0 = some (.inl 8) ∧ ∃ b2, (zs_R S 8044 p0) = some b2 ∧ zs_A S b2 1 p1 ∧ ((¬ (zs_i S b2 p1.toNatClampNeg) = (6 : Int32) → (((¬ (zs_i S b2 p1.toNatClampNeg) = (10 : Int32) → (∃ b7, (zs_R S 8092 p0) = some b7 ∧ zs_A S b7 2 p2 ∧ (((zs_i S b7 p2.toNatClampNeg) = 0 → w_X9_fits_123 X d  S Q) ∧ (¬ ((zs_i S b7 p2.toNatClampNeg) = 0) → w_X9_fits_111 X d p0 p1 p2 p3 S Q)))) ∧ (¬ (¬ (zs_i S b2 p1.toNatClampNeg) = (10 : Int32)) → (zs_C X d 8047 [.ref p0, .int p1, .int p3] S (zs_kI (fun v12 S11 => (zs_b v12 ∧ Q (.returned (some (.int v12))) S11)) Q)))))) ∧ (¬ (¬ (zs_i S b2 p1.toNatClampNeg) = (6 : Int32)) → (zs_C X d 8046 [.ref p0, .int p1, .int p3] S (zs_kI (fun v15 S14 => (zs_b v15 ∧ Q (.returned (some (.int v15))) S14)) Q)))))
theorem u_X9_fits_66 {σ : Nat → Nat} {n0 : Nat} {bf : ab_B} {d : Nat} {p0 : Nat} {p1 : Int32} {p2 : Int32} {p3 : Int32} {S : zs_T} {Q : zs_Q} (hB : zt_B bf) (h : w_X9_fits_66 (zx σ n0 bf) d p0 p1 p2 p3 S Q) : zs_U (zx σ n0 bf) d 8082 66 [(0, .ref p0), (1, .int p1), (2, .int p2), (3, .int p3)] [] S Q := by
  unfold w_X9_fits_66 at h
  refine zu_aload_n d_8082_66 rfl (zs_ra _) ?_
  obtain ⟨k1, h⟩ := h
  refine zg_8_90 rfl d_8082_67 k1 ?_
  refine zu_iload_n d_8082_70 rfl ?_
  obtain ⟨b2, e3, h⟩ := h
  refine zs_stk1 (zs_rfe e3) ?_
  obtain ⟨k4, h⟩ := h
  refine zu_bald (k := 1) d_8082_71 rfl (Or.inl rfl) k4 ?_
  refine zu_bipush d_8082_72 zj_6 ?_
  refine zu_cmpne (t := 84) d_8082_74 rfl (fun c5 => ?_) (fun c5 => ?_)
  · have h := h.1 c5
    refine zu_aload_n d_8082_84 rfl (zs_ra _) ?_
    refine zg_8_90 rfl d_8082_85 k1 ?_
    refine zu_iload_n d_8082_88 rfl ?_
    refine zs_stk1 (zs_rfe e3) ?_
    refine zu_bald (k := 1) d_8082_89 rfl (Or.inl rfl) k4 ?_
    refine zu_bipush d_8082_90 zj_10 ?_
    refine zu_cmpne (t := 102) d_8082_92 rfl (fun c6 => ?_) (fun c6 => ?_)
    · have h := h.1 c6
      refine zu_aload_n d_8082_102 rfl (zs_ra _) ?_
      refine zg_8_194 rfl d_8082_103 k1 ?_
      refine zu_iload_n d_8082_106 rfl ?_
      obtain ⟨b7, e8, h⟩ := h
      refine zs_stk1 (zs_rfe e8) ?_
      obtain ⟨k9, h⟩ := h
      refine zu_bald (k := 2) d_8082_107 rfl (Or.inr rfl) k9 ?_
      refine zu_ifeq (t := 123) d_8082_108 rfl (fun c10 => ?_) (fun c10 => ?_)
      · have h := h.1 c10
        exact (u_X9_fits_123 hB h).weak trivial
      · have h := h.2 c10
        exact (u_X9_fits_111 hB h).weak ⟨rfl, rfl, rfl, rfl, trivial⟩
    · have h := h.2 c6
      refine zu_aload_n d_8082_95 rfl (zs_ra _) ?_
      refine zu_iload_n d_8082_96 rfl ?_
      refine zu_iload_n d_8082_97 rfl ?_
      refine zc_8_686 (x0 := p1) (x1 := p3) hB rfl k1 d_8082_98 (Nat.le_of_ble_eq_true rfl) h (fun v12 S11 h => ?_)
      obtain ⟨k13, h⟩ := h
      exact zu_iret d_8082_101 zr_8082 (zs_b_n k13) h
  · have h := h.2 c5
    refine zu_aload_n d_8082_77 rfl (zs_ra _) ?_
    refine zu_iload_n d_8082_78 rfl ?_
    refine zu_iload_n d_8082_79 rfl ?_
    refine zc_8_682 (x0 := p1) (x1 := p3) hB rfl k1 d_8082_80 (Nat.le_of_ble_eq_true rfl) h (fun v15 S14 h => ?_)
    obtain ⟨k16, h⟩ := h
    exact zu_iret d_8082_83 zr_8082 (zs_b_n k16) h
def w_X9_fits (X : zs_X) (d : Nat) (p0 : Nat) (p1 : Int32) (S : zs_T) (Q : zs_Q) : Prop :=
  (zs_K S p0 = some (.inl 8) ∧ ∃ b2, (zs_R S 8091 p0) = some b2 ∧ zs_A S b2 0 ((zs_I S 8097 p0) - (1 : Int32)) ∧ zs_C X d 8036 [.ref p0, .int p1] S (zs_kI (fun v6 S5 => (((v6 = 0 → (zs_K S5 p0 = some (.inl 8) ∧ ∃ b9, (zs_R S5 8044 p0) = some b9 ∧ zs_A S5 b9 1 p1 ∧ ((¬ (zs_i S5 b9 p1.toNatClampNeg) = (7 : Int32) → w_X9_fits_66 X d p0 p1 ((zs_I S 8097 p0) - (1 : Int32)) (zs_i S b2 ((zs_I S 8097 p0) - (1 : Int32)).toNatClampNeg) S5 Q) ∧ (¬ (¬ (zs_i S5 b9 p1.toNatClampNeg) = (7 : Int32)) → w_X9_fits_60 X d p0 (zs_i S b2 ((zs_I S 8097 p0) - (1 : Int32)).toNatClampNeg) S5 Q)))) ∧ (¬ (v6 = 0) → (zs_K S5 p0 = some (.inl 8) ∧ zs_C X d 8036 [.ref p0, .int (zs_i S b2 ((zs_I S 8097 p0) - (1 : Int32)).toNatClampNeg)] S5 (zs_kI (fun v15 S14 => (((v15 = 0 → w_X9_fits_47 X d  S14 Q) ∧ (¬ (v15 = 0) → w_X9_fits_30 X d p0 p1 (zs_i S b2 ((zs_I S 8097 p0) - (1 : Int32)).toNatClampNeg) S14 Q)))) Q)))))) Q))
theorem u_X9_fits {σ : Nat → Nat} {n0 : Nat} {bf : ab_B} {d : Nat} {p0 : Nat} {p1 : Int32} {S : zs_T} {Q : zs_Q} (hB : zt_B bf) (hd : 1 ≤ d) (h : w_X9_fits (zx σ n0 bf) (d - 1) p0 p1 S Q) : zs_C (zx σ n0 bf) d 8082 [.ref p0, .int p1] S Q := by
  have hL : lv_args 0 [.ref p0, .int p1] = [(0, .ref p0), (1, .int p1)] := rfl
  refine zs_C.of1 (hB.2 8082 (by decide) (by decide)) hd (by rw [hL]; exact zs_sub_self _ (by exact ⟨rfl, rfl, trivial⟩)) ?_
  rw [hL]
  clear hL
  unfold w_X9_fits at h
  refine zu_aload_n d_8082_0 rfl (zs_ra _) ?_
  obtain ⟨k1, h⟩ := h
  refine zg_8_653 rfl d_8082_1 k1 ?_
  refine zu_iconst d_8082_4 zi_1 ?_
  refine zu_stk d_8082_5 rfl rfl ?_
  refine zu_istore_n d_8082_6 (zs_lt zq_8082 rfl) ?_
  refine zu_aload_n d_8082_7 rfl (zs_ra _) ?_
  refine zg_8_191 rfl d_8082_8 k1 ?_
  refine zu_iload_n d_8082_11 rfl ?_
  obtain ⟨b2, e3, h⟩ := h
  refine zs_stk1 (zs_rfe e3) ?_
  obtain ⟨k4, h⟩ := h
  refine zu_iald (k := 0) d_8082_12 rfl rfl k4 ?_
  refine zu_istore_n d_8082_13 (zs_lt zq_8082 rfl) ?_
  refine zu_aload_n d_8082_14 rfl (zs_ra _) ?_
  refine zu_iload_n d_8082_15 rfl ?_
  refine zc_8_564 (x0 := p1) hB rfl k1 d_8082_16 (Nat.le_of_ble_eq_true rfl) h (fun v6 S5 h => ?_)
  refine zu_ifeq (t := 49) d_8082_19 rfl (fun c7 => ?_) (fun c7 => ?_)
  · have h := h.1 c7
    refine zu_aload_n d_8082_49 rfl (zs_ra _) ?_
    obtain ⟨k8, h⟩ := h
    refine zg_8_90 rfl d_8082_50 k8 ?_
    refine zu_iload_n d_8082_53 rfl ?_
    obtain ⟨b9, e10, h⟩ := h
    refine zs_stk1 (zs_rfe e10) ?_
    obtain ⟨k11, h⟩ := h
    refine zu_bald (k := 1) d_8082_54 rfl (Or.inl rfl) k11 ?_
    refine zu_bipush d_8082_55 zj_7 ?_
    refine zu_cmpne (t := 66) d_8082_57 rfl (fun c12 => ?_) (fun c12 => ?_)
    · have h := h.1 c12
      exact (u_X9_fits_66 hB h).weak ⟨rfl, rfl, rfl, rfl, trivial⟩
    · have h := h.2 c12
      exact (u_X9_fits_60 hB h).weak ⟨rfl, rfl, trivial⟩
  · have h := h.2 c7
    refine zu_aload_n d_8082_22 rfl (zs_ra _) ?_
    refine zu_iload_n d_8082_23 rfl ?_
    obtain ⟨k13, h⟩ := h
    refine zc_8_564 (x0 := (zs_i S b2 ((zs_I S 8097 p0) - (1 : Int32)).toNatClampNeg)) hB rfl k13 d_8082_24 (Nat.le_of_ble_eq_true rfl) h (fun v15 S14 h => ?_)
    refine zu_ifeq (t := 47) d_8082_27 rfl (fun c16 => ?_) (fun c16 => ?_)
    · have h := h.1 c16
      exact (u_X9_fits_47 hB h).weak trivial
    · have h := h.2 c16
      exact (u_X9_fits_30 hB h).weak ⟨rfl, rfl, rfl, trivial⟩
/-! SchemaPascalModel.stands(I)Z -/
theorem zm_8083 {σ : Nat → Nat} {n0 : Nat} {bf : ab_B} : ab_code (zx σ n0 bf).1 8083 = prog_17_method_80_code := rfl
theorem zq_8083 {σ : Nat → Nat} {n0 : Nat} {bf : ab_B} : ab_maxL (zx σ n0 bf).1 8083 = 4 := rfl
theorem zr_8083 {σ : Nat → Nat} {n0 : Nat} {bf : ab_B} : ab_ret (zx σ n0 bf).1 8083 = (Option.some Jvm.ClassFile.FieldType.boolean) := rfl
theorem d_8083_0 {σ : Nat → Nat} {n0 : Nat} {bf : ab_B} : decode (ab_code (zx σ n0 bf).1 8083) 0 = .ok (.aload_n 0, 1) := zd zm_8083 (by decide +kernel)
theorem d_8083_1 {σ : Nat → Nat} {n0 : Nat} {bf : ab_B} : decode (ab_code (zx σ n0 bf).1 8083) 1 = .ok (.getfield 653, 3) := zd zm_8083 (by decide +kernel)
theorem d_8083_4 {σ : Nat → Nat} {n0 : Nat} {bf : ab_B} : decode (ab_code (zx σ n0 bf).1 8083) 4 = .ok (.iconst 1, 1) := zd zm_8083 (by decide +kernel)
theorem d_8083_5 {σ : Nat → Nat} {n0 : Nat} {bf : ab_B} : decode (ab_code (zx σ n0 bf).1 8083) 5 = .ok (.isub, 1) := zd zm_8083 (by decide +kernel)
theorem d_8083_6 {σ : Nat → Nat} {n0 : Nat} {bf : ab_B} : decode (ab_code (zx σ n0 bf).1 8083) 6 = .ok (.istore_n 2, 1) := zd zm_8083 (by decide +kernel)
theorem d_8083_7 {σ : Nat → Nat} {n0 : Nat} {bf : ab_B} : decode (ab_code (zx σ n0 bf).1 8083) 7 = .ok (.aload_n 0, 1) := zd zm_8083 (by decide +kernel)
theorem d_8083_8 {σ : Nat → Nat} {n0 : Nat} {bf : ab_B} : decode (ab_code (zx σ n0 bf).1 8083) 8 = .ok (.iload_n 1, 1) := zd zm_8083 (by decide +kernel)
theorem d_8083_9 {σ : Nat → Nat} {n0 : Nat} {bf : ab_B} : decode (ab_code (zx σ n0 bf).1 8083) 9 = .ok (.invokevirtual 727, 3) := zd zm_8083 (by decide +kernel)
theorem d_8083_12 {σ : Nat → Nat} {n0 : Nat} {bf : ab_B} : decode (ab_code (zx σ n0 bf).1 8083) 12 = .ok (.istore_n 3, 1) := zd zm_8083 (by decide +kernel)
theorem d_8083_13 {σ : Nat → Nat} {n0 : Nat} {bf : ab_B} : decode (ab_code (zx σ n0 bf).1 8083) 13 = .ok (.aload_n 0, 1) := zd zm_8083 (by decide +kernel)
theorem d_8083_14 {σ : Nat → Nat} {n0 : Nat} {bf : ab_B} : decode (ab_code (zx σ n0 bf).1 8083) 14 = .ok (.getfield 194, 3) := zd zm_8083 (by decide +kernel)
theorem d_8083_17 {σ : Nat → Nat} {n0 : Nat} {bf : ab_B} : decode (ab_code (zx σ n0 bf).1 8083) 17 = .ok (.iload_n 2, 1) := zd zm_8083 (by decide +kernel)
theorem d_8083_18 {σ : Nat → Nat} {n0 : Nat} {bf : ab_B} : decode (ab_code (zx σ n0 bf).1 8083) 18 = .ok (.baload, 1) := zd zm_8083 (by decide +kernel)
theorem d_8083_19 {σ : Nat → Nat} {n0 : Nat} {bf : ab_B} : decode (ab_code (zx σ n0 bf).1 8083) 19 = .ok (.ifCond .eq 50, 3) := zd zm_8083 (by decide +kernel)
theorem d_8083_22 {σ : Nat → Nat} {n0 : Nat} {bf : ab_B} : decode (ab_code (zx σ n0 bf).1 8083) 22 = .ok (.aload_n 0, 1) := zd zm_8083 (by decide +kernel)
theorem d_8083_23 {σ : Nat → Nat} {n0 : Nat} {bf : ab_B} : decode (ab_code (zx σ n0 bf).1 8083) 23 = .ok (.getfield 200, 3) := zd zm_8083 (by decide +kernel)
theorem d_8083_26 {σ : Nat → Nat} {n0 : Nat} {bf : ab_B} : decode (ab_code (zx σ n0 bf).1 8083) 26 = .ok (.iload_n 2, 1) := zd zm_8083 (by decide +kernel)
theorem d_8083_27 {σ : Nat → Nat} {n0 : Nat} {bf : ab_B} : decode (ab_code (zx σ n0 bf).1 8083) 27 = .ok (.iaload, 1) := zd zm_8083 (by decide +kernel)
theorem d_8083_28 {σ : Nat → Nat} {n0 : Nat} {bf : ab_B} : decode (ab_code (zx σ n0 bf).1 8083) 28 = .ok (.bipush 8, 2) := zd zm_8083 (by decide +kernel)
theorem d_8083_30 {σ : Nat → Nat} {n0 : Nat} {bf : ab_B} : decode (ab_code (zx σ n0 bf).1 8083) 30 = .ok (.iand, 1) := zd zm_8083 (by decide +kernel)
theorem d_8083_31 {σ : Nat → Nat} {n0 : Nat} {bf : ab_B} : decode (ab_code (zx σ n0 bf).1 8083) 31 = .ok (.ifCond .ne 38, 3) := zd zm_8083 (by decide +kernel)
theorem d_8083_34 {σ : Nat → Nat} {n0 : Nat} {bf : ab_B} : decode (ab_code (zx σ n0 bf).1 8083) 34 = .ok (.iload_n 3, 1) := zd zm_8083 (by decide +kernel)
theorem d_8083_35 {σ : Nat → Nat} {n0 : Nat} {bf : ab_B} : decode (ab_code (zx σ n0 bf).1 8083) 35 = .ok (.ifCond .le 20, 3) := zd zm_8083 (by decide +kernel)
theorem d_8083_38 {σ : Nat → Nat} {n0 : Nat} {bf : ab_B} : decode (ab_code (zx σ n0 bf).1 8083) 38 = .ok (.aload_n 0, 1) := zd zm_8083 (by decide +kernel)
theorem d_8083_39 {σ : Nat → Nat} {n0 : Nat} {bf : ab_B} : decode (ab_code (zx σ n0 bf).1 8083) 39 = .ok (.aload_n 0, 1) := zd zm_8083 (by decide +kernel)
theorem d_8083_40 {σ : Nat → Nat} {n0 : Nat} {bf : ab_B} : decode (ab_code (zx σ n0 bf).1 8083) 40 = .ok (.getfield 191, 3) := zd zm_8083 (by decide +kernel)
theorem d_8083_43 {σ : Nat → Nat} {n0 : Nat} {bf : ab_B} : decode (ab_code (zx σ n0 bf).1 8083) 43 = .ok (.iload_n 2, 1) := zd zm_8083 (by decide +kernel)
theorem d_8083_44 {σ : Nat → Nat} {n0 : Nat} {bf : ab_B} : decode (ab_code (zx σ n0 bf).1 8083) 44 = .ok (.iaload, 1) := zd zm_8083 (by decide +kernel)
theorem d_8083_45 {σ : Nat → Nat} {n0 : Nat} {bf : ab_B} : decode (ab_code (zx σ n0 bf).1 8083) 45 = .ok (.invokevirtual 727, 3) := zd zm_8083 (by decide +kernel)
theorem d_8083_48 {σ : Nat → Nat} {n0 : Nat} {bf : ab_B} : decode (ab_code (zx σ n0 bf).1 8083) 48 = .ok (.iload_n 3, 1) := zd zm_8083 (by decide +kernel)
theorem d_8083_49 {σ : Nat → Nat} {n0 : Nat} {bf : ab_B} : decode (ab_code (zx σ n0 bf).1 8083) 49 = .ok (.if_icmp .ne 20, 3) := zd zm_8083 (by decide +kernel)
theorem d_8083_52 {σ : Nat → Nat} {n0 : Nat} {bf : ab_B} : decode (ab_code (zx σ n0 bf).1 8083) 52 = .ok (.goto 13, 3) := zd zm_8083 (by decide +kernel)
theorem d_8083_55 {σ : Nat → Nat} {n0 : Nat} {bf : ab_B} : decode (ab_code (zx σ n0 bf).1 8083) 55 = .ok (.aload_n 0, 1) := zd zm_8083 (by decide +kernel)
theorem d_8083_56 {σ : Nat → Nat} {n0 : Nat} {bf : ab_B} : decode (ab_code (zx σ n0 bf).1 8083) 56 = .ok (.getfield 191, 3) := zd zm_8083 (by decide +kernel)
theorem d_8083_59 {σ : Nat → Nat} {n0 : Nat} {bf : ab_B} : decode (ab_code (zx σ n0 bf).1 8083) 59 = .ok (.iload_n 2, 1) := zd zm_8083 (by decide +kernel)
theorem d_8083_60 {σ : Nat → Nat} {n0 : Nat} {bf : ab_B} : decode (ab_code (zx σ n0 bf).1 8083) 60 = .ok (.iaload, 1) := zd zm_8083 (by decide +kernel)
theorem d_8083_61 {σ : Nat → Nat} {n0 : Nat} {bf : ab_B} : decode (ab_code (zx σ n0 bf).1 8083) 61 = .ok (.iload_n 1, 1) := zd zm_8083 (by decide +kernel)
theorem d_8083_62 {σ : Nat → Nat} {n0 : Nat} {bf : ab_B} : decode (ab_code (zx σ n0 bf).1 8083) 62 = .ok (.if_icmp .ne 7, 3) := zd zm_8083 (by decide +kernel)
theorem d_8083_65 {σ : Nat → Nat} {n0 : Nat} {bf : ab_B} : decode (ab_code (zx σ n0 bf).1 8083) 65 = .ok (.iconst 1, 1) := zd zm_8083 (by decide +kernel)
theorem d_8083_66 {σ : Nat → Nat} {n0 : Nat} {bf : ab_B} : decode (ab_code (zx σ n0 bf).1 8083) 66 = .ok (.goto 4, 3) := zd zm_8083 (by decide +kernel)
theorem d_8083_69 {σ : Nat → Nat} {n0 : Nat} {bf : ab_B} : decode (ab_code (zx σ n0 bf).1 8083) 69 = .ok (.iconst 0, 1) := zd zm_8083 (by decide +kernel)
theorem d_8083_70 {σ : Nat → Nat} {n0 : Nat} {bf : ab_B} : decode (ab_code (zx σ n0 bf).1 8083) 70 = .ok (.ireturn, 1) := zd zm_8083 (by decide +kernel)
def w_X9_stands_69 (X : zs_X) (d : Nat)  (S : zs_T) (Q : zs_Q) : Prop :=
  (Q (.returned (some (.int (0 : Int32)))) S)
theorem u_X9_stands_69 {σ : Nat → Nat} {n0 : Nat} {bf : ab_B} {d : Nat}  {S : zs_T} {Q : zs_Q} (hB : zt_B bf) (h : w_X9_stands_69 (zx σ n0 bf) d  S Q) : zs_U (zx σ n0 bf) d 8083 69 [] [] S Q := by
  unfold w_X9_stands_69 at h
  refine zu_iconst d_8083_69 zi_0 ?_
  exact zu_iret d_8083_70 zr_8083 (zs_b_n (Or.inl rfl)) h
def w_X9_stands_34 (X : zs_X) (d : Nat) (p0 : Nat) (p1 : Int32) (p2 : Int32) (p3 : Int32) (S : zs_T) (Q : zs_Q) : Prop :=
  (((p3 ≤ 0 → (zs_K S p0 = some (.inl 8) ∧ ∃ b3, (zs_R S 8091 p0) = some b3 ∧ zs_A S b3 0 p2 ∧ ((¬ (zs_i S b3 p2.toNatClampNeg) = p1 → w_X9_stands_69 X d  S Q) ∧ (¬ (¬ (zs_i S b3 p2.toNatClampNeg) = p1) → (Q (.returned (some (.int (1 : Int32)))) S))))) ∧ (¬ (p3 ≤ 0) → (zs_K S p0 = some (.inl 8) ∧ ∃ b8, (zs_R S 8091 p0) = some b8 ∧ zs_A S b8 0 p2 ∧ zs_C X d 8074 [.ref p0, .int (zs_i S b8 p2.toNatClampNeg)] S (zs_kI (fun v12 S11 => (((¬ v12 = p3 → w_X9_stands_69 X d  S11 Q) ∧ (¬ (¬ v12 = p3) → (Q (.returned (some (.int (1 : Int32)))) S11))))) Q)))))
theorem u_X9_stands_34 {σ : Nat → Nat} {n0 : Nat} {bf : ab_B} {d : Nat} {p0 : Nat} {p1 : Int32} {p2 : Int32} {p3 : Int32} {S : zs_T} {Q : zs_Q} (hB : zt_B bf) (h : w_X9_stands_34 (zx σ n0 bf) d p0 p1 p2 p3 S Q) : zs_U (zx σ n0 bf) d 8083 34 [(0, .ref p0), (1, .int p1), (2, .int p2), (3, .int p3)] [] S Q := by
  unfold w_X9_stands_34 at h
  refine zu_iload_n d_8083_34 rfl ?_
  refine zu_ifle (t := 55) d_8083_35 rfl (fun c1 => ?_) (fun c1 => ?_)
  · have h := h.1 c1
    refine zu_aload_n d_8083_55 rfl (zs_ra _) ?_
    obtain ⟨k2, h⟩ := h
    refine zg_8_191 rfl d_8083_56 k2 ?_
    refine zu_iload_n d_8083_59 rfl ?_
    obtain ⟨b3, e4, h⟩ := h
    refine zs_stk1 (zs_rfe e4) ?_
    obtain ⟨k5, h⟩ := h
    refine zu_iald (k := 0) d_8083_60 rfl rfl k5 ?_
    refine zu_iload_n d_8083_61 rfl ?_
    refine zu_cmpne (t := 69) d_8083_62 rfl (fun c6 => ?_) (fun c6 => ?_)
    · have h := h.1 c6
      exact (u_X9_stands_69 hB h).weak trivial
    · have h := h.2 c6
      refine zu_iconst d_8083_65 zi_1 ?_
      refine zu_goto (t := 70) d_8083_66 rfl ?_
      exact zu_iret d_8083_70 zr_8083 (zs_b_n (Or.inr rfl)) h
  · have h := h.2 c1
    refine zu_aload_n d_8083_38 rfl (zs_ra _) ?_
    refine zu_aload_n d_8083_39 rfl (zs_ra _) ?_
    obtain ⟨k7, h⟩ := h
    refine zg_8_191 rfl d_8083_40 k7 ?_
    refine zu_iload_n d_8083_43 rfl ?_
    obtain ⟨b8, e9, h⟩ := h
    refine zs_stk1 (zs_rfe e9) ?_
    obtain ⟨k10, h⟩ := h
    refine zu_iald (k := 0) d_8083_44 rfl rfl k10 ?_
    refine zc_8_727 (x0 := (zs_i S b8 p2.toNatClampNeg)) hB rfl k7 d_8083_45 (Nat.le_of_ble_eq_true rfl) h (fun v12 S11 h => ?_)
    refine zu_iload_n d_8083_48 rfl ?_
    refine zu_cmpne (t := 69) d_8083_49 rfl (fun c13 => ?_) (fun c13 => ?_)
    · have h := h.1 c13
      exact (u_X9_stands_69 hB h).weak trivial
    · have h := h.2 c13
      refine zu_goto (t := 65) d_8083_52 rfl ?_
      refine zu_iconst d_8083_65 zi_1 ?_
      refine zu_goto (t := 70) d_8083_66 rfl ?_
      exact zu_iret d_8083_70 zr_8083 (zs_b_n (Or.inr rfl)) h
def w_X9_stands (X : zs_X) (d : Nat) (p0 : Nat) (p1 : Int32) (S : zs_T) (Q : zs_Q) : Prop :=
  (zs_K S p0 = some (.inl 8) ∧ zs_C X d 8074 [.ref p0, .int p1] S (zs_kI (fun v3 S2 => (zs_K S2 p0 = some (.inl 8) ∧ ∃ b5, (zs_R S2 8092 p0) = some b5 ∧ zs_A S2 b5 2 ((zs_I S 8097 p0) - (1 : Int32)) ∧ (((zs_i S2 b5 ((zs_I S 8097 p0) - (1 : Int32)).toNatClampNeg) = 0 → w_X9_stands_69 X d  S2 Q) ∧ (¬ ((zs_i S2 b5 ((zs_I S 8097 p0) - (1 : Int32)).toNatClampNeg) = 0) → (∃ b9, (zs_R S2 8094 p0) = some b9 ∧ zs_A S2 b9 0 ((zs_I S 8097 p0) - (1 : Int32)) ∧ ((¬ ((zs_i S2 b9 ((zs_I S 8097 p0) - (1 : Int32)).toNatClampNeg) &&& (8 : Int32)) = 0 → w_X9_stands_69 X d  S2 Q) ∧ (¬ (¬ ((zs_i S2 b9 ((zs_I S 8097 p0) - (1 : Int32)).toNatClampNeg) &&& (8 : Int32)) = 0) → w_X9_stands_34 X d p0 p1 ((zs_I S 8097 p0) - (1 : Int32)) v3 S2 Q))))))) Q))
theorem u_X9_stands {σ : Nat → Nat} {n0 : Nat} {bf : ab_B} {d : Nat} {p0 : Nat} {p1 : Int32} {S : zs_T} {Q : zs_Q} (hB : zt_B bf) (hd : 1 ≤ d) (h : w_X9_stands (zx σ n0 bf) (d - 1) p0 p1 S Q) : zs_C (zx σ n0 bf) d 8083 [.ref p0, .int p1] S Q := by
  have hL : lv_args 0 [.ref p0, .int p1] = [(0, .ref p0), (1, .int p1)] := rfl
  refine zs_C.of1 (hB.2 8083 (by decide) (by decide)) hd (by rw [hL]; exact zs_sub_self _ (by exact ⟨rfl, rfl, trivial⟩)) ?_
  rw [hL]
  clear hL
  unfold w_X9_stands at h
  refine zu_aload_n d_8083_0 rfl (zs_ra _) ?_
  obtain ⟨k1, h⟩ := h
  refine zg_8_653 rfl d_8083_1 k1 ?_
  refine zu_iconst d_8083_4 zi_1 ?_
  refine zu_stk d_8083_5 rfl rfl ?_
  refine zu_istore_n d_8083_6 (zs_lt zq_8083 rfl) ?_
  refine zu_aload_n d_8083_7 rfl (zs_ra _) ?_
  refine zu_iload_n d_8083_8 rfl ?_
  refine zc_8_727 (x0 := p1) hB rfl k1 d_8083_9 (Nat.le_of_ble_eq_true rfl) h (fun v3 S2 h => ?_)
  refine zu_istore_n d_8083_12 (zs_lt zq_8083 rfl) ?_
  refine zu_aload_n d_8083_13 rfl (zs_ra _) ?_
  obtain ⟨k4, h⟩ := h
  refine zg_8_194 rfl d_8083_14 k4 ?_
  refine zu_iload_n d_8083_17 rfl ?_
  obtain ⟨b5, e6, h⟩ := h
  refine zs_stk1 (zs_rfe e6) ?_
  obtain ⟨k7, h⟩ := h
  refine zu_bald (k := 2) d_8083_18 rfl (Or.inr rfl) k7 ?_
  refine zu_ifeq (t := 69) d_8083_19 rfl (fun c8 => ?_) (fun c8 => ?_)
  · have h := h.1 c8
    exact (u_X9_stands_69 hB h).weak trivial
  · have h := h.2 c8
    refine zu_aload_n d_8083_22 rfl (zs_ra _) ?_
    refine zg_8_200 rfl d_8083_23 k4 ?_
    refine zu_iload_n d_8083_26 rfl ?_
    obtain ⟨b9, e10, h⟩ := h
    refine zs_stk1 (zs_rfe e10) ?_
    obtain ⟨k11, h⟩ := h
    refine zu_iald (k := 0) d_8083_27 rfl rfl k11 ?_
    refine zu_bipush d_8083_28 zj_8 ?_
    refine zu_stk d_8083_30 rfl rfl ?_
    refine zu_ifne (t := 69) d_8083_31 rfl (fun c12 => ?_) (fun c12 => ?_)
    · have h := h.1 c12
      exact (u_X9_stands_69 hB h).weak trivial
    · have h := h.2 c12
      exact (u_X9_stands_34 hB h).weak ⟨rfl, rfl, rfl, rfl, trivial⟩
/-! SchemaPascalModel.argued(III)V -/
theorem zm_8084 {σ : Nat → Nat} {n0 : Nat} {bf : ab_B} : ab_code (zx σ n0 bf).1 8084 = prog_17_method_83_code := rfl
theorem zq_8084 {σ : Nat → Nat} {n0 : Nat} {bf : ab_B} : ab_maxL (zx σ n0 bf).1 8084 = 5 := rfl
theorem zr_8084 {σ : Nat → Nat} {n0 : Nat} {bf : ab_B} : ab_ret (zx σ n0 bf).1 8084 = (Option.none : Option Jvm.ClassFile.FieldType) := rfl
theorem d_8084_0 {σ : Nat → Nat} {n0 : Nat} {bf : ab_B} : decode (ab_code (zx σ n0 bf).1 8084) 0 = .ok (.aload_n 0, 1) := zd zm_8084 (by decide +kernel)
theorem d_8084_1 {σ : Nat → Nat} {n0 : Nat} {bf : ab_B} : decode (ab_code (zx σ n0 bf).1 8084) 1 = .ok (.bipush 9, 2) := zd zm_8084 (by decide +kernel)
theorem d_8084_3 {σ : Nat → Nat} {n0 : Nat} {bf : ab_B} : decode (ab_code (zx σ n0 bf).1 8084) 3 = .ok (.invokevirtual 746, 3) := zd zm_8084 (by decide +kernel)
theorem d_8084_6 {σ : Nat → Nat} {n0 : Nat} {bf : ab_B} : decode (ab_code (zx σ n0 bf).1 8084) 6 = .ok (.aload_n 0, 1) := zd zm_8084 (by decide +kernel)
theorem d_8084_7 {σ : Nat → Nat} {n0 : Nat} {bf : ab_B} : decode (ab_code (zx σ n0 bf).1 8084) 7 = .ok (.bipush 60, 2) := zd zm_8084 (by decide +kernel)
theorem d_8084_9 {σ : Nat → Nat} {n0 : Nat} {bf : ab_B} : decode (ab_code (zx σ n0 bf).1 8084) 9 = .ok (.iload_n 1, 1) := zd zm_8084 (by decide +kernel)
theorem d_8084_10 {σ : Nat → Nat} {n0 : Nat} {bf : ab_B} : decode (ab_code (zx σ n0 bf).1 8084) 10 = .ok (.iconst 0, 1) := zd zm_8084 (by decide +kernel)
theorem d_8084_11 {σ : Nat → Nat} {n0 : Nat} {bf : ab_B} : decode (ab_code (zx σ n0 bf).1 8084) 11 = .ok (.iload_n 2, 1) := zd zm_8084 (by decide +kernel)
theorem d_8084_12 {σ : Nat → Nat} {n0 : Nat} {bf : ab_B} : decode (ab_code (zx σ n0 bf).1 8084) 12 = .ok (.invokevirtual 656, 3) := zd zm_8084 (by decide +kernel)
theorem d_8084_15 {σ : Nat → Nat} {n0 : Nat} {bf : ab_B} : decode (ab_code (zx σ n0 bf).1 8084) 15 = .ok (.istore 4, 2) := zd zm_8084 (by decide +kernel)
theorem d_8084_17 {σ : Nat → Nat} {n0 : Nat} {bf : ab_B} : decode (ab_code (zx σ n0 bf).1 8084) 17 = .ok (.aload_n 0, 1) := zd zm_8084 (by decide +kernel)
theorem d_8084_18 {σ : Nat → Nat} {n0 : Nat} {bf : ab_B} : decode (ab_code (zx σ n0 bf).1 8084) 18 = .ok (.getfield 444, 3) := zd zm_8084 (by decide +kernel)
theorem d_8084_21 {σ : Nat → Nat} {n0 : Nat} {bf : ab_B} : decode (ab_code (zx σ n0 bf).1 8084) 21 = .ok (.ifCond .ne 25, 3) := zd zm_8084 (by decide +kernel)
theorem d_8084_24 {σ : Nat → Nat} {n0 : Nat} {bf : ab_B} : decode (ab_code (zx σ n0 bf).1 8084) 24 = .ok (.iload_n 3, 1) := zd zm_8084 (by decide +kernel)
theorem d_8084_25 {σ : Nat → Nat} {n0 : Nat} {bf : ab_B} : decode (ab_code (zx σ n0 bf).1 8084) 25 = .ok (.ifCond .le 21, 3) := zd zm_8084 (by decide +kernel)
theorem d_8084_28 {σ : Nat → Nat} {n0 : Nat} {bf : ab_B} : decode (ab_code (zx σ n0 bf).1 8084) 28 = .ok (.aload_n 0, 1) := zd zm_8084 (by decide +kernel)
theorem d_8084_29 {σ : Nat → Nat} {n0 : Nat} {bf : ab_B} : decode (ab_code (zx σ n0 bf).1 8084) 29 = .ok (.aload_n 0, 1) := zd zm_8084 (by decide +kernel)
theorem d_8084_30 {σ : Nat → Nat} {n0 : Nat} {bf : ab_B} : decode (ab_code (zx σ n0 bf).1 8084) 30 = .ok (.getfield 215, 3) := zd zm_8084 (by decide +kernel)
theorem d_8084_33 {σ : Nat → Nat} {n0 : Nat} {bf : ab_B} : decode (ab_code (zx σ n0 bf).1 8084) 33 = .ok (.iload_n 1, 1) := zd zm_8084 (by decide +kernel)
theorem d_8084_34 {σ : Nat → Nat} {n0 : Nat} {bf : ab_B} : decode (ab_code (zx σ n0 bf).1 8084) 34 = .ok (.iaload, 1) := zd zm_8084 (by decide +kernel)
theorem d_8084_35 {σ : Nat → Nat} {n0 : Nat} {bf : ab_B} : decode (ab_code (zx σ n0 bf).1 8084) 35 = .ok (.iconst 0, 1) := zd zm_8084 (by decide +kernel)
theorem d_8084_36 {σ : Nat → Nat} {n0 : Nat} {bf : ab_B} : decode (ab_code (zx σ n0 bf).1 8084) 36 = .ok (.iconst 0, 1) := zd zm_8084 (by decide +kernel)
theorem d_8084_37 {σ : Nat → Nat} {n0 : Nat} {bf : ab_B} : decode (ab_code (zx σ n0 bf).1 8084) 37 = .ok (.bipush 8, 2) := zd zm_8084 (by decide +kernel)
theorem d_8084_39 {σ : Nat → Nat} {n0 : Nat} {bf : ab_B} : decode (ab_code (zx σ n0 bf).1 8084) 39 = .ok (.iload_n 3, 1) := zd zm_8084 (by decide +kernel)
theorem d_8084_40 {σ : Nat → Nat} {n0 : Nat} {bf : ab_B} : decode (ab_code (zx σ n0 bf).1 8084) 40 = .ok (.iconst 1, 1) := zd zm_8084 (by decide +kernel)
theorem d_8084_41 {σ : Nat → Nat} {n0 : Nat} {bf : ab_B} : decode (ab_code (zx σ n0 bf).1 8084) 41 = .ok (.isub, 1) := zd zm_8084 (by decide +kernel)
theorem d_8084_42 {σ : Nat → Nat} {n0 : Nat} {bf : ab_B} : decode (ab_code (zx σ n0 bf).1 8084) 42 = .ok (.iload_n 2, 1) := zd zm_8084 (by decide +kernel)
theorem d_8084_43 {σ : Nat → Nat} {n0 : Nat} {bf : ab_B} : decode (ab_code (zx σ n0 bf).1 8084) 43 = .ok (.invokevirtual 699, 3) := zd zm_8084 (by decide +kernel)
theorem d_8084_46 {σ : Nat → Nat} {n0 : Nat} {bf : ab_B} : decode (ab_code (zx σ n0 bf).1 8084) 46 = .ok (.return_, 1) := zd zm_8084 (by decide +kernel)
def w_X9_argued_46 (X : zs_X) (d : Nat)  (S : zs_T) (Q : zs_Q) : Prop :=
  (Q (.returned none) S)
theorem u_X9_argued_46 {σ : Nat → Nat} {n0 : Nat} {bf : ab_B} {d : Nat}  {S : zs_T} {Q : zs_Q} (hB : zt_B bf) (h : w_X9_argued_46 (zx σ n0 bf) d  S Q) : zs_U (zx σ n0 bf) d 8084 46 [] [] S Q := by
  unfold w_X9_argued_46 at h
  exact zu_vret d_8084_46 zr_8084 h
def w_X9_argued (X : zs_X) (d : Nat) (p0 : Nat) (p1 : Int32) (p2 : Int32) (p3 : Int32) (S : zs_T) (Q : zs_Q) : Prop :=
  (zs_K S p0 = some (.inl 8) ∧ zs_C X d 8028 [.ref p0, .int (9 : Int32)] S (zs_kV (fun S2 => (zs_K S2 p0 = some (.inl 8) ∧ zs_C X d 8012 [.ref p0, .int (60 : Int32), .int p1, .int (0 : Int32), .int p2] S2 (zs_kI (fun v6 S5 => (zs_K S5 p0 = some (.inl 8) ∧ ((¬ (zs_I S5 8010 p0) = 0 → w_X9_argued_46 X d  S5 Q) ∧ (¬ (¬ (zs_I S5 8010 p0) = 0) → (((p3 ≤ 0 → w_X9_argued_46 X d  S5 Q) ∧ (¬ (p3 ≤ 0) → (∃ b10, (zs_R S5 8100 p0) = some b10 ∧ zs_A S5 b10 0 p1 ∧ zs_C X d 8058 [.ref p0, .int (zs_i S5 b10 p1.toNatClampNeg), .int (0 : Int32), .int (0 : Int32), .int (8 : Int32), .int (p3 - (1 : Int32)), .int p2] S5 (zs_kV (fun S13 => w_X9_argued_46 X d  S13 Q) Q))))))))) Q))) Q))
theorem u_X9_argued {σ : Nat → Nat} {n0 : Nat} {bf : ab_B} {d : Nat} {p0 : Nat} {p1 : Int32} {p2 : Int32} {p3 : Int32} {S : zs_T} {Q : zs_Q} (hB : zt_B bf) (hd : 1 ≤ d) (h : w_X9_argued (zx σ n0 bf) (d - 1) p0 p1 p2 p3 S Q) : zs_C (zx σ n0 bf) d 8084 [.ref p0, .int p1, .int p2, .int p3] S Q := by
  have hL : lv_args 0 [.ref p0, .int p1, .int p2, .int p3] = [(0, .ref p0), (1, .int p1), (2, .int p2), (3, .int p3)] := rfl
  refine zs_C.of1 (hB.2 8084 (by decide) (by decide)) hd (by rw [hL]; exact zs_sub_self _ (by exact ⟨rfl, rfl, rfl, rfl, trivial⟩)) ?_
  rw [hL]
  clear hL
  unfold w_X9_argued at h
  refine zu_aload_n d_8084_0 rfl (zs_ra _) ?_
  refine zu_bipush d_8084_1 zj_9 ?_
  obtain ⟨k1, h⟩ := h
  refine zc_8_746 (x0 := (9 : Int32)) hB rfl k1 d_8084_3 (Nat.le_of_ble_eq_true rfl) h (fun S2 h => ?_)
  refine zu_aload_n d_8084_6 rfl (zs_ra _) ?_
  refine zu_bipush d_8084_7 zj_60 ?_
  refine zu_iload_n d_8084_9 rfl ?_
  refine zu_iconst d_8084_10 zi_0 ?_
  refine zu_iload_n d_8084_11 rfl ?_
  obtain ⟨k4, h⟩ := h
  refine zc_8_656 (x0 := (60 : Int32)) (x1 := p1) (x2 := (0 : Int32)) (x3 := p2) hB rfl k4 d_8084_12 (Nat.le_of_ble_eq_true rfl) h (fun v6 S5 h => ?_)
  refine zu_istore d_8084_15 (zs_lt zq_8084 rfl) ?_
  refine zu_aload_n d_8084_17 rfl (zs_ra _) ?_
  obtain ⟨k7, h⟩ := h
  refine zg_8_444 rfl d_8084_18 k7 ?_
  refine zu_ifne (t := 46) d_8084_21 rfl (fun c8 => ?_) (fun c8 => ?_)
  · have h := h.1 c8
    exact (u_X9_argued_46 hB h).weak trivial
  · have h := h.2 c8
    refine zu_iload_n d_8084_24 rfl ?_
    refine zu_ifle (t := 46) d_8084_25 rfl (fun c9 => ?_) (fun c9 => ?_)
    · have h := h.1 c9
      exact (u_X9_argued_46 hB h).weak trivial
    · have h := h.2 c9
      refine zu_aload_n d_8084_28 rfl (zs_ra _) ?_
      refine zu_aload_n d_8084_29 rfl (zs_ra _) ?_
      refine zg_8_215 rfl d_8084_30 k7 ?_
      refine zu_iload_n d_8084_33 rfl ?_
      obtain ⟨b10, e11, h⟩ := h
      refine zs_stk1 (zs_rfe e11) ?_
      obtain ⟨k12, h⟩ := h
      refine zu_iald (k := 0) d_8084_34 rfl rfl k12 ?_
      refine zu_iconst d_8084_35 zi_0 ?_
      refine zu_iconst d_8084_36 zi_0 ?_
      refine zu_bipush d_8084_37 zj_8 ?_
      refine zu_iload_n d_8084_39 rfl ?_
      refine zu_iconst d_8084_40 zi_1 ?_
      refine zu_stk d_8084_41 rfl rfl ?_
      refine zu_iload_n d_8084_42 rfl ?_
      refine zc_8_699 (x0 := (zs_i S5 b10 p1.toNatClampNeg)) (x1 := (0 : Int32)) (x2 := (0 : Int32)) (x3 := (8 : Int32)) (x4 := (p3 - (1 : Int32))) (x5 := p2) hB rfl k7 d_8084_43 (Nat.le_of_ble_eq_true rfl) h (fun S13 h => ?_)
      exact (u_X9_argued_46 hB h).weak trivial
