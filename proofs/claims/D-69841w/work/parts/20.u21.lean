/-! printed by gen_all.py: what the methods compute -/
set_option maxRecDepth 100000
/-! SchemaPascalModel.typesPart(Z)V -/
theorem zm_8153 {σ : Nat → Nat} {n0 : Nat} {bf : ab_B} : ab_code (zx σ n0 bf).1 8153 = prog_17_method_143_code := rfl
theorem zq_8153 {σ : Nat → Nat} {n0 : Nat} {bf : ab_B} : ab_maxL (zx σ n0 bf).1 8153 = 3 := rfl
theorem zr_8153 {σ : Nat → Nat} {n0 : Nat} {bf : ab_B} : ab_ret (zx σ n0 bf).1 8153 = (Option.none : Option Jvm.ClassFile.FieldType) := rfl
theorem d_8153_0 {σ : Nat → Nat} {n0 : Nat} {bf : ab_B} : decode (ab_code (zx σ n0 bf).1 8153) 0 = .ok (.aload_n 0, 1) := zd zm_8153 (by decide +kernel)
theorem d_8153_1 {σ : Nat → Nat} {n0 : Nat} {bf : ab_B} : decode (ab_code (zx σ n0 bf).1 8153) 1 = .ok (.getfield 484, 3) := zd zm_8153 (by decide +kernel)
theorem d_8153_4 {σ : Nat → Nat} {n0 : Nat} {bf : ab_B} : decode (ab_code (zx σ n0 bf).1 8153) 4 = .ok (.iconst 1, 1) := zd zm_8153 (by decide +kernel)
theorem d_8153_5 {σ : Nat → Nat} {n0 : Nat} {bf : ab_B} : decode (ab_code (zx σ n0 bf).1 8153) 5 = .ok (.if_icmp .eq 12, 3) := zd zm_8153 (by decide +kernel)
theorem d_8153_8 {σ : Nat → Nat} {n0 : Nat} {bf : ab_B} : decode (ab_code (zx σ n0 bf).1 8153) 8 = .ok (.iload_n 1, 1) := zd zm_8153 (by decide +kernel)
theorem d_8153_9 {σ : Nat → Nat} {n0 : Nat} {bf : ab_B} : decode (ab_code (zx σ n0 bf).1 8153) 9 = .ok (.ifCond .ne 8, 3) := zd zm_8153 (by decide +kernel)
theorem d_8153_12 {σ : Nat → Nat} {n0 : Nat} {bf : ab_B} : decode (ab_code (zx σ n0 bf).1 8153) 12 = .ok (.aload_n 0, 1) := zd zm_8153 (by decide +kernel)
theorem d_8153_13 {σ : Nat → Nat} {n0 : Nat} {bf : ab_B} : decode (ab_code (zx σ n0 bf).1 8153) 13 = .ok (.invokevirtual 928, 3) := zd zm_8153 (by decide +kernel)
theorem d_8153_16 {σ : Nat → Nat} {n0 : Nat} {bf : ab_B} : decode (ab_code (zx σ n0 bf).1 8153) 16 = .ok (.return_, 1) := zd zm_8153 (by decide +kernel)
theorem d_8153_17 {σ : Nat → Nat} {n0 : Nat} {bf : ab_B} : decode (ab_code (zx σ n0 bf).1 8153) 17 = .ok (.aload_n 0, 1) := zd zm_8153 (by decide +kernel)
theorem d_8153_18 {σ : Nat → Nat} {n0 : Nat} {bf : ab_B} : decode (ab_code (zx σ n0 bf).1 8153) 18 = .ok (.invokevirtual 925, 3) := zd zm_8153 (by decide +kernel)
theorem d_8153_21 {σ : Nat → Nat} {n0 : Nat} {bf : ab_B} : decode (ab_code (zx σ n0 bf).1 8153) 21 = .ok (.ifCond .ne 4, 3) := zd zm_8153 (by decide +kernel)
theorem d_8153_24 {σ : Nat → Nat} {n0 : Nat} {bf : ab_B} : decode (ab_code (zx σ n0 bf).1 8153) 24 = .ok (.return_, 1) := zd zm_8153 (by decide +kernel)
theorem d_8153_25 {σ : Nat → Nat} {n0 : Nat} {bf : ab_B} : decode (ab_code (zx σ n0 bf).1 8153) 25 = .ok (.aload_n 0, 1) := zd zm_8153 (by decide +kernel)
theorem d_8153_26 {σ : Nat → Nat} {n0 : Nat} {bf : ab_B} : decode (ab_code (zx σ n0 bf).1 8153) 26 = .ok (.getfield 494, 3) := zd zm_8153 (by decide +kernel)
theorem d_8153_29 {σ : Nat → Nat} {n0 : Nat} {bf : ab_B} : decode (ab_code (zx σ n0 bf).1 8153) 29 = .ok (.istore_n 2, 1) := zd zm_8153 (by decide +kernel)
theorem d_8153_30 {σ : Nat → Nat} {n0 : Nat} {bf : ab_B} : decode (ab_code (zx σ n0 bf).1 8153) 30 = .ok (.aload_n 0, 1) := zd zm_8153 (by decide +kernel)
theorem d_8153_31 {σ : Nat → Nat} {n0 : Nat} {bf : ab_B} : decode (ab_code (zx σ n0 bf).1 8153) 31 = .ok (.invokevirtual 538, 3) := zd zm_8153 (by decide +kernel)
theorem d_8153_34 {σ : Nat → Nat} {n0 : Nat} {bf : ab_B} : decode (ab_code (zx σ n0 bf).1 8153) 34 = .ok (.aload_n 0, 1) := zd zm_8153 (by decide +kernel)
theorem d_8153_35 {σ : Nat → Nat} {n0 : Nat} {bf : ab_B} : decode (ab_code (zx σ n0 bf).1 8153) 35 = .ok (.bipush 8, 2) := zd zm_8153 (by decide +kernel)
theorem d_8153_37 {σ : Nat → Nat} {n0 : Nat} {bf : ab_B} : decode (ab_code (zx σ n0 bf).1 8153) 37 = .ok (.invokevirtual 535, 3) := zd zm_8153 (by decide +kernel)
theorem d_8153_40 {σ : Nat → Nat} {n0 : Nat} {bf : ab_B} : decode (ab_code (zx σ n0 bf).1 8153) 40 = .ok (.ifCond .eq 15, 3) := zd zm_8153 (by decide +kernel)
theorem d_8153_43 {σ : Nat → Nat} {n0 : Nat} {bf : ab_B} : decode (ab_code (zx σ n0 bf).1 8153) 43 = .ok (.aload_n 0, 1) := zd zm_8153 (by decide +kernel)
theorem d_8153_44 {σ : Nat → Nat} {n0 : Nat} {bf : ab_B} : decode (ab_code (zx σ n0 bf).1 8153) 44 = .ok (.invokevirtual 538, 3) := zd zm_8153 (by decide +kernel)
theorem d_8153_47 {σ : Nat → Nat} {n0 : Nat} {bf : ab_B} : decode (ab_code (zx σ n0 bf).1 8153) 47 = .ok (.aload_n 0, 1) := zd zm_8153 (by decide +kernel)
theorem d_8153_48 {σ : Nat → Nat} {n0 : Nat} {bf : ab_B} : decode (ab_code (zx σ n0 bf).1 8153) 48 = .ok (.iload_n 2, 1) := zd zm_8153 (by decide +kernel)
theorem d_8153_49 {σ : Nat → Nat} {n0 : Nat} {bf : ab_B} : decode (ab_code (zx σ n0 bf).1 8153) 49 = .ok (.invokevirtual 931, 3) := zd zm_8153 (by decide +kernel)
theorem d_8153_52 {σ : Nat → Nat} {n0 : Nat} {bf : ab_B} : decode (ab_code (zx σ n0 bf).1 8153) 52 = .ok (.goto 26, 3) := zd zm_8153 (by decide +kernel)
theorem d_8153_55 {σ : Nat → Nat} {n0 : Nat} {bf : ab_B} : decode (ab_code (zx σ n0 bf).1 8153) 55 = .ok (.aload_n 0, 1) := zd zm_8153 (by decide +kernel)
theorem d_8153_56 {σ : Nat → Nat} {n0 : Nat} {bf : ab_B} : decode (ab_code (zx σ n0 bf).1 8153) 56 = .ok (.iconst 5, 1) := zd zm_8153 (by decide +kernel)
theorem d_8153_57 {σ : Nat → Nat} {n0 : Nat} {bf : ab_B} : decode (ab_code (zx σ n0 bf).1 8153) 57 = .ok (.invokevirtual 746, 3) := zd zm_8153 (by decide +kernel)
theorem d_8153_60 {σ : Nat → Nat} {n0 : Nat} {bf : ab_B} : decode (ab_code (zx σ n0 bf).1 8153) 60 = .ok (.aload_n 0, 1) := zd zm_8153 (by decide +kernel)
theorem d_8153_61 {σ : Nat → Nat} {n0 : Nat} {bf : ab_B} : decode (ab_code (zx σ n0 bf).1 8153) 61 = .ok (.bipush 64, 2) := zd zm_8153 (by decide +kernel)
theorem d_8153_63 {σ : Nat → Nat} {n0 : Nat} {bf : ab_B} : decode (ab_code (zx σ n0 bf).1 8153) 63 = .ok (.iload_n 2, 1) := zd zm_8153 (by decide +kernel)
theorem d_8153_64 {σ : Nat → Nat} {n0 : Nat} {bf : ab_B} : decode (ab_code (zx σ n0 bf).1 8153) 64 = .ok (.iconst 0, 1) := zd zm_8153 (by decide +kernel)
theorem d_8153_65 {σ : Nat → Nat} {n0 : Nat} {bf : ab_B} : decode (ab_code (zx σ n0 bf).1 8153) 65 = .ok (.iconst 0, 1) := zd zm_8153 (by decide +kernel)
theorem d_8153_66 {σ : Nat → Nat} {n0 : Nat} {bf : ab_B} : decode (ab_code (zx σ n0 bf).1 8153) 66 = .ok (.invokevirtual 649, 3) := zd zm_8153 (by decide +kernel)
theorem d_8153_69 {σ : Nat → Nat} {n0 : Nat} {bf : ab_B} : decode (ab_code (zx σ n0 bf).1 8153) 69 = .ok (.aload_n 0, 1) := zd zm_8153 (by decide +kernel)
theorem d_8153_70 {σ : Nat → Nat} {n0 : Nat} {bf : ab_B} : decode (ab_code (zx σ n0 bf).1 8153) 70 = .ok (.bipush 30, 2) := zd zm_8153 (by decide +kernel)
theorem d_8153_72 {σ : Nat → Nat} {n0 : Nat} {bf : ab_B} : decode (ab_code (zx σ n0 bf).1 8153) 72 = .ok (.iconst 0, 1) := zd zm_8153 (by decide +kernel)
theorem d_8153_73 {σ : Nat → Nat} {n0 : Nat} {bf : ab_B} : decode (ab_code (zx σ n0 bf).1 8153) 73 = .ok (.iconst 0, 1) := zd zm_8153 (by decide +kernel)
theorem d_8153_74 {σ : Nat → Nat} {n0 : Nat} {bf : ab_B} : decode (ab_code (zx σ n0 bf).1 8153) 74 = .ok (.iconst 0, 1) := zd zm_8153 (by decide +kernel)
theorem d_8153_75 {σ : Nat → Nat} {n0 : Nat} {bf : ab_B} : decode (ab_code (zx σ n0 bf).1 8153) 75 = .ok (.invokevirtual 649, 3) := zd zm_8153 (by decide +kernel)
theorem d_8153_78 {σ : Nat → Nat} {n0 : Nat} {bf : ab_B} : decode (ab_code (zx σ n0 bf).1 8153) 78 = .ok (.return_, 1) := zd zm_8153 (by decide +kernel)
def w_X9_typesPart_69 (X : zs_X) (d : Nat) (p0 : Nat) (S : zs_T) (Q : zs_Q) : Prop :=
  (zs_K S p0 = some (.inl 8) ∧ zs_C X d 8030 [.ref p0, .int (30 : Int32), .int (0 : Int32), .int (0 : Int32), .int (0 : Int32)] S (zs_kV (fun S2 => (Q (.returned none) S2)) Q))
theorem u_X9_typesPart_69 {σ : Nat → Nat} {n0 : Nat} {bf : ab_B} {d : Nat} {p0 : Nat} {S : zs_T} {Q : zs_Q} (hB : zt_B bf) (h : w_X9_typesPart_69 (zx σ n0 bf) d p0 S Q) : zs_U (zx σ n0 bf) d 8153 69 [(0, .ref p0)] [] S Q := by
  unfold w_X9_typesPart_69 at h
  refine zu_aload_n d_8153_69 rfl (zs_ra _) ?_
  refine zu_bipush d_8153_70 zj_30 ?_
  refine zu_iconst d_8153_72 zi_0 ?_
  refine zu_iconst d_8153_73 zi_0 ?_
  refine zu_iconst d_8153_74 zi_0 ?_
  obtain ⟨k1, h⟩ := h
  refine zc_8_649 (x0 := (30 : Int32)) (x1 := (0 : Int32)) (x2 := (0 : Int32)) (x3 := (0 : Int32)) hB rfl k1 d_8153_75 (Nat.le_of_ble_eq_true rfl) h (fun S2 h => ?_)
  exact zu_vret d_8153_78 zr_8153 h
def w_X9_typesPart_52 (X : zs_X) (d : Nat)  (S : zs_T) (Q : zs_Q) : Prop :=
  (Q (.returned none) S)
theorem u_X9_typesPart_52 {σ : Nat → Nat} {n0 : Nat} {bf : ab_B} {d : Nat}  {S : zs_T} {Q : zs_Q} (hB : zt_B bf) (h : w_X9_typesPart_52 (zx σ n0 bf) d  S Q) : zs_U (zx σ n0 bf) d 8153 52 [] [] S Q := by
  unfold w_X9_typesPart_52 at h
  refine zu_goto (t := 78) d_8153_52 rfl ?_
  exact zu_vret d_8153_78 zr_8153 h
def w_X9_typesPart_17 (X : zs_X) (d : Nat) (p0 : Nat) (S : zs_T) (Q : zs_Q) : Prop :=
  (zs_K S p0 = some (.inl 8) ∧ zs_C X d 8151 [.ref p0] S (zs_kI (fun v3 S2 => (((¬ v3 = 0 → (zs_K S2 p0 = some (.inl 8) ∧ zs_C X d 8014 [.ref p0] S2 (zs_kV (fun S6 => (zs_K S6 p0 = some (.inl 8) ∧ zs_C X d 8029 [.ref p0, .int (8 : Int32)] S6 (zs_kI (fun v10 S9 => (((v10 = 0 → (zs_K S9 p0 = some (.inl 8) ∧ zs_C X d 8028 [.ref p0, .int (5 : Int32)] S9 (zs_kV (fun S13 => (zs_K S13 p0 = some (.inl 8) ∧ zs_C X d 8030 [.ref p0, .int (64 : Int32), .int (zs_I S2 8009 p0), .int (0 : Int32), .int (0 : Int32)] S13 (zs_kV (fun S16 => w_X9_typesPart_69 X d p0 S16 Q) Q))) Q))) ∧ (¬ (v10 = 0) → (zs_K S9 p0 = some (.inl 8) ∧ zs_C X d 8014 [.ref p0] S9 (zs_kV (fun S19 => (zs_K S19 p0 = some (.inl 8) ∧ zs_C X d 8155 [.ref p0, .int (zs_I S2 8009 p0)] S19 (zs_kV (fun S22 => w_X9_typesPart_52 X d  S22 Q) Q))) Q)))))) Q))) Q))) ∧ (¬ (¬ v3 = 0) → (Q (.returned none) S2))))) Q))
theorem u_X9_typesPart_17 {σ : Nat → Nat} {n0 : Nat} {bf : ab_B} {d : Nat} {p0 : Nat} {S : zs_T} {Q : zs_Q} (hB : zt_B bf) (h : w_X9_typesPart_17 (zx σ n0 bf) d p0 S Q) : zs_U (zx σ n0 bf) d 8153 17 [(0, .ref p0)] [] S Q := by
  unfold w_X9_typesPart_17 at h
  refine zu_aload_n d_8153_17 rfl (zs_ra _) ?_
  obtain ⟨k1, h⟩ := h
  refine zc_8_925  hB rfl k1 d_8153_18 (Nat.le_of_ble_eq_true rfl) h (fun v3 S2 h => ?_)
  refine zu_ifne (t := 25) d_8153_21 rfl (fun c4 => ?_) (fun c4 => ?_)
  · have h := h.1 c4
    refine zu_aload_n d_8153_25 rfl (zs_ra _) ?_
    obtain ⟨k5, h⟩ := h
    refine zg_8_494 rfl d_8153_26 k5 ?_
    refine zu_istore_n d_8153_29 (zs_lt zq_8153 rfl) ?_
    refine zu_aload_n d_8153_30 rfl (zs_ra _) ?_
    refine zc_8_538  hB rfl k5 d_8153_31 (Nat.le_of_ble_eq_true rfl) h (fun S6 h => ?_)
    refine zu_aload_n d_8153_34 rfl (zs_ra _) ?_
    refine zu_bipush d_8153_35 zj_8 ?_
    obtain ⟨k8, h⟩ := h
    refine zc_8_535 (x0 := (8 : Int32)) hB rfl k8 d_8153_37 (Nat.le_of_ble_eq_true rfl) h (fun v10 S9 h => ?_)
    refine zu_ifeq (t := 55) d_8153_40 rfl (fun c11 => ?_) (fun c11 => ?_)
    · have h := h.1 c11
      refine zu_aload_n d_8153_55 rfl (zs_ra _) ?_
      refine zu_iconst d_8153_56 zi_5 ?_
      obtain ⟨k12, h⟩ := h
      refine zc_8_746 (x0 := (5 : Int32)) hB rfl k12 d_8153_57 (Nat.le_of_ble_eq_true rfl) h (fun S13 h => ?_)
      refine zu_aload_n d_8153_60 rfl (zs_ra _) ?_
      refine zu_bipush d_8153_61 zj_64 ?_
      refine zu_iload_n d_8153_63 rfl ?_
      refine zu_iconst d_8153_64 zi_0 ?_
      refine zu_iconst d_8153_65 zi_0 ?_
      obtain ⟨k15, h⟩ := h
      refine zc_8_649 (x0 := (64 : Int32)) (x1 := (zs_I S2 8009 p0)) (x2 := (0 : Int32)) (x3 := (0 : Int32)) hB rfl k15 d_8153_66 (Nat.le_of_ble_eq_true rfl) h (fun S16 h => ?_)
      exact (u_X9_typesPart_69 hB h).weak ⟨rfl, trivial⟩
    · have h := h.2 c11
      refine zu_aload_n d_8153_43 rfl (zs_ra _) ?_
      obtain ⟨k18, h⟩ := h
      refine zc_8_538  hB rfl k18 d_8153_44 (Nat.le_of_ble_eq_true rfl) h (fun S19 h => ?_)
      refine zu_aload_n d_8153_47 rfl (zs_ra _) ?_
      refine zu_iload_n d_8153_48 rfl ?_
      obtain ⟨k21, h⟩ := h
      refine zc_8_931 (x0 := (zs_I S2 8009 p0)) hB rfl k21 d_8153_49 (Nat.le_of_ble_eq_true rfl) h (fun S22 h => ?_)
      exact (u_X9_typesPart_52 hB h).weak trivial
  · have h := h.2 c4
    exact zu_vret d_8153_24 zr_8153 h
def w_X9_typesPart (X : zs_X) (d : Nat) (p0 : Nat) (p1 : Int32) (S : zs_T) (Q : zs_Q) : Prop :=
  (zs_K S p0 = some (.inl 8) ∧ (((zs_I S 8006 p0) = (1 : Int32) → w_X9_typesPart_17 X d p0 S Q) ∧ (¬ ((zs_I S 8006 p0) = (1 : Int32)) → (((¬ p1 = 0 → w_X9_typesPart_17 X d p0 S Q) ∧ (¬ (¬ p1 = 0) → (zs_C X d 8154 [.ref p0] S (zs_kV (fun S4 => (Q (.returned none) S4)) Q))))))))
theorem u_X9_typesPart {σ : Nat → Nat} {n0 : Nat} {bf : ab_B} {d : Nat} {p0 : Nat} {p1 : Int32} {S : zs_T} {Q : zs_Q} (hB : zt_B bf) (hd : 1 ≤ d) (h : w_X9_typesPart (zx σ n0 bf) (d - 1) p0 p1 S Q) : zs_C (zx σ n0 bf) d 8153 [.ref p0, .int p1] S Q := by
  have hL : lv_args 0 [.ref p0, .int p1] = [(0, .ref p0), (1, .int p1)] := rfl
  refine zs_C.of1 (hB.2 8153 (by decide) (by decide)) hd (by rw [hL]; exact zs_sub_self _ (by exact ⟨rfl, rfl, trivial⟩)) ?_
  rw [hL]
  clear hL
  unfold w_X9_typesPart at h
  refine zu_aload_n d_8153_0 rfl (zs_ra _) ?_
  obtain ⟨k1, h⟩ := h
  refine zg_8_484 rfl d_8153_1 k1 ?_
  refine zu_iconst d_8153_4 zi_1 ?_
  refine zu_cmpeq (t := 17) d_8153_5 rfl (fun c2 => ?_) (fun c2 => ?_)
  · have h := h.1 c2
    exact (u_X9_typesPart_17 hB h).weak ⟨rfl, trivial⟩
  · have h := h.2 c2
    refine zu_iload_n d_8153_8 rfl ?_
    refine zu_ifne (t := 17) d_8153_9 rfl (fun c3 => ?_) (fun c3 => ?_)
    · have h := h.1 c3
      exact (u_X9_typesPart_17 hB h).weak ⟨rfl, trivial⟩
    · have h := h.2 c3
      refine zu_aload_n d_8153_12 rfl (zs_ra _) ?_
      refine zc_8_928  hB rfl k1 d_8153_13 (Nat.le_of_ble_eq_true rfl) h (fun S4 h => ?_)
      exact zu_vret d_8153_16 zr_8153 h
/-! SchemaPascalModel.endHats()V -/
theorem zm_8154 {σ : Nat → Nat} {n0 : Nat} {bf : ab_B} : ab_code (zx σ n0 bf).1 8154 = prog_17_method_114_code := rfl
theorem zq_8154 {σ : Nat → Nat} {n0 : Nat} {bf : ab_B} : ab_maxL (zx σ n0 bf).1 8154 = 2 := rfl
theorem zr_8154 {σ : Nat → Nat} {n0 : Nat} {bf : ab_B} : ab_ret (zx σ n0 bf).1 8154 = (Option.none : Option Jvm.ClassFile.FieldType) := rfl
theorem d_8154_0 {σ : Nat → Nat} {n0 : Nat} {bf : ab_B} : decode (ab_code (zx σ n0 bf).1 8154) 0 = .ok (.iconst 0, 1) := zd zm_8154 (by decide +kernel)
theorem d_8154_1 {σ : Nat → Nat} {n0 : Nat} {bf : ab_B} : decode (ab_code (zx σ n0 bf).1 8154) 1 = .ok (.istore_n 1, 1) := zd zm_8154 (by decide +kernel)
theorem d_8154_2 {σ : Nat → Nat} {n0 : Nat} {bf : ab_B} : decode (ab_code (zx σ n0 bf).1 8154) 2 = .ok (.iload_n 1, 1) := zd zm_8154 (by decide +kernel)
theorem d_8154_3 {σ : Nat → Nat} {n0 : Nat} {bf : ab_B} : decode (ab_code (zx σ n0 bf).1 8154) 3 = .ok (.aload_n 0, 1) := zd zm_8154 (by decide +kernel)
theorem d_8154_4 {σ : Nat → Nat} {n0 : Nat} {bf : ab_B} : decode (ab_code (zx σ n0 bf).1 8154) 4 = .ok (.getfield 870, 3) := zd zm_8154 (by decide +kernel)
theorem d_8154_7 {σ : Nat → Nat} {n0 : Nat} {bf : ab_B} : decode (ab_code (zx σ n0 bf).1 8154) 7 = .ok (.if_icmp .ge 31, 3) := zd zm_8154 (by decide +kernel)
theorem d_8154_10 {σ : Nat → Nat} {n0 : Nat} {bf : ab_B} : decode (ab_code (zx σ n0 bf).1 8154) 10 = .ok (.aload_n 0, 1) := zd zm_8154 (by decide +kernel)
theorem d_8154_11 {σ : Nat → Nat} {n0 : Nat} {bf : ab_B} : decode (ab_code (zx σ n0 bf).1 8154) 11 = .ok (.aload_n 0, 1) := zd zm_8154 (by decide +kernel)
theorem d_8154_12 {σ : Nat → Nat} {n0 : Nat} {bf : ab_B} : decode (ab_code (zx σ n0 bf).1 8154) 12 = .ok (.getfield 284, 3) := zd zm_8154 (by decide +kernel)
theorem d_8154_15 {σ : Nat → Nat} {n0 : Nat} {bf : ab_B} : decode (ab_code (zx σ n0 bf).1 8154) 15 = .ok (.iload_n 1, 1) := zd zm_8154 (by decide +kernel)
theorem d_8154_16 {σ : Nat → Nat} {n0 : Nat} {bf : ab_B} : decode (ab_code (zx σ n0 bf).1 8154) 16 = .ok (.iaload, 1) := zd zm_8154 (by decide +kernel)
theorem d_8154_17 {σ : Nat → Nat} {n0 : Nat} {bf : ab_B} : decode (ab_code (zx σ n0 bf).1 8154) 17 = .ok (.aload_n 0, 1) := zd zm_8154 (by decide +kernel)
theorem d_8154_18 {σ : Nat → Nat} {n0 : Nat} {bf : ab_B} : decode (ab_code (zx σ n0 bf).1 8154) 18 = .ok (.getfield 287, 3) := zd zm_8154 (by decide +kernel)
theorem d_8154_21 {σ : Nat → Nat} {n0 : Nat} {bf : ab_B} : decode (ab_code (zx σ n0 bf).1 8154) 21 = .ok (.iload_n 1, 1) := zd zm_8154 (by decide +kernel)
theorem d_8154_22 {σ : Nat → Nat} {n0 : Nat} {bf : ab_B} : decode (ab_code (zx σ n0 bf).1 8154) 22 = .ok (.iaload, 1) := zd zm_8154 (by decide +kernel)
theorem d_8154_23 {σ : Nat → Nat} {n0 : Nat} {bf : ab_B} : decode (ab_code (zx σ n0 bf).1 8154) 23 = .ok (.aload_n 0, 1) := zd zm_8154 (by decide +kernel)
theorem d_8154_24 {σ : Nat → Nat} {n0 : Nat} {bf : ab_B} : decode (ab_code (zx σ n0 bf).1 8154) 24 = .ok (.getfield 290, 3) := zd zm_8154 (by decide +kernel)
theorem d_8154_27 {σ : Nat → Nat} {n0 : Nat} {bf : ab_B} : decode (ab_code (zx σ n0 bf).1 8154) 27 = .ok (.iload_n 1, 1) := zd zm_8154 (by decide +kernel)
theorem d_8154_28 {σ : Nat → Nat} {n0 : Nat} {bf : ab_B} : decode (ab_code (zx σ n0 bf).1 8154) 28 = .ok (.iaload, 1) := zd zm_8154 (by decide +kernel)
theorem d_8154_29 {σ : Nat → Nat} {n0 : Nat} {bf : ab_B} : decode (ab_code (zx σ n0 bf).1 8154) 29 = .ok (.invokevirtual 873, 3) := zd zm_8154 (by decide +kernel)
theorem d_8154_32 {σ : Nat → Nat} {n0 : Nat} {bf : ab_B} : decode (ab_code (zx σ n0 bf).1 8154) 32 = .ok (.iinc 1 1, 3) := zd zm_8154 (by decide +kernel)
theorem d_8154_35 {σ : Nat → Nat} {n0 : Nat} {bf : ab_B} : decode (ab_code (zx σ n0 bf).1 8154) 35 = .ok (.goto (-33), 3) := zd zm_8154 (by decide +kernel)
theorem d_8154_38 {σ : Nat → Nat} {n0 : Nat} {bf : ab_B} : decode (ab_code (zx σ n0 bf).1 8154) 38 = .ok (.aload_n 0, 1) := zd zm_8154 (by decide +kernel)
theorem d_8154_39 {σ : Nat → Nat} {n0 : Nat} {bf : ab_B} : decode (ab_code (zx σ n0 bf).1 8154) 39 = .ok (.iconst 0, 1) := zd zm_8154 (by decide +kernel)
theorem d_8154_40 {σ : Nat → Nat} {n0 : Nat} {bf : ab_B} : decode (ab_code (zx σ n0 bf).1 8154) 40 = .ok (.putfield 870, 3) := zd zm_8154 (by decide +kernel)
theorem d_8154_43 {σ : Nat → Nat} {n0 : Nat} {bf : ab_B} : decode (ab_code (zx σ n0 bf).1 8154) 43 = .ok (.aload_n 0, 1) := zd zm_8154 (by decide +kernel)
theorem d_8154_44 {σ : Nat → Nat} {n0 : Nat} {bf : ab_B} : decode (ab_code (zx σ n0 bf).1 8154) 44 = .ok (.iconst 0, 1) := zd zm_8154 (by decide +kernel)
theorem d_8154_45 {σ : Nat → Nat} {n0 : Nat} {bf : ab_B} : decode (ab_code (zx σ n0 bf).1 8154) 45 = .ok (.putfield 867, 3) := zd zm_8154 (by decide +kernel)
theorem d_8154_48 {σ : Nat → Nat} {n0 : Nat} {bf : ab_B} : decode (ab_code (zx σ n0 bf).1 8154) 48 = .ok (.return_, 1) := zd zm_8154 (by decide +kernel)
def w_X9_endHats_32 (X : zs_X) (d : Nat) (p0 : Nat) (p1 : Int32) (S : zs_T) (Q : zs_Q) : Prop :=
  (zs_U X d 8154 2 [(0, .ref p0), (1, .int (p1 + (1 : Int32)))] [] S Q)
theorem u_X9_endHats_32 {σ : Nat → Nat} {n0 : Nat} {bf : ab_B} {d : Nat} {p0 : Nat} {p1 : Int32} {S : zs_T} {Q : zs_Q} (hB : zt_B bf) (h : w_X9_endHats_32 (zx σ n0 bf) d p0 p1 S Q) : zs_U (zx σ n0 bf) d 8154 32 [(0, .ref p0), (1, .int p1)] [] S Q := by
  unfold w_X9_endHats_32 at h
  refine zu_iinc d_8154_32 rfl zi_1 (zs_lt zq_8154 rfl) ?_
  refine zu_goto (t := 2) d_8154_35 rfl ?_
  exact h.weak ⟨rfl, rfl, trivial⟩
def w_X9_endHats_2 (X : zs_X) (d : Nat) (p0 : Nat) (p1 : Int32) (S : zs_T) (Q : zs_Q) : Prop :=
  (zs_K S p0 = some (.inl 8) ∧ (((zs_I S 8136 p0) ≤ p1 → (ab_n0 X.1 ≤ p0 ∧ ∀ S4, S4 = zs_sI S 8136 p0 (0 : Int32) → ∀ S7, S7 = zs_sI S4 8132 p0 (0 : Int32) → Q (.returned none) S7)) ∧ (¬ ((zs_I S 8136 p0) ≤ p1) → (∃ b10, (zs_R S 8133 p0) = some b10 ∧ zs_A S b10 0 p1 ∧ ∃ b13, (zs_R S 8134 p0) = some b13 ∧ zs_A S b13 0 p1 ∧ ∃ b16, (zs_R S 8135 p0) = some b16 ∧ zs_A S b16 0 p1 ∧ zs_C X d 8098 [.ref p0, .int (zs_i S b10 p1.toNatClampNeg), .int (zs_i S b13 p1.toNatClampNeg), .int (zs_i S b16 p1.toNatClampNeg)] S (zs_kV (fun S19 => w_X9_endHats_32 X d p0 p1 S19 Q) Q)))))
theorem u_X9_endHats_2 {σ : Nat → Nat} {n0 : Nat} {bf : ab_B} {d : Nat} {p0 : Nat} {p1 : Int32} {S : zs_T} {Q : zs_Q} (hB : zt_B bf) (h : w_X9_endHats_2 (zx σ n0 bf) d p0 p1 S Q) : zs_U (zx σ n0 bf) d 8154 2 [(0, .ref p0), (1, .int p1)] [] S Q := by
  unfold w_X9_endHats_2 at h
  refine zu_iload_n d_8154_2 rfl ?_
  refine zu_aload_n d_8154_3 rfl (zs_ra _) ?_
  obtain ⟨k1, h⟩ := h
  refine zg_8_870 rfl d_8154_4 k1 ?_
  refine zu_cmpge (t := 38) d_8154_7 rfl (fun c2 => ?_) (fun c2 => ?_)
  · have h := h.1 c2
    refine zu_aload_n d_8154_38 rfl (zs_ra _) ?_
    refine zu_iconst d_8154_39 zi_0 ?_
    obtain ⟨k3, h⟩ := h
    refine zp_8_870 (v := (0 : Int32)) rfl d_8154_40 k1 k3 ?_
    generalize e5 : zs_sI S 8136 p0 (0 : Int32) = S4
    have h := h S4 e5.symm
    have K6 : ∀ b, zs_K S4 b = zs_K S b := zs_Kt e5 (zs_KsI _ _ _ _) (fun _ => rfl)
    refine zu_aload_n d_8154_43 rfl (zs_ra _) ?_
    refine zu_iconst d_8154_44 zi_0 ?_
    refine zp_8_867 (v := (0 : Int32)) rfl d_8154_45 ((K6 _).trans k1) k3 (Or.inl rfl) ?_
    generalize e8 : zs_sI S4 8132 p0 (0 : Int32) = S7
    have h := h S7 e8.symm
    have K9 : ∀ b, zs_K S7 b = zs_K S b := zs_Kt e8 (zs_KsI _ _ _ _) K6
    exact zu_vret d_8154_48 zr_8154 h
  · have h := h.2 c2
    refine zu_aload_n d_8154_10 rfl (zs_ra _) ?_
    refine zu_aload_n d_8154_11 rfl (zs_ra _) ?_
    refine zg_8_284 rfl d_8154_12 k1 ?_
    refine zu_iload_n d_8154_15 rfl ?_
    obtain ⟨b10, e11, h⟩ := h
    refine zs_stk1 (zs_rfe e11) ?_
    obtain ⟨k12, h⟩ := h
    refine zu_iald (k := 0) d_8154_16 rfl rfl k12 ?_
    refine zu_aload_n d_8154_17 rfl (zs_ra _) ?_
    refine zg_8_287 rfl d_8154_18 k1 ?_
    refine zu_iload_n d_8154_21 rfl ?_
    obtain ⟨b13, e14, h⟩ := h
    refine zs_stk1 (zs_rfe e14) ?_
    obtain ⟨k15, h⟩ := h
    refine zu_iald (k := 0) d_8154_22 rfl rfl k15 ?_
    refine zu_aload_n d_8154_23 rfl (zs_ra _) ?_
    refine zg_8_290 rfl d_8154_24 k1 ?_
    refine zu_iload_n d_8154_27 rfl ?_
    obtain ⟨b16, e17, h⟩ := h
    refine zs_stk1 (zs_rfe e17) ?_
    obtain ⟨k18, h⟩ := h
    refine zu_iald (k := 0) d_8154_28 rfl rfl k18 ?_
    refine zc_8_873 (x0 := (zs_i S b10 p1.toNatClampNeg)) (x1 := (zs_i S b13 p1.toNatClampNeg)) (x2 := (zs_i S b16 p1.toNatClampNeg)) hB rfl k1 d_8154_29 (Nat.le_of_ble_eq_true rfl) h (fun S19 h => ?_)
    exact (u_X9_endHats_32 hB h).weak ⟨rfl, rfl, trivial⟩
def w_X9_endHats (X : zs_X) (d : Nat) (p0 : Nat) (S : zs_T) (Q : zs_Q) : Prop :=
  (zs_U X d 8154 2 [(0, .ref p0), (1, .int (0 : Int32))] [] S Q)
theorem u_X9_endHats {σ : Nat → Nat} {n0 : Nat} {bf : ab_B} {d : Nat} {p0 : Nat} {S : zs_T} {Q : zs_Q} (hB : zt_B bf) (hd : 1 ≤ d) (h : w_X9_endHats (zx σ n0 bf) (d - 1) p0 S Q) : zs_C (zx σ n0 bf) d 8154 [.ref p0] S Q := by
  have hL : lv_args 0 [.ref p0] = [(0, .ref p0)] := rfl
  refine zs_C.of1 (hB.2 8154 (by decide) (by decide)) hd (by rw [hL]; exact zs_sub_self _ (by exact ⟨rfl, trivial⟩)) ?_
  rw [hL]
  clear hL
  unfold w_X9_endHats at h
  refine zu_iconst d_8154_0 zi_0 ?_
  refine zu_istore_n d_8154_1 (zs_lt zq_8154 rfl) ?_
  exact h.weak ⟨rfl, rfl, trivial⟩
/-! SchemaPascalModel.schema(I)V -/
theorem zm_8155 {σ : Nat → Nat} {n0 : Nat} {bf : ab_B} : ab_code (zx σ n0 bf).1 8155 = prog_17_method_146_code := rfl
theorem zq_8155 {σ : Nat → Nat} {n0 : Nat} {bf : ab_B} : ab_maxL (zx σ n0 bf).1 8155 = 9 := rfl
theorem zr_8155 {σ : Nat → Nat} {n0 : Nat} {bf : ab_B} : ab_ret (zx σ n0 bf).1 8155 = (Option.none : Option Jvm.ClassFile.FieldType) := rfl
theorem d_8155_0 {σ : Nat → Nat} {n0 : Nat} {bf : ab_B} : decode (ab_code (zx σ n0 bf).1 8155) 0 = .ok (.aload_n 0, 1) := zd zm_8155 (by decide +kernel)
theorem d_8155_1 {σ : Nat → Nat} {n0 : Nat} {bf : ab_B} : decode (ab_code (zx σ n0 bf).1 8155) 1 = .ok (.dup, 1) := zd zm_8155 (by decide +kernel)
theorem d_8155_2 {σ : Nat → Nat} {n0 : Nat} {bf : ab_B} : decode (ab_code (zx σ n0 bf).1 8155) 2 = .ok (.getfield 581, 3) := zd zm_8155 (by decide +kernel)
theorem d_8155_5 {σ : Nat → Nat} {n0 : Nat} {bf : ab_B} : decode (ab_code (zx σ n0 bf).1 8155) 5 = .ok (.iconst 1, 1) := zd zm_8155 (by decide +kernel)
theorem d_8155_6 {σ : Nat → Nat} {n0 : Nat} {bf : ab_B} : decode (ab_code (zx σ n0 bf).1 8155) 6 = .ok (.iadd, 1) := zd zm_8155 (by decide +kernel)
theorem d_8155_7 {σ : Nat → Nat} {n0 : Nat} {bf : ab_B} : decode (ab_code (zx σ n0 bf).1 8155) 7 = .ok (.putfield 581, 3) := zd zm_8155 (by decide +kernel)
theorem d_8155_10 {σ : Nat → Nat} {n0 : Nat} {bf : ab_B} : decode (ab_code (zx σ n0 bf).1 8155) 10 = .ok (.aload_n 0, 1) := zd zm_8155 (by decide +kernel)
theorem d_8155_11 {σ : Nat → Nat} {n0 : Nat} {bf : ab_B} : decode (ab_code (zx σ n0 bf).1 8155) 11 = .ok (.getfield 581, 3) := zd zm_8155 (by decide +kernel)
theorem d_8155_14 {σ : Nat → Nat} {n0 : Nat} {bf : ab_B} : decode (ab_code (zx σ n0 bf).1 8155) 14 = .ok (.istore_n 2, 1) := zd zm_8155 (by decide +kernel)
theorem d_8155_15 {σ : Nat → Nat} {n0 : Nat} {bf : ab_B} : decode (ab_code (zx σ n0 bf).1 8155) 15 = .ok (.aload_n 0, 1) := zd zm_8155 (by decide +kernel)
theorem d_8155_16 {σ : Nat → Nat} {n0 : Nat} {bf : ab_B} : decode (ab_code (zx σ n0 bf).1 8155) 16 = .ok (.getfield 124, 3) := zd zm_8155 (by decide +kernel)
theorem d_8155_19 {σ : Nat → Nat} {n0 : Nat} {bf : ab_B} : decode (ab_code (zx σ n0 bf).1 8155) 19 = .ok (.iload_n 2, 1) := zd zm_8155 (by decide +kernel)
theorem d_8155_20 {σ : Nat → Nat} {n0 : Nat} {bf : ab_B} : decode (ab_code (zx σ n0 bf).1 8155) 20 = .ok (.aload_n 0, 1) := zd zm_8155 (by decide +kernel)
theorem d_8155_21 {σ : Nat → Nat} {n0 : Nat} {bf : ab_B} : decode (ab_code (zx σ n0 bf).1 8155) 21 = .ok (.getfield 584, 3) := zd zm_8155 (by decide +kernel)
theorem d_8155_24 {σ : Nat → Nat} {n0 : Nat} {bf : ab_B} : decode (ab_code (zx σ n0 bf).1 8155) 24 = .ok (.iastore, 1) := zd zm_8155 (by decide +kernel)
theorem d_8155_25 {σ : Nat → Nat} {n0 : Nat} {bf : ab_B} : decode (ab_code (zx σ n0 bf).1 8155) 25 = .ok (.iconst 0, 1) := zd zm_8155 (by decide +kernel)
theorem d_8155_26 {σ : Nat → Nat} {n0 : Nat} {bf : ab_B} : decode (ab_code (zx σ n0 bf).1 8155) 26 = .ok (.istore_n 3, 1) := zd zm_8155 (by decide +kernel)
theorem d_8155_27 {σ : Nat → Nat} {n0 : Nat} {bf : ab_B} : decode (ab_code (zx σ n0 bf).1 8155) 27 = .ok (.iconst 1, 1) := zd zm_8155 (by decide +kernel)
theorem d_8155_28 {σ : Nat → Nat} {n0 : Nat} {bf : ab_B} : decode (ab_code (zx σ n0 bf).1 8155) 28 = .ok (.istore 4, 2) := zd zm_8155 (by decide +kernel)
theorem d_8155_30 {σ : Nat → Nat} {n0 : Nat} {bf : ab_B} : decode (ab_code (zx σ n0 bf).1 8155) 30 = .ok (.aload_n 0, 1) := zd zm_8155 (by decide +kernel)
theorem d_8155_31 {σ : Nat → Nat} {n0 : Nat} {bf : ab_B} : decode (ab_code (zx σ n0 bf).1 8155) 31 = .ok (.getfield 444, 3) := zd zm_8155 (by decide +kernel)
theorem d_8155_34 {σ : Nat → Nat} {n0 : Nat} {bf : ab_B} : decode (ab_code (zx σ n0 bf).1 8155) 34 = .ok (.ifCond .ne 229, 3) := zd zm_8155 (by decide +kernel)
theorem d_8155_37 {σ : Nat → Nat} {n0 : Nat} {bf : ab_B} : decode (ab_code (zx σ n0 bf).1 8155) 37 = .ok (.iload 4, 2) := zd zm_8155 (by decide +kernel)
theorem d_8155_39 {σ : Nat → Nat} {n0 : Nat} {bf : ab_B} : decode (ab_code (zx σ n0 bf).1 8155) 39 = .ok (.ifCond .eq 224, 3) := zd zm_8155 (by decide +kernel)
theorem d_8155_42 {σ : Nat → Nat} {n0 : Nat} {bf : ab_B} : decode (ab_code (zx σ n0 bf).1 8155) 42 = .ok (.iload_n 3, 1) := zd zm_8155 (by decide +kernel)
theorem d_8155_43 {σ : Nat → Nat} {n0 : Nat} {bf : ab_B} : decode (ab_code (zx σ n0 bf).1 8155) 43 = .ok (.istore 5, 2) := zd zm_8155 (by decide +kernel)
theorem d_8155_45 {σ : Nat → Nat} {n0 : Nat} {bf : ab_B} : decode (ab_code (zx σ n0 bf).1 8155) 45 = .ok (.iconst 1, 1) := zd zm_8155 (by decide +kernel)
theorem d_8155_46 {σ : Nat → Nat} {n0 : Nat} {bf : ab_B} : decode (ab_code (zx σ n0 bf).1 8155) 46 = .ok (.istore 6, 2) := zd zm_8155 (by decide +kernel)
theorem d_8155_48 {σ : Nat → Nat} {n0 : Nat} {bf : ab_B} : decode (ab_code (zx σ n0 bf).1 8155) 48 = .ok (.aload_n 0, 1) := zd zm_8155 (by decide +kernel)
theorem d_8155_49 {σ : Nat → Nat} {n0 : Nat} {bf : ab_B} : decode (ab_code (zx σ n0 bf).1 8155) 49 = .ok (.getfield 444, 3) := zd zm_8155 (by decide +kernel)
theorem d_8155_52 {σ : Nat → Nat} {n0 : Nat} {bf : ab_B} : decode (ab_code (zx σ n0 bf).1 8155) 52 = .ok (.ifCond .ne 107, 3) := zd zm_8155 (by decide +kernel)
theorem d_8155_55 {σ : Nat → Nat} {n0 : Nat} {bf : ab_B} : decode (ab_code (zx σ n0 bf).1 8155) 55 = .ok (.iload 6, 2) := zd zm_8155 (by decide +kernel)
theorem d_8155_57 {σ : Nat → Nat} {n0 : Nat} {bf : ab_B} : decode (ab_code (zx σ n0 bf).1 8155) 57 = .ok (.ifCond .eq 102, 3) := zd zm_8155 (by decide +kernel)
theorem d_8155_60 {σ : Nat → Nat} {n0 : Nat} {bf : ab_B} : decode (ab_code (zx σ n0 bf).1 8155) 60 = .ok (.aload_n 0, 1) := zd zm_8155 (by decide +kernel)
theorem d_8155_61 {σ : Nat → Nat} {n0 : Nat} {bf : ab_B} : decode (ab_code (zx σ n0 bf).1 8155) 61 = .ok (.getfield 484, 3) := zd zm_8155 (by decide +kernel)
theorem d_8155_64 {σ : Nat → Nat} {n0 : Nat} {bf : ab_B} : decode (ab_code (zx σ n0 bf).1 8155) 64 = .ok (.iconst 1, 1) := zd zm_8155 (by decide +kernel)
theorem d_8155_65 {σ : Nat → Nat} {n0 : Nat} {bf : ab_B} : decode (ab_code (zx σ n0 bf).1 8155) 65 = .ok (.if_icmp .eq 9, 3) := zd zm_8155 (by decide +kernel)
theorem d_8155_68 {σ : Nat → Nat} {n0 : Nat} {bf : ab_B} : decode (ab_code (zx σ n0 bf).1 8155) 68 = .ok (.aload_n 0, 1) := zd zm_8155 (by decide +kernel)
theorem d_8155_69 {σ : Nat → Nat} {n0 : Nat} {bf : ab_B} : decode (ab_code (zx σ n0 bf).1 8155) 69 = .ok (.iconst 2, 1) := zd zm_8155 (by decide +kernel)
theorem d_8155_70 {σ : Nat → Nat} {n0 : Nat} {bf : ab_B} : decode (ab_code (zx σ n0 bf).1 8155) 70 = .ok (.invokevirtual 541, 3) := zd zm_8155 (by decide +kernel)
theorem d_8155_73 {σ : Nat → Nat} {n0 : Nat} {bf : ab_B} : decode (ab_code (zx σ n0 bf).1 8155) 73 = .ok (.return_, 1) := zd zm_8155 (by decide +kernel)
theorem d_8155_74 {σ : Nat → Nat} {n0 : Nat} {bf : ab_B} : decode (ab_code (zx σ n0 bf).1 8155) 74 = .ok (.iconst 0, 1) := zd zm_8155 (by decide +kernel)
theorem d_8155_75 {σ : Nat → Nat} {n0 : Nat} {bf : ab_B} : decode (ab_code (zx σ n0 bf).1 8155) 75 = .ok (.istore 7, 2) := zd zm_8155 (by decide +kernel)
theorem d_8155_77 {σ : Nat → Nat} {n0 : Nat} {bf : ab_B} : decode (ab_code (zx σ n0 bf).1 8155) 77 = .ok (.iload 7, 2) := zd zm_8155 (by decide +kernel)
theorem d_8155_79 {σ : Nat → Nat} {n0 : Nat} {bf : ab_B} : decode (ab_code (zx σ n0 bf).1 8155) 79 = .ok (.iload_n 3, 1) := zd zm_8155 (by decide +kernel)
theorem d_8155_80 {σ : Nat → Nat} {n0 : Nat} {bf : ab_B} : decode (ab_code (zx σ n0 bf).1 8155) 80 = .ok (.if_icmp .ge 35, 3) := zd zm_8155 (by decide +kernel)
theorem d_8155_83 {σ : Nat → Nat} {n0 : Nat} {bf : ab_B} : decode (ab_code (zx σ n0 bf).1 8155) 83 = .ok (.aload_n 0, 1) := zd zm_8155 (by decide +kernel)
theorem d_8155_84 {σ : Nat → Nat} {n0 : Nat} {bf : ab_B} : decode (ab_code (zx σ n0 bf).1 8155) 84 = .ok (.getfield 133, 3) := zd zm_8155 (by decide +kernel)
theorem d_8155_87 {σ : Nat → Nat} {n0 : Nat} {bf : ab_B} : decode (ab_code (zx σ n0 bf).1 8155) 87 = .ok (.aload_n 0, 1) := zd zm_8155 (by decide +kernel)
theorem d_8155_88 {σ : Nat → Nat} {n0 : Nat} {bf : ab_B} : decode (ab_code (zx σ n0 bf).1 8155) 88 = .ok (.getfield 124, 3) := zd zm_8155 (by decide +kernel)
theorem d_8155_91 {σ : Nat → Nat} {n0 : Nat} {bf : ab_B} : decode (ab_code (zx σ n0 bf).1 8155) 91 = .ok (.iload_n 2, 1) := zd zm_8155 (by decide +kernel)
theorem d_8155_92 {σ : Nat → Nat} {n0 : Nat} {bf : ab_B} : decode (ab_code (zx σ n0 bf).1 8155) 92 = .ok (.iaload, 1) := zd zm_8155 (by decide +kernel)
theorem d_8155_93 {σ : Nat → Nat} {n0 : Nat} {bf : ab_B} : decode (ab_code (zx σ n0 bf).1 8155) 93 = .ok (.iload 7, 2) := zd zm_8155 (by decide +kernel)
theorem d_8155_95 {σ : Nat → Nat} {n0 : Nat} {bf : ab_B} : decode (ab_code (zx σ n0 bf).1 8155) 95 = .ok (.iadd, 1) := zd zm_8155 (by decide +kernel)
theorem d_8155_96 {σ : Nat → Nat} {n0 : Nat} {bf : ab_B} : decode (ab_code (zx σ n0 bf).1 8155) 96 = .ok (.iaload, 1) := zd zm_8155 (by decide +kernel)
theorem d_8155_97 {σ : Nat → Nat} {n0 : Nat} {bf : ab_B} : decode (ab_code (zx σ n0 bf).1 8155) 97 = .ok (.aload_n 0, 1) := zd zm_8155 (by decide +kernel)
theorem d_8155_98 {σ : Nat → Nat} {n0 : Nat} {bf : ab_B} : decode (ab_code (zx σ n0 bf).1 8155) 98 = .ok (.getfield 494, 3) := zd zm_8155 (by decide +kernel)
theorem d_8155_101 {σ : Nat → Nat} {n0 : Nat} {bf : ab_B} : decode (ab_code (zx σ n0 bf).1 8155) 101 = .ok (.if_icmp .ne 8, 3) := zd zm_8155 (by decide +kernel)
theorem d_8155_104 {σ : Nat → Nat} {n0 : Nat} {bf : ab_B} : decode (ab_code (zx σ n0 bf).1 8155) 104 = .ok (.aload_n 0, 1) := zd zm_8155 (by decide +kernel)
theorem d_8155_105 {σ : Nat → Nat} {n0 : Nat} {bf : ab_B} : decode (ab_code (zx σ n0 bf).1 8155) 105 = .ok (.iconst 4, 1) := zd zm_8155 (by decide +kernel)
theorem d_8155_106 {σ : Nat → Nat} {n0 : Nat} {bf : ab_B} : decode (ab_code (zx σ n0 bf).1 8155) 106 = .ok (.invokevirtual 541, 3) := zd zm_8155 (by decide +kernel)
theorem d_8155_109 {σ : Nat → Nat} {n0 : Nat} {bf : ab_B} : decode (ab_code (zx σ n0 bf).1 8155) 109 = .ok (.iinc 7 1, 3) := zd zm_8155 (by decide +kernel)
theorem d_8155_112 {σ : Nat → Nat} {n0 : Nat} {bf : ab_B} : decode (ab_code (zx σ n0 bf).1 8155) 112 = .ok (.goto (-35), 3) := zd zm_8155 (by decide +kernel)
theorem d_8155_115 {σ : Nat → Nat} {n0 : Nat} {bf : ab_B} : decode (ab_code (zx σ n0 bf).1 8155) 115 = .ok (.aload_n 0, 1) := zd zm_8155 (by decide +kernel)
theorem d_8155_116 {σ : Nat → Nat} {n0 : Nat} {bf : ab_B} : decode (ab_code (zx σ n0 bf).1 8155) 116 = .ok (.getfield 133, 3) := zd zm_8155 (by decide +kernel)
theorem d_8155_119 {σ : Nat → Nat} {n0 : Nat} {bf : ab_B} : decode (ab_code (zx σ n0 bf).1 8155) 119 = .ok (.aload_n 0, 1) := zd zm_8155 (by decide +kernel)
theorem d_8155_120 {σ : Nat → Nat} {n0 : Nat} {bf : ab_B} : decode (ab_code (zx σ n0 bf).1 8155) 120 = .ok (.getfield 124, 3) := zd zm_8155 (by decide +kernel)
theorem d_8155_123 {σ : Nat → Nat} {n0 : Nat} {bf : ab_B} : decode (ab_code (zx σ n0 bf).1 8155) 123 = .ok (.iload_n 2, 1) := zd zm_8155 (by decide +kernel)
theorem d_8155_124 {σ : Nat → Nat} {n0 : Nat} {bf : ab_B} : decode (ab_code (zx σ n0 bf).1 8155) 124 = .ok (.iaload, 1) := zd zm_8155 (by decide +kernel)
theorem d_8155_125 {σ : Nat → Nat} {n0 : Nat} {bf : ab_B} : decode (ab_code (zx σ n0 bf).1 8155) 125 = .ok (.iload_n 3, 1) := zd zm_8155 (by decide +kernel)
theorem d_8155_126 {σ : Nat → Nat} {n0 : Nat} {bf : ab_B} : decode (ab_code (zx σ n0 bf).1 8155) 126 = .ok (.iadd, 1) := zd zm_8155 (by decide +kernel)
theorem d_8155_127 {σ : Nat → Nat} {n0 : Nat} {bf : ab_B} : decode (ab_code (zx σ n0 bf).1 8155) 127 = .ok (.aload_n 0, 1) := zd zm_8155 (by decide +kernel)
theorem d_8155_128 {σ : Nat → Nat} {n0 : Nat} {bf : ab_B} : decode (ab_code (zx σ n0 bf).1 8155) 128 = .ok (.getfield 494, 3) := zd zm_8155 (by decide +kernel)
theorem d_8155_131 {σ : Nat → Nat} {n0 : Nat} {bf : ab_B} : decode (ab_code (zx σ n0 bf).1 8155) 131 = .ok (.iastore, 1) := zd zm_8155 (by decide +kernel)
theorem d_8155_132 {σ : Nat → Nat} {n0 : Nat} {bf : ab_B} : decode (ab_code (zx σ n0 bf).1 8155) 132 = .ok (.iinc 3 1, 3) := zd zm_8155 (by decide +kernel)
theorem d_8155_135 {σ : Nat → Nat} {n0 : Nat} {bf : ab_B} : decode (ab_code (zx σ n0 bf).1 8155) 135 = .ok (.aload_n 0, 1) := zd zm_8155 (by decide +kernel)
theorem d_8155_136 {σ : Nat → Nat} {n0 : Nat} {bf : ab_B} : decode (ab_code (zx σ n0 bf).1 8155) 136 = .ok (.invokevirtual 538, 3) := zd zm_8155 (by decide +kernel)
theorem d_8155_139 {σ : Nat → Nat} {n0 : Nat} {bf : ab_B} : decode (ab_code (zx σ n0 bf).1 8155) 139 = .ok (.aload_n 0, 1) := zd zm_8155 (by decide +kernel)
theorem d_8155_140 {σ : Nat → Nat} {n0 : Nat} {bf : ab_B} : decode (ab_code (zx σ n0 bf).1 8155) 140 = .ok (.bipush 12, 2) := zd zm_8155 (by decide +kernel)
theorem d_8155_142 {σ : Nat → Nat} {n0 : Nat} {bf : ab_B} : decode (ab_code (zx σ n0 bf).1 8155) 142 = .ok (.invokevirtual 535, 3) := zd zm_8155 (by decide +kernel)
theorem d_8155_145 {σ : Nat → Nat} {n0 : Nat} {bf : ab_B} : decode (ab_code (zx σ n0 bf).1 8155) 145 = .ok (.istore 6, 2) := zd zm_8155 (by decide +kernel)
theorem d_8155_147 {σ : Nat → Nat} {n0 : Nat} {bf : ab_B} : decode (ab_code (zx σ n0 bf).1 8155) 147 = .ok (.iload 6, 2) := zd zm_8155 (by decide +kernel)
theorem d_8155_149 {σ : Nat → Nat} {n0 : Nat} {bf : ab_B} : decode (ab_code (zx σ n0 bf).1 8155) 149 = .ok (.ifCond .eq (-101), 3) := zd zm_8155 (by decide +kernel)
theorem d_8155_152 {σ : Nat → Nat} {n0 : Nat} {bf : ab_B} : decode (ab_code (zx σ n0 bf).1 8155) 152 = .ok (.aload_n 0, 1) := zd zm_8155 (by decide +kernel)
theorem d_8155_153 {σ : Nat → Nat} {n0 : Nat} {bf : ab_B} : decode (ab_code (zx σ n0 bf).1 8155) 153 = .ok (.invokevirtual 538, 3) := zd zm_8155 (by decide +kernel)
theorem d_8155_156 {σ : Nat → Nat} {n0 : Nat} {bf : ab_B} : decode (ab_code (zx σ n0 bf).1 8155) 156 = .ok (.goto (-108), 3) := zd zm_8155 (by decide +kernel)
theorem d_8155_159 {σ : Nat → Nat} {n0 : Nat} {bf : ab_B} : decode (ab_code (zx σ n0 bf).1 8155) 159 = .ok (.aload_n 0, 1) := zd zm_8155 (by decide +kernel)
theorem d_8155_160 {σ : Nat → Nat} {n0 : Nat} {bf : ab_B} : decode (ab_code (zx σ n0 bf).1 8155) 160 = .ok (.bipush 14, 2) := zd zm_8155 (by decide +kernel)
theorem d_8155_162 {σ : Nat → Nat} {n0 : Nat} {bf : ab_B} : decode (ab_code (zx σ n0 bf).1 8155) 162 = .ok (.invokevirtual 746, 3) := zd zm_8155 (by decide +kernel)
theorem d_8155_165 {σ : Nat → Nat} {n0 : Nat} {bf : ab_B} : decode (ab_code (zx σ n0 bf).1 8155) 165 = .ok (.aload_n 0, 1) := zd zm_8155 (by decide +kernel)
theorem d_8155_166 {σ : Nat → Nat} {n0 : Nat} {bf : ab_B} : decode (ab_code (zx σ n0 bf).1 8155) 166 = .ok (.iconst 1, 1) := zd zm_8155 (by decide +kernel)
theorem d_8155_167 {σ : Nat → Nat} {n0 : Nat} {bf : ab_B} : decode (ab_code (zx σ n0 bf).1 8155) 167 = .ok (.invokevirtual 905, 3) := zd zm_8155 (by decide +kernel)
theorem d_8155_170 {σ : Nat → Nat} {n0 : Nat} {bf : ab_B} : decode (ab_code (zx σ n0 bf).1 8155) 170 = .ok (.istore 7, 2) := zd zm_8155 (by decide +kernel)
theorem d_8155_172 {σ : Nat → Nat} {n0 : Nat} {bf : ab_B} : decode (ab_code (zx σ n0 bf).1 8155) 172 = .ok (.aload_n 0, 1) := zd zm_8155 (by decide +kernel)
theorem d_8155_173 {σ : Nat → Nat} {n0 : Nat} {bf : ab_B} : decode (ab_code (zx σ n0 bf).1 8155) 173 = .ok (.getfield 444, 3) := zd zm_8155 (by decide +kernel)
theorem d_8155_176 {σ : Nat → Nat} {n0 : Nat} {bf : ab_B} : decode (ab_code (zx σ n0 bf).1 8155) 176 = .ok (.ifCond .ne 14, 3) := zd zm_8155 (by decide +kernel)
theorem d_8155_179 {σ : Nat → Nat} {n0 : Nat} {bf : ab_B} : decode (ab_code (zx σ n0 bf).1 8155) 179 = .ok (.iload_n 3, 1) := zd zm_8155 (by decide +kernel)
theorem d_8155_180 {σ : Nat → Nat} {n0 : Nat} {bf : ab_B} : decode (ab_code (zx σ n0 bf).1 8155) 180 = .ok (.iconst 4, 1) := zd zm_8155 (by decide +kernel)
theorem d_8155_181 {σ : Nat → Nat} {n0 : Nat} {bf : ab_B} : decode (ab_code (zx σ n0 bf).1 8155) 181 = .ok (.if_icmp .le 9, 3) := zd zm_8155 (by decide +kernel)
theorem d_8155_184 {σ : Nat → Nat} {n0 : Nat} {bf : ab_B} : decode (ab_code (zx σ n0 bf).1 8155) 184 = .ok (.aload_n 0, 1) := zd zm_8155 (by decide +kernel)
theorem d_8155_185 {σ : Nat → Nat} {n0 : Nat} {bf : ab_B} : decode (ab_code (zx σ n0 bf).1 8155) 185 = .ok (.bipush 8, 2) := zd zm_8155 (by decide +kernel)
theorem d_8155_187 {σ : Nat → Nat} {n0 : Nat} {bf : ab_B} : decode (ab_code (zx σ n0 bf).1 8155) 187 = .ok (.invokevirtual 541, 3) := zd zm_8155 (by decide +kernel)
theorem d_8155_190 {σ : Nat → Nat} {n0 : Nat} {bf : ab_B} : decode (ab_code (zx σ n0 bf).1 8155) 190 = .ok (.aload_n 0, 1) := zd zm_8155 (by decide +kernel)
theorem d_8155_191 {σ : Nat → Nat} {n0 : Nat} {bf : ab_B} : decode (ab_code (zx σ n0 bf).1 8155) 191 = .ok (.getfield 444, 3) := zd zm_8155 (by decide +kernel)
theorem d_8155_194 {σ : Nat → Nat} {n0 : Nat} {bf : ab_B} : decode (ab_code (zx σ n0 bf).1 8155) 194 = .ok (.ifCond .ne 17, 3) := zd zm_8155 (by decide +kernel)
theorem d_8155_197 {σ : Nat → Nat} {n0 : Nat} {bf : ab_B} : decode (ab_code (zx σ n0 bf).1 8155) 197 = .ok (.aload_n 0, 1) := zd zm_8155 (by decide +kernel)
theorem d_8155_198 {σ : Nat → Nat} {n0 : Nat} {bf : ab_B} : decode (ab_code (zx σ n0 bf).1 8155) 198 = .ok (.iload 7, 2) := zd zm_8155 (by decide +kernel)
theorem d_8155_200 {σ : Nat → Nat} {n0 : Nat} {bf : ab_B} : decode (ab_code (zx σ n0 bf).1 8155) 200 = .ok (.invokevirtual 564, 3) := zd zm_8155 (by decide +kernel)
theorem d_8155_203 {σ : Nat → Nat} {n0 : Nat} {bf : ab_B} : decode (ab_code (zx σ n0 bf).1 8155) 203 = .ok (.ifCond .ne 8, 3) := zd zm_8155 (by decide +kernel)
theorem d_8155_206 {σ : Nat → Nat} {n0 : Nat} {bf : ab_B} : decode (ab_code (zx σ n0 bf).1 8155) 206 = .ok (.aload_n 0, 1) := zd zm_8155 (by decide +kernel)
theorem d_8155_207 {σ : Nat → Nat} {n0 : Nat} {bf : ab_B} : decode (ab_code (zx σ n0 bf).1 8155) 207 = .ok (.iconst 5, 1) := zd zm_8155 (by decide +kernel)
theorem d_8155_208 {σ : Nat → Nat} {n0 : Nat} {bf : ab_B} : decode (ab_code (zx σ n0 bf).1 8155) 208 = .ok (.invokevirtual 541, 3) := zd zm_8155 (by decide +kernel)
theorem d_8155_211 {σ : Nat → Nat} {n0 : Nat} {bf : ab_B} : decode (ab_code (zx σ n0 bf).1 8155) 211 = .ok (.iload 5, 2) := zd zm_8155 (by decide +kernel)
theorem d_8155_213 {σ : Nat → Nat} {n0 : Nat} {bf : ab_B} : decode (ab_code (zx σ n0 bf).1 8155) 213 = .ok (.istore 8, 2) := zd zm_8155 (by decide +kernel)
theorem d_8155_215 {σ : Nat → Nat} {n0 : Nat} {bf : ab_B} : decode (ab_code (zx σ n0 bf).1 8155) 215 = .ok (.iload 8, 2) := zd zm_8155 (by decide +kernel)
theorem d_8155_217 {σ : Nat → Nat} {n0 : Nat} {bf : ab_B} : decode (ab_code (zx σ n0 bf).1 8155) 217 = .ok (.iload_n 3, 1) := zd zm_8155 (by decide +kernel)
theorem d_8155_218 {σ : Nat → Nat} {n0 : Nat} {bf : ab_B} : decode (ab_code (zx σ n0 bf).1 8155) 218 = .ok (.if_icmp .ge 25, 3) := zd zm_8155 (by decide +kernel)
theorem d_8155_221 {σ : Nat → Nat} {n0 : Nat} {bf : ab_B} : decode (ab_code (zx σ n0 bf).1 8155) 221 = .ok (.aload_n 0, 1) := zd zm_8155 (by decide +kernel)
theorem d_8155_222 {σ : Nat → Nat} {n0 : Nat} {bf : ab_B} : decode (ab_code (zx σ n0 bf).1 8155) 222 = .ok (.getfield 136, 3) := zd zm_8155 (by decide +kernel)
theorem d_8155_225 {σ : Nat → Nat} {n0 : Nat} {bf : ab_B} : decode (ab_code (zx σ n0 bf).1 8155) 225 = .ok (.aload_n 0, 1) := zd zm_8155 (by decide +kernel)
theorem d_8155_226 {σ : Nat → Nat} {n0 : Nat} {bf : ab_B} : decode (ab_code (zx σ n0 bf).1 8155) 226 = .ok (.getfield 124, 3) := zd zm_8155 (by decide +kernel)
theorem d_8155_229 {σ : Nat → Nat} {n0 : Nat} {bf : ab_B} : decode (ab_code (zx σ n0 bf).1 8155) 229 = .ok (.iload_n 2, 1) := zd zm_8155 (by decide +kernel)
theorem d_8155_230 {σ : Nat → Nat} {n0 : Nat} {bf : ab_B} : decode (ab_code (zx σ n0 bf).1 8155) 230 = .ok (.iaload, 1) := zd zm_8155 (by decide +kernel)
theorem d_8155_231 {σ : Nat → Nat} {n0 : Nat} {bf : ab_B} : decode (ab_code (zx σ n0 bf).1 8155) 231 = .ok (.iload 8, 2) := zd zm_8155 (by decide +kernel)
theorem d_8155_233 {σ : Nat → Nat} {n0 : Nat} {bf : ab_B} : decode (ab_code (zx σ n0 bf).1 8155) 233 = .ok (.iadd, 1) := zd zm_8155 (by decide +kernel)
theorem d_8155_234 {σ : Nat → Nat} {n0 : Nat} {bf : ab_B} : decode (ab_code (zx σ n0 bf).1 8155) 234 = .ok (.iload 7, 2) := zd zm_8155 (by decide +kernel)
theorem d_8155_236 {σ : Nat → Nat} {n0 : Nat} {bf : ab_B} : decode (ab_code (zx σ n0 bf).1 8155) 236 = .ok (.iastore, 1) := zd zm_8155 (by decide +kernel)
theorem d_8155_237 {σ : Nat → Nat} {n0 : Nat} {bf : ab_B} : decode (ab_code (zx σ n0 bf).1 8155) 237 = .ok (.iinc 8 1, 3) := zd zm_8155 (by decide +kernel)
theorem d_8155_240 {σ : Nat → Nat} {n0 : Nat} {bf : ab_B} : decode (ab_code (zx σ n0 bf).1 8155) 240 = .ok (.goto (-25), 3) := zd zm_8155 (by decide +kernel)
theorem d_8155_243 {σ : Nat → Nat} {n0 : Nat} {bf : ab_B} : decode (ab_code (zx σ n0 bf).1 8155) 243 = .ok (.aload_n 0, 1) := zd zm_8155 (by decide +kernel)
theorem d_8155_244 {σ : Nat → Nat} {n0 : Nat} {bf : ab_B} : decode (ab_code (zx σ n0 bf).1 8155) 244 = .ok (.bipush 13, 2) := zd zm_8155 (by decide +kernel)
theorem d_8155_246 {σ : Nat → Nat} {n0 : Nat} {bf : ab_B} : decode (ab_code (zx σ n0 bf).1 8155) 246 = .ok (.invokevirtual 535, 3) := zd zm_8155 (by decide +kernel)
theorem d_8155_249 {σ : Nat → Nat} {n0 : Nat} {bf : ab_B} : decode (ab_code (zx σ n0 bf).1 8155) 249 = .ok (.istore 4, 2) := zd zm_8155 (by decide +kernel)
theorem d_8155_251 {σ : Nat → Nat} {n0 : Nat} {bf : ab_B} : decode (ab_code (zx σ n0 bf).1 8155) 251 = .ok (.iload 4, 2) := zd zm_8155 (by decide +kernel)
theorem d_8155_253 {σ : Nat → Nat} {n0 : Nat} {bf : ab_B} : decode (ab_code (zx σ n0 bf).1 8155) 253 = .ok (.ifCond .eq 7, 3) := zd zm_8155 (by decide +kernel)
theorem d_8155_256 {σ : Nat → Nat} {n0 : Nat} {bf : ab_B} : decode (ab_code (zx σ n0 bf).1 8155) 256 = .ok (.aload_n 0, 1) := zd zm_8155 (by decide +kernel)
theorem d_8155_257 {σ : Nat → Nat} {n0 : Nat} {bf : ab_B} : decode (ab_code (zx σ n0 bf).1 8155) 257 = .ok (.invokevirtual 538, 3) := zd zm_8155 (by decide +kernel)
theorem d_8155_260 {σ : Nat → Nat} {n0 : Nat} {bf : ab_B} : decode (ab_code (zx σ n0 bf).1 8155) 260 = .ok (.goto (-230), 3) := zd zm_8155 (by decide +kernel)
theorem d_8155_263 {σ : Nat → Nat} {n0 : Nat} {bf : ab_B} : decode (ab_code (zx σ n0 bf).1 8155) 263 = .ok (.aload_n 0, 1) := zd zm_8155 (by decide +kernel)
theorem d_8155_264 {σ : Nat → Nat} {n0 : Nat} {bf : ab_B} : decode (ab_code (zx σ n0 bf).1 8155) 264 = .ok (.bipush 9, 2) := zd zm_8155 (by decide +kernel)
theorem d_8155_266 {σ : Nat → Nat} {n0 : Nat} {bf : ab_B} : decode (ab_code (zx σ n0 bf).1 8155) 266 = .ok (.invokevirtual 746, 3) := zd zm_8155 (by decide +kernel)
theorem d_8155_269 {σ : Nat → Nat} {n0 : Nat} {bf : ab_B} : decode (ab_code (zx σ n0 bf).1 8155) 269 = .ok (.aload_n 0, 1) := zd zm_8155 (by decide +kernel)
theorem d_8155_270 {σ : Nat → Nat} {n0 : Nat} {bf : ab_B} : decode (ab_code (zx σ n0 bf).1 8155) 270 = .ok (.iconst 5, 1) := zd zm_8155 (by decide +kernel)
theorem d_8155_271 {σ : Nat → Nat} {n0 : Nat} {bf : ab_B} : decode (ab_code (zx σ n0 bf).1 8155) 271 = .ok (.invokevirtual 746, 3) := zd zm_8155 (by decide +kernel)
theorem d_8155_274 {σ : Nat → Nat} {n0 : Nat} {bf : ab_B} : decode (ab_code (zx σ n0 bf).1 8155) 274 = .ok (.aload_n 0, 1) := zd zm_8155 (by decide +kernel)
theorem d_8155_275 {σ : Nat → Nat} {n0 : Nat} {bf : ab_B} : decode (ab_code (zx σ n0 bf).1 8155) 275 = .ok (.getfield 444, 3) := zd zm_8155 (by decide +kernel)
theorem d_8155_278 {σ : Nat → Nat} {n0 : Nat} {bf : ab_B} : decode (ab_code (zx σ n0 bf).1 8155) 278 = .ok (.ifCond .le 4, 3) := zd zm_8155 (by decide +kernel)
theorem d_8155_281 {σ : Nat → Nat} {n0 : Nat} {bf : ab_B} : decode (ab_code (zx σ n0 bf).1 8155) 281 = .ok (.return_, 1) := zd zm_8155 (by decide +kernel)
theorem d_8155_282 {σ : Nat → Nat} {n0 : Nat} {bf : ab_B} : decode (ab_code (zx σ n0 bf).1 8155) 282 = .ok (.aload_n 0, 1) := zd zm_8155 (by decide +kernel)
theorem d_8155_283 {σ : Nat → Nat} {n0 : Nat} {bf : ab_B} : decode (ab_code (zx σ n0 bf).1 8155) 283 = .ok (.getfield 127, 3) := zd zm_8155 (by decide +kernel)
theorem d_8155_286 {σ : Nat → Nat} {n0 : Nat} {bf : ab_B} : decode (ab_code (zx σ n0 bf).1 8155) 286 = .ok (.iload_n 2, 1) := zd zm_8155 (by decide +kernel)
theorem d_8155_287 {σ : Nat → Nat} {n0 : Nat} {bf : ab_B} : decode (ab_code (zx σ n0 bf).1 8155) 287 = .ok (.iload_n 3, 1) := zd zm_8155 (by decide +kernel)
theorem d_8155_288 {σ : Nat → Nat} {n0 : Nat} {bf : ab_B} : decode (ab_code (zx σ n0 bf).1 8155) 288 = .ok (.i2b, 1) := zd zm_8155 (by decide +kernel)
theorem d_8155_289 {σ : Nat → Nat} {n0 : Nat} {bf : ab_B} : decode (ab_code (zx σ n0 bf).1 8155) 289 = .ok (.bastore, 1) := zd zm_8155 (by decide +kernel)
theorem d_8155_290 {σ : Nat → Nat} {n0 : Nat} {bf : ab_B} : decode (ab_code (zx σ n0 bf).1 8155) 290 = .ok (.aload_n 0, 1) := zd zm_8155 (by decide +kernel)
theorem d_8155_291 {σ : Nat → Nat} {n0 : Nat} {bf : ab_B} : decode (ab_code (zx σ n0 bf).1 8155) 291 = .ok (.dup, 1) := zd zm_8155 (by decide +kernel)
theorem d_8155_292 {σ : Nat → Nat} {n0 : Nat} {bf : ab_B} : decode (ab_code (zx σ n0 bf).1 8155) 292 = .ok (.getfield 584, 3) := zd zm_8155 (by decide +kernel)
theorem d_8155_295 {σ : Nat → Nat} {n0 : Nat} {bf : ab_B} : decode (ab_code (zx σ n0 bf).1 8155) 295 = .ok (.iload_n 3, 1) := zd zm_8155 (by decide +kernel)
theorem d_8155_296 {σ : Nat → Nat} {n0 : Nat} {bf : ab_B} : decode (ab_code (zx σ n0 bf).1 8155) 296 = .ok (.iadd, 1) := zd zm_8155 (by decide +kernel)
theorem d_8155_297 {σ : Nat → Nat} {n0 : Nat} {bf : ab_B} : decode (ab_code (zx σ n0 bf).1 8155) 297 = .ok (.putfield 584, 3) := zd zm_8155 (by decide +kernel)
theorem d_8155_300 {σ : Nat → Nat} {n0 : Nat} {bf : ab_B} : decode (ab_code (zx σ n0 bf).1 8155) 300 = .ok (.aload_n 0, 1) := zd zm_8155 (by decide +kernel)
theorem d_8155_301 {σ : Nat → Nat} {n0 : Nat} {bf : ab_B} : decode (ab_code (zx σ n0 bf).1 8155) 301 = .ok (.iload_n 2, 1) := zd zm_8155 (by decide +kernel)
theorem d_8155_302 {σ : Nat → Nat} {n0 : Nat} {bf : ab_B} : decode (ab_code (zx σ n0 bf).1 8155) 302 = .ok (.putfield 852, 3) := zd zm_8155 (by decide +kernel)
theorem d_8155_305 {σ : Nat → Nat} {n0 : Nat} {bf : ab_B} : decode (ab_code (zx σ n0 bf).1 8155) 305 = .ok (.aload_n 0, 1) := zd zm_8155 (by decide +kernel)
theorem d_8155_306 {σ : Nat → Nat} {n0 : Nat} {bf : ab_B} : decode (ab_code (zx σ n0 bf).1 8155) 306 = .ok (.iload_n 2, 1) := zd zm_8155 (by decide +kernel)
theorem d_8155_307 {σ : Nat → Nat} {n0 : Nat} {bf : ab_B} : decode (ab_code (zx σ n0 bf).1 8155) 307 = .ok (.invokevirtual 861, 3) := zd zm_8155 (by decide +kernel)
theorem d_8155_310 {σ : Nat → Nat} {n0 : Nat} {bf : ab_B} : decode (ab_code (zx σ n0 bf).1 8155) 310 = .ok (.aload_n 0, 1) := zd zm_8155 (by decide +kernel)
theorem d_8155_311 {σ : Nat → Nat} {n0 : Nat} {bf : ab_B} : decode (ab_code (zx σ n0 bf).1 8155) 311 = .ok (.bipush 65, 2) := zd zm_8155 (by decide +kernel)
theorem d_8155_313 {σ : Nat → Nat} {n0 : Nat} {bf : ab_B} : decode (ab_code (zx σ n0 bf).1 8155) 313 = .ok (.iload_n 1, 1) := zd zm_8155 (by decide +kernel)
theorem d_8155_314 {σ : Nat → Nat} {n0 : Nat} {bf : ab_B} : decode (ab_code (zx σ n0 bf).1 8155) 314 = .ok (.iload_n 2, 1) := zd zm_8155 (by decide +kernel)
theorem d_8155_315 {σ : Nat → Nat} {n0 : Nat} {bf : ab_B} : decode (ab_code (zx σ n0 bf).1 8155) 315 = .ok (.iconst 0, 1) := zd zm_8155 (by decide +kernel)
theorem d_8155_316 {σ : Nat → Nat} {n0 : Nat} {bf : ab_B} : decode (ab_code (zx σ n0 bf).1 8155) 316 = .ok (.invokevirtual 649, 3) := zd zm_8155 (by decide +kernel)
theorem d_8155_319 {σ : Nat → Nat} {n0 : Nat} {bf : ab_B} : decode (ab_code (zx σ n0 bf).1 8155) 319 = .ok (.aload_n 0, 1) := zd zm_8155 (by decide +kernel)
theorem d_8155_320 {σ : Nat → Nat} {n0 : Nat} {bf : ab_B} : decode (ab_code (zx σ n0 bf).1 8155) 320 = .ok (.bipush 30, 2) := zd zm_8155 (by decide +kernel)
theorem d_8155_322 {σ : Nat → Nat} {n0 : Nat} {bf : ab_B} : decode (ab_code (zx σ n0 bf).1 8155) 322 = .ok (.iconst 0, 1) := zd zm_8155 (by decide +kernel)
theorem d_8155_323 {σ : Nat → Nat} {n0 : Nat} {bf : ab_B} : decode (ab_code (zx σ n0 bf).1 8155) 323 = .ok (.iconst 0, 1) := zd zm_8155 (by decide +kernel)
theorem d_8155_324 {σ : Nat → Nat} {n0 : Nat} {bf : ab_B} : decode (ab_code (zx σ n0 bf).1 8155) 324 = .ok (.iconst 0, 1) := zd zm_8155 (by decide +kernel)
theorem d_8155_325 {σ : Nat → Nat} {n0 : Nat} {bf : ab_B} : decode (ab_code (zx σ n0 bf).1 8155) 325 = .ok (.invokevirtual 649, 3) := zd zm_8155 (by decide +kernel)
theorem d_8155_328 {σ : Nat → Nat} {n0 : Nat} {bf : ab_B} : decode (ab_code (zx σ n0 bf).1 8155) 328 = .ok (.return_, 1) := zd zm_8155 (by decide +kernel)
def w_X9_schema_27 (X : zs_X) (d : Nat) (p0 : Nat) (p1 : Int32) (p2 : Int32) (p3 : Int32) (S : zs_T) (Q : zs_Q) : Prop :=
  (zs_U X d 8155 30 [(0, .ref p0), (1, .int p1), (2, .int p2), (3, .int p3), (4, .int (1 : Int32))] [] S Q)
theorem u_X9_schema_27 {σ : Nat → Nat} {n0 : Nat} {bf : ab_B} {d : Nat} {p0 : Nat} {p1 : Int32} {p2 : Int32} {p3 : Int32} {S : zs_T} {Q : zs_Q} (hB : zt_B bf) (h : w_X9_schema_27 (zx σ n0 bf) d p0 p1 p2 p3 S Q) : zs_U (zx σ n0 bf) d 8155 27 [(0, .ref p0), (1, .int p1), (2, .int p2), (3, .int p3)] [] S Q := by
  unfold w_X9_schema_27 at h
  refine zu_iconst d_8155_27 zi_1 ?_
  refine zu_istore d_8155_28 (zs_lt zq_8155 rfl) ?_
  exact h.weak ⟨rfl, rfl, rfl, rfl, rfl, trivial⟩
def w_X9_schema_328 (X : zs_X) (d : Nat)  (S : zs_T) (Q : zs_Q) : Prop :=
  (Q (.returned none) S)
theorem u_X9_schema_328 {σ : Nat → Nat} {n0 : Nat} {bf : ab_B} {d : Nat}  {S : zs_T} {Q : zs_Q} (hB : zt_B bf) (h : w_X9_schema_328 (zx σ n0 bf) d  S Q) : zs_U (zx σ n0 bf) d 8155 328 [] [] S Q := by
  unfold w_X9_schema_328 at h
  exact zu_vret d_8155_328 zr_8155 h
def w_X9_schema_300 (X : zs_X) (d : Nat) (p0 : Nat) (p1 : Int32) (p2 : Int32) (S : zs_T) (Q : zs_Q) : Prop :=
  (zs_K S p0 = some (.inl 8) ∧ ab_n0 X.1 ≤ p0 ∧ ∀ S3, S3 = zs_sI S 8114 p0 p2 → zs_C X d 8096 [.ref p0, .int p2] S3 (zs_kV (fun S6 => (zs_K S6 p0 = some (.inl 8) ∧ zs_C X d 8030 [.ref p0, .int (65 : Int32), .int p1, .int p2, .int (0 : Int32)] S6 (zs_kV (fun S9 => (zs_K S9 p0 = some (.inl 8) ∧ zs_C X d 8030 [.ref p0, .int (30 : Int32), .int (0 : Int32), .int (0 : Int32), .int (0 : Int32)] S9 (zs_kV (fun S12 => w_X9_schema_328 X d  S12 Q) Q))) Q))) Q))
theorem u_X9_schema_300 {σ : Nat → Nat} {n0 : Nat} {bf : ab_B} {d : Nat} {p0 : Nat} {p1 : Int32} {p2 : Int32} {S : zs_T} {Q : zs_Q} (hB : zt_B bf) (h : w_X9_schema_300 (zx σ n0 bf) d p0 p1 p2 S Q) : zs_U (zx σ n0 bf) d 8155 300 [(0, .ref p0), (1, .int p1), (2, .int p2)] [] S Q := by
  unfold w_X9_schema_300 at h
  refine zu_aload_n d_8155_300 rfl (zs_ra _) ?_
  refine zu_iload_n d_8155_301 rfl ?_
  obtain ⟨k1, h⟩ := h
  obtain ⟨k2, h⟩ := h
  refine zp_8_852 (v := p2) rfl d_8155_302 k1 k2 ?_
  generalize e4 : zs_sI S 8114 p0 p2 = S3
  have h := h S3 e4.symm
  have K5 : ∀ b, zs_K S3 b = zs_K S b := zs_Kt e4 (zs_KsI _ _ _ _) (fun _ => rfl)
  refine zu_aload_n d_8155_305 rfl (zs_ra _) ?_
  refine zu_iload_n d_8155_306 rfl ?_
  refine zc_8_861 (x0 := p2) hB rfl ((K5 _).trans k1) d_8155_307 (Nat.le_of_ble_eq_true rfl) h (fun S6 h => ?_)
  refine zu_aload_n d_8155_310 rfl (zs_ra _) ?_
  refine zu_bipush d_8155_311 zj_65 ?_
  refine zu_iload_n d_8155_313 rfl ?_
  refine zu_iload_n d_8155_314 rfl ?_
  refine zu_iconst d_8155_315 zi_0 ?_
  obtain ⟨k8, h⟩ := h
  refine zc_8_649 (x0 := (65 : Int32)) (x1 := p1) (x2 := p2) (x3 := (0 : Int32)) hB rfl k8 d_8155_316 (Nat.le_of_ble_eq_true rfl) h (fun S9 h => ?_)
  refine zu_aload_n d_8155_319 rfl (zs_ra _) ?_
  refine zu_bipush d_8155_320 zj_30 ?_
  refine zu_iconst d_8155_322 zi_0 ?_
  refine zu_iconst d_8155_323 zi_0 ?_
  refine zu_iconst d_8155_324 zi_0 ?_
  obtain ⟨k11, h⟩ := h
  refine zc_8_649 (x0 := (30 : Int32)) (x1 := (0 : Int32)) (x2 := (0 : Int32)) (x3 := (0 : Int32)) hB rfl k11 d_8155_325 (Nat.le_of_ble_eq_true rfl) h (fun S12 h => ?_)
  exact (u_X9_schema_328 hB h).weak trivial
def w_X9_schema_263 (X : zs_X) (d : Nat) (p0 : Nat) (p1 : Int32) (p2 : Int32) (p3 : Int32) (S : zs_T) (Q : zs_Q) : Prop :=
  (zs_K S p0 = some (.inl 8) ∧ zs_C X d 8028 [.ref p0, .int (9 : Int32)] S (zs_kV (fun S2 => (zs_K S2 p0 = some (.inl 8) ∧ zs_C X d 8028 [.ref p0, .int (5 : Int32)] S2 (zs_kV (fun S5 => (zs_K S5 p0 = some (.inl 8) ∧ (((zs_I S5 8010 p0) ≤ 0 → (∃ b9, (zs_R S5 8058 p0) = some b9 ∧ zs_A S5 b9 1 p2 ∧ ab_n0 X.1 ≤ b9 ∧ ∀ S13, S13 = zs_si S5 b9 p2.toNatClampNeg (vp_nar .byte ((p3).toInt8.toInt32)) → ab_n0 X.1 ≤ p0 ∧ ∀ S17, S17 = zs_sI S13 8063 p0 ((zs_I S13 8063 p0) + p3) → w_X9_schema_300 X d p0 p1 p2 S17 Q)) ∧ (¬ ((zs_I S5 8010 p0) ≤ 0) → (Q (.returned none) S5))))) Q))) Q))
theorem u_X9_schema_263 {σ : Nat → Nat} {n0 : Nat} {bf : ab_B} {d : Nat} {p0 : Nat} {p1 : Int32} {p2 : Int32} {p3 : Int32} {S : zs_T} {Q : zs_Q} (hB : zt_B bf) (h : w_X9_schema_263 (zx σ n0 bf) d p0 p1 p2 p3 S Q) : zs_U (zx σ n0 bf) d 8155 263 [(0, .ref p0), (1, .int p1), (2, .int p2), (3, .int p3)] [] S Q := by
  unfold w_X9_schema_263 at h
  refine zu_aload_n d_8155_263 rfl (zs_ra _) ?_
  refine zu_bipush d_8155_264 zj_9 ?_
  obtain ⟨k1, h⟩ := h
  refine zc_8_746 (x0 := (9 : Int32)) hB rfl k1 d_8155_266 (Nat.le_of_ble_eq_true rfl) h (fun S2 h => ?_)
  refine zu_aload_n d_8155_269 rfl (zs_ra _) ?_
  refine zu_iconst d_8155_270 zi_5 ?_
  obtain ⟨k4, h⟩ := h
  refine zc_8_746 (x0 := (5 : Int32)) hB rfl k4 d_8155_271 (Nat.le_of_ble_eq_true rfl) h (fun S5 h => ?_)
  refine zu_aload_n d_8155_274 rfl (zs_ra _) ?_
  obtain ⟨k7, h⟩ := h
  refine zg_8_444 rfl d_8155_275 k7 ?_
  refine zu_ifle (t := 282) d_8155_278 rfl (fun c8 => ?_) (fun c8 => ?_)
  · have h := h.1 c8
    refine zu_aload_n d_8155_282 rfl (zs_ra _) ?_
    refine zg_8_127 rfl d_8155_283 k7 ?_
    refine zu_iload_n d_8155_286 rfl ?_
    refine zu_iload_n d_8155_287 rfl ?_
    refine zu_stk d_8155_288 rfl rfl ?_
    obtain ⟨b9, e10, h⟩ := h
    refine zs_stk2 (zs_rfe e10) ?_
    obtain ⟨k11, h⟩ := h
    obtain ⟨k12, h⟩ := h
    refine zu_bast_byte (k := 1) d_8155_289 rfl rfl k12 k11 ?_
    generalize e14 : zs_si S5 b9 p2.toNatClampNeg (vp_nar .byte ((p3).toInt8.toInt32)) = S13
    have h := h S13 e14.symm
    have K15 : ∀ b, zs_K S13 b = zs_K S5 b := zs_Kt e14 (zs_Ksi _ _ _ _) (fun _ => rfl)
    refine zu_aload_n d_8155_290 rfl (zs_ra _) ?_
    refine zu_dup d_8155_291 rfl ?_
    refine zg_8_584 rfl d_8155_292 ((K15 _).trans k7) ?_
    refine zu_iload_n d_8155_295 rfl ?_
    refine zu_stk d_8155_296 rfl rfl ?_
    obtain ⟨k16, h⟩ := h
    refine zp_8_584 (v := ((zs_I S13 8063 p0) + p3)) rfl d_8155_297 ((K15 _).trans k7) k16 ?_
    generalize e18 : zs_sI S13 8063 p0 ((zs_I S13 8063 p0) + p3) = S17
    have h := h S17 e18.symm
    have K19 : ∀ b, zs_K S17 b = zs_K S5 b := zs_Kt e18 (zs_KsI _ _ _ _) K15
    exact (u_X9_schema_300 hB h).weak ⟨rfl, rfl, rfl, trivial⟩
  · have h := h.2 c8
    exact zu_vret d_8155_281 zr_8155 h
def w_X9_schema_30 (X : zs_X) (d : Nat) (p0 : Nat) (p1 : Int32) (p2 : Int32) (p3 : Int32) (p4 : Int32) (S : zs_T) (Q : zs_Q) : Prop :=
  (zs_K S p0 = some (.inl 8) ∧ ((¬ (zs_I S 8010 p0) = 0 → w_X9_schema_263 X d p0 p1 p2 p3 S Q) ∧ (¬ (¬ (zs_I S 8010 p0) = 0) → (((p4 = 0 → w_X9_schema_263 X d p0 p1 p2 p3 S Q) ∧ (¬ (p4 = 0) → (zs_U X d 8155 48 [(0, .ref p0), (1, .int p1), (2, .int p2), (3, .int p3), (5, .int p3), (6, .int (1 : Int32))] [] S Q)))))))
theorem u_X9_schema_30 {σ : Nat → Nat} {n0 : Nat} {bf : ab_B} {d : Nat} {p0 : Nat} {p1 : Int32} {p2 : Int32} {p3 : Int32} {p4 : Int32} {S : zs_T} {Q : zs_Q} (hB : zt_B bf) (h : w_X9_schema_30 (zx σ n0 bf) d p0 p1 p2 p3 p4 S Q) : zs_U (zx σ n0 bf) d 8155 30 [(0, .ref p0), (1, .int p1), (2, .int p2), (3, .int p3), (4, .int p4)] [] S Q := by
  unfold w_X9_schema_30 at h
  refine zu_aload_n d_8155_30 rfl (zs_ra _) ?_
  obtain ⟨k1, h⟩ := h
  refine zg_8_444 rfl d_8155_31 k1 ?_
  refine zu_ifne (t := 263) d_8155_34 rfl (fun c2 => ?_) (fun c2 => ?_)
  · have h := h.1 c2
    exact (u_X9_schema_263 hB h).weak ⟨rfl, rfl, rfl, rfl, trivial⟩
  · have h := h.2 c2
    refine zu_iload d_8155_37 rfl ?_
    refine zu_ifeq (t := 263) d_8155_39 rfl (fun c3 => ?_) (fun c3 => ?_)
    · have h := h.1 c3
      exact (u_X9_schema_263 hB h).weak ⟨rfl, rfl, rfl, rfl, trivial⟩
    · have h := h.2 c3
      refine zu_iload_n d_8155_42 rfl ?_
      refine zu_istore d_8155_43 (zs_lt zq_8155 rfl) ?_
      refine zu_iconst d_8155_45 zi_1 ?_
      refine zu_istore d_8155_46 (zs_lt zq_8155 rfl) ?_
      exact h.weak ⟨rfl, rfl, rfl, rfl, rfl, rfl, trivial⟩
def w_X9_schema_190 (X : zs_X) (d : Nat) (p0 : Nat) (p1 : Int32) (p2 : Int32) (p3 : Int32) (p5 : Int32) (p7 : Int32) (S : zs_T) (Q : zs_Q) : Prop :=
  (zs_K S p0 = some (.inl 8) ∧ ((¬ (zs_I S 8010 p0) = 0 → (zs_U X d 8155 215 [(0, .ref p0), (1, .int p1), (2, .int p2), (3, .int p3), (7, .int p7), (8, .int p5)] [] S Q)) ∧ (¬ (¬ (zs_I S 8010 p0) = 0) → (zs_C X d 8036 [.ref p0, .int p7] S (zs_kI (fun v4 S3 => (((¬ v4 = 0 → (zs_U X d 8155 215 [(0, .ref p0), (1, .int p1), (2, .int p2), (3, .int p3), (7, .int p7), (8, .int p5)] [] S3 Q)) ∧ (¬ (¬ v4 = 0) → (zs_K S3 p0 = some (.inl 8) ∧ zs_C X d 8027 [.ref p0, .int (5 : Int32)] S3 (zs_kV (fun S7 => (zs_U X d 8155 215 [(0, .ref p0), (1, .int p1), (2, .int p2), (3, .int p3), (7, .int p7), (8, .int p5)] [] S7 Q)) Q)))))) Q)))))
theorem u_X9_schema_190 {σ : Nat → Nat} {n0 : Nat} {bf : ab_B} {d : Nat} {p0 : Nat} {p1 : Int32} {p2 : Int32} {p3 : Int32} {p5 : Int32} {p7 : Int32} {S : zs_T} {Q : zs_Q} (hB : zt_B bf) (h : w_X9_schema_190 (zx σ n0 bf) d p0 p1 p2 p3 p5 p7 S Q) : zs_U (zx σ n0 bf) d 8155 190 [(0, .ref p0), (1, .int p1), (2, .int p2), (3, .int p3), (5, .int p5), (7, .int p7)] [] S Q := by
  unfold w_X9_schema_190 at h
  refine zu_aload_n d_8155_190 rfl (zs_ra _) ?_
  obtain ⟨k1, h⟩ := h
  refine zg_8_444 rfl d_8155_191 k1 ?_
  refine zu_ifne (t := 211) d_8155_194 rfl (fun c2 => ?_) (fun c2 => ?_)
  · have h := h.1 c2
    refine zu_iload d_8155_211 rfl ?_
    refine zu_istore d_8155_213 (zs_lt zq_8155 rfl) ?_
    exact h.weak ⟨rfl, rfl, rfl, rfl, rfl, rfl, trivial⟩
  · have h := h.2 c2
    refine zu_aload_n d_8155_197 rfl (zs_ra _) ?_
    refine zu_iload d_8155_198 rfl ?_
    refine zc_8_564 (x0 := p7) hB rfl k1 d_8155_200 (Nat.le_of_ble_eq_true rfl) h (fun v4 S3 h => ?_)
    refine zu_ifne (t := 211) d_8155_203 rfl (fun c5 => ?_) (fun c5 => ?_)
    · have h := h.1 c5
      refine zu_iload d_8155_211 rfl ?_
      refine zu_istore d_8155_213 (zs_lt zq_8155 rfl) ?_
      exact h.weak ⟨rfl, rfl, rfl, rfl, rfl, rfl, trivial⟩
    · have h := h.2 c5
      refine zu_aload_n d_8155_206 rfl (zs_ra _) ?_
      refine zu_iconst d_8155_207 zi_5 ?_
      obtain ⟨k6, h⟩ := h
      refine zc_8_541 (x0 := (5 : Int32)) hB rfl k6 d_8155_208 (Nat.le_of_ble_eq_true rfl) h (fun S7 h => ?_)
      refine zu_iload d_8155_211 rfl ?_
      refine zu_istore d_8155_213 (zs_lt zq_8155 rfl) ?_
      exact h.weak ⟨rfl, rfl, rfl, rfl, rfl, rfl, trivial⟩
def w_X9_schema_159 (X : zs_X) (d : Nat) (p0 : Nat) (p1 : Int32) (p2 : Int32) (p3 : Int32) (p5 : Int32) (S : zs_T) (Q : zs_Q) : Prop :=
  (zs_K S p0 = some (.inl 8) ∧ zs_C X d 8028 [.ref p0, .int (14 : Int32)] S (zs_kV (fun S2 => (zs_K S2 p0 = some (.inl 8) ∧ zs_C X d 8133 [.ref p0, .int (1 : Int32)] S2 (zs_kI (fun v6 S5 => (zs_K S5 p0 = some (.inl 8) ∧ ((¬ (zs_I S5 8010 p0) = 0 → w_X9_schema_190 X d p0 p1 p2 p3 p5 v6 S5 Q) ∧ (¬ (¬ (zs_I S5 8010 p0) = 0) → (((p3 ≤ (4 : Int32) → w_X9_schema_190 X d p0 p1 p2 p3 p5 v6 S5 Q) ∧ (¬ (p3 ≤ (4 : Int32)) → (zs_C X d 8027 [.ref p0, .int (8 : Int32)] S5 (zs_kV (fun S10 => w_X9_schema_190 X d p0 p1 p2 p3 p5 v6 S10 Q) Q))))))))) Q))) Q))
theorem u_X9_schema_159 {σ : Nat → Nat} {n0 : Nat} {bf : ab_B} {d : Nat} {p0 : Nat} {p1 : Int32} {p2 : Int32} {p3 : Int32} {p5 : Int32} {S : zs_T} {Q : zs_Q} (hB : zt_B bf) (h : w_X9_schema_159 (zx σ n0 bf) d p0 p1 p2 p3 p5 S Q) : zs_U (zx σ n0 bf) d 8155 159 [(0, .ref p0), (1, .int p1), (2, .int p2), (3, .int p3), (5, .int p5)] [] S Q := by
  unfold w_X9_schema_159 at h
  refine zu_aload_n d_8155_159 rfl (zs_ra _) ?_
  refine zu_bipush d_8155_160 zj_14 ?_
  obtain ⟨k1, h⟩ := h
  refine zc_8_746 (x0 := (14 : Int32)) hB rfl k1 d_8155_162 (Nat.le_of_ble_eq_true rfl) h (fun S2 h => ?_)
  refine zu_aload_n d_8155_165 rfl (zs_ra _) ?_
  refine zu_iconst d_8155_166 zi_1 ?_
  obtain ⟨k4, h⟩ := h
  refine zc_8_905 (x0 := (1 : Int32)) hB rfl k4 d_8155_167 (Nat.le_of_ble_eq_true rfl) h (fun v6 S5 h => ?_)
  refine zu_istore d_8155_170 (zs_lt zq_8155 rfl) ?_
  refine zu_aload_n d_8155_172 rfl (zs_ra _) ?_
  obtain ⟨k7, h⟩ := h
  refine zg_8_444 rfl d_8155_173 k7 ?_
  refine zu_ifne (t := 190) d_8155_176 rfl (fun c8 => ?_) (fun c8 => ?_)
  · have h := h.1 c8
    exact (u_X9_schema_190 hB h).weak ⟨rfl, rfl, rfl, rfl, rfl, rfl, trivial⟩
  · have h := h.2 c8
    refine zu_iload_n d_8155_179 rfl ?_
    refine zu_iconst d_8155_180 zi_4 ?_
    refine zu_cmple (t := 190) d_8155_181 rfl (fun c9 => ?_) (fun c9 => ?_)
    · have h := h.1 c9
      exact (u_X9_schema_190 hB h).weak ⟨rfl, rfl, rfl, rfl, rfl, rfl, trivial⟩
    · have h := h.2 c9
      refine zu_aload_n d_8155_184 rfl (zs_ra _) ?_
      refine zu_bipush d_8155_185 zj_8 ?_
      refine zc_8_541 (x0 := (8 : Int32)) hB rfl k7 d_8155_187 (Nat.le_of_ble_eq_true rfl) h (fun S10 h => ?_)
      exact (u_X9_schema_190 hB h).weak ⟨rfl, rfl, rfl, rfl, rfl, rfl, trivial⟩
def w_X9_schema_48 (X : zs_X) (d : Nat) (p0 : Nat) (p1 : Int32) (p2 : Int32) (p3 : Int32) (p5 : Int32) (p6 : Int32) (S : zs_T) (Q : zs_Q) : Prop :=
  (zs_K S p0 = some (.inl 8) ∧ ((¬ (zs_I S 8010 p0) = 0 → w_X9_schema_159 X d p0 p1 p2 p3 p5 S Q) ∧ (¬ (¬ (zs_I S 8010 p0) = 0) → (((p6 = 0 → w_X9_schema_159 X d p0 p1 p2 p3 p5 S Q) ∧ (¬ (p6 = 0) → ((((zs_I S 8006 p0) = (1 : Int32) → (zs_U X d 8155 77 [(0, .ref p0), (1, .int p1), (2, .int p2), (3, .int p3), (5, .int p5), (7, .int (0 : Int32))] [] S Q)) ∧ (¬ ((zs_I S 8006 p0) = (1 : Int32)) → (zs_C X d 8027 [.ref p0, .int (2 : Int32)] S (zs_kV (fun S5 => (Q (.returned none) S5)) Q)))))))))))
theorem u_X9_schema_48 {σ : Nat → Nat} {n0 : Nat} {bf : ab_B} {d : Nat} {p0 : Nat} {p1 : Int32} {p2 : Int32} {p3 : Int32} {p5 : Int32} {p6 : Int32} {S : zs_T} {Q : zs_Q} (hB : zt_B bf) (h : w_X9_schema_48 (zx σ n0 bf) d p0 p1 p2 p3 p5 p6 S Q) : zs_U (zx σ n0 bf) d 8155 48 [(0, .ref p0), (1, .int p1), (2, .int p2), (3, .int p3), (5, .int p5), (6, .int p6)] [] S Q := by
  unfold w_X9_schema_48 at h
  refine zu_aload_n d_8155_48 rfl (zs_ra _) ?_
  obtain ⟨k1, h⟩ := h
  refine zg_8_444 rfl d_8155_49 k1 ?_
  refine zu_ifne (t := 159) d_8155_52 rfl (fun c2 => ?_) (fun c2 => ?_)
  · have h := h.1 c2
    exact (u_X9_schema_159 hB h).weak ⟨rfl, rfl, rfl, rfl, rfl, trivial⟩
  · have h := h.2 c2
    refine zu_iload d_8155_55 rfl ?_
    refine zu_ifeq (t := 159) d_8155_57 rfl (fun c3 => ?_) (fun c3 => ?_)
    · have h := h.1 c3
      exact (u_X9_schema_159 hB h).weak ⟨rfl, rfl, rfl, rfl, rfl, trivial⟩
    · have h := h.2 c3
      refine zu_aload_n d_8155_60 rfl (zs_ra _) ?_
      refine zg_8_484 rfl d_8155_61 k1 ?_
      refine zu_iconst d_8155_64 zi_1 ?_
      refine zu_cmpeq (t := 74) d_8155_65 rfl (fun c4 => ?_) (fun c4 => ?_)
      · have h := h.1 c4
        refine zu_iconst d_8155_74 zi_0 ?_
        refine zu_istore d_8155_75 (zs_lt zq_8155 rfl) ?_
        exact h.weak ⟨rfl, rfl, rfl, rfl, rfl, rfl, trivial⟩
      · have h := h.2 c4
        refine zu_aload_n d_8155_68 rfl (zs_ra _) ?_
        refine zu_iconst d_8155_69 zi_2 ?_
        refine zc_8_541 (x0 := (2 : Int32)) hB rfl k1 d_8155_70 (Nat.le_of_ble_eq_true rfl) h (fun S5 h => ?_)
        exact zu_vret d_8155_73 zr_8155 h
def w_X9_schema_139 (X : zs_X) (d : Nat) (p0 : Nat) (p1 : Int32) (p2 : Int32) (p3 : Int32) (p5 : Int32) (S : zs_T) (Q : zs_Q) : Prop :=
  (zs_K S p0 = some (.inl 8) ∧ zs_C X d 8029 [.ref p0, .int (12 : Int32)] S (zs_kI (fun v3 S2 => (((v3 = 0 → zs_U X d 8155 48 [(0, .ref p0), (1, .int p1), (2, .int p2), (3, .int p3), (5, .int p5), (6, .int v3)] [] S2 Q) ∧ (¬ (v3 = 0) → (zs_K S2 p0 = some (.inl 8) ∧ zs_C X d 8014 [.ref p0] S2 (zs_kV (fun S6 => (zs_U X d 8155 48 [(0, .ref p0), (1, .int p1), (2, .int p2), (3, .int p3), (5, .int p5), (6, .int v3)] [] S6 Q)) Q)))))) Q))
theorem u_X9_schema_139 {σ : Nat → Nat} {n0 : Nat} {bf : ab_B} {d : Nat} {p0 : Nat} {p1 : Int32} {p2 : Int32} {p3 : Int32} {p5 : Int32} {S : zs_T} {Q : zs_Q} (hB : zt_B bf) (h : w_X9_schema_139 (zx σ n0 bf) d p0 p1 p2 p3 p5 S Q) : zs_U (zx σ n0 bf) d 8155 139 [(0, .ref p0), (1, .int p1), (2, .int p2), (3, .int p3), (5, .int p5)] [] S Q := by
  unfold w_X9_schema_139 at h
  refine zu_aload_n d_8155_139 rfl (zs_ra _) ?_
  refine zu_bipush d_8155_140 zj_12 ?_
  obtain ⟨k1, h⟩ := h
  refine zc_8_535 (x0 := (12 : Int32)) hB rfl k1 d_8155_142 (Nat.le_of_ble_eq_true rfl) h (fun v3 S2 h => ?_)
  refine zu_istore d_8155_145 (zs_lt zq_8155 rfl) ?_
  refine zu_iload d_8155_147 rfl ?_
  refine zu_ifeq (t := 48) d_8155_149 rfl (fun c4 => ?_) (fun c4 => ?_)
  · have h := h.1 c4
    exact h.weak ⟨rfl, rfl, rfl, rfl, rfl, rfl, trivial⟩
  · have h := h.2 c4
    refine zu_aload_n d_8155_152 rfl (zs_ra _) ?_
    obtain ⟨k5, h⟩ := h
    refine zc_8_538  hB rfl k5 d_8155_153 (Nat.le_of_ble_eq_true rfl) h (fun S6 h => ?_)
    refine zu_goto (t := 48) d_8155_156 rfl ?_
    exact h.weak ⟨rfl, rfl, rfl, rfl, rfl, rfl, trivial⟩
def w_X9_schema_109 (X : zs_X) (d : Nat) (p0 : Nat) (p1 : Int32) (p2 : Int32) (p3 : Int32) (p5 : Int32) (p7 : Int32) (S : zs_T) (Q : zs_Q) : Prop :=
  (zs_U X d 8155 77 [(0, .ref p0), (1, .int p1), (2, .int p2), (3, .int p3), (5, .int p5), (7, .int (p7 + (1 : Int32)))] [] S Q)
theorem u_X9_schema_109 {σ : Nat → Nat} {n0 : Nat} {bf : ab_B} {d : Nat} {p0 : Nat} {p1 : Int32} {p2 : Int32} {p3 : Int32} {p5 : Int32} {p7 : Int32} {S : zs_T} {Q : zs_Q} (hB : zt_B bf) (h : w_X9_schema_109 (zx σ n0 bf) d p0 p1 p2 p3 p5 p7 S Q) : zs_U (zx σ n0 bf) d 8155 109 [(0, .ref p0), (1, .int p1), (2, .int p2), (3, .int p3), (5, .int p5), (7, .int p7)] [] S Q := by
  unfold w_X9_schema_109 at h
  refine zu_iinc d_8155_109 rfl zi_1 (zs_lt zq_8155 rfl) ?_
  refine zu_goto (t := 77) d_8155_112 rfl ?_
  exact h.weak ⟨rfl, rfl, rfl, rfl, rfl, rfl, trivial⟩
def w_X9_schema_77 (X : zs_X) (d : Nat) (p0 : Nat) (p1 : Int32) (p2 : Int32) (p3 : Int32) (p5 : Int32) (p7 : Int32) (S : zs_T) (Q : zs_Q) : Prop :=
  (((p3 ≤ p7 → (zs_K S p0 = some (.inl 8) ∧ ∃ b3, (zs_R S 8057 p0) = some b3 ∧ zs_A S b3 0 p2 ∧ ∃ b6, (zs_R S 8061 p0) = some b6 ∧ zs_A S b6 0 ((zs_i S b3 p2.toNatClampNeg) + p3) ∧ ab_n0 X.1 ≤ b6 ∧ ∀ S10, S10 = zs_si S b6 ((zs_i S b3 p2.toNatClampNeg) + p3).toNatClampNeg (zs_I S 8009 p0) → zs_C X d 8014 [.ref p0] S10 (zs_kV (fun S13 => w_X9_schema_139 X d p0 p1 p2 (p3 + (1 : Int32)) p5 S13 Q) Q))) ∧ (¬ (p3 ≤ p7) → (zs_K S p0 = some (.inl 8) ∧ ∃ b16, (zs_R S 8057 p0) = some b16 ∧ zs_A S b16 0 p2 ∧ ∃ b19, (zs_R S 8061 p0) = some b19 ∧ zs_A S b19 0 ((zs_i S b16 p2.toNatClampNeg) + p7) ∧ ((¬ (zs_i S b19 ((zs_i S b16 p2.toNatClampNeg) + p7).toNatClampNeg) = (zs_I S 8009 p0) → w_X9_schema_109 X d p0 p1 p2 p3 p5 p7 S Q) ∧ (¬ (¬ (zs_i S b19 ((zs_i S b16 p2.toNatClampNeg) + p7).toNatClampNeg) = (zs_I S 8009 p0)) → (zs_C X d 8027 [.ref p0, .int (4 : Int32)] S (zs_kV (fun S23 => w_X9_schema_109 X d p0 p1 p2 p3 p5 p7 S23 Q) Q))))))))
theorem u_X9_schema_77 {σ : Nat → Nat} {n0 : Nat} {bf : ab_B} {d : Nat} {p0 : Nat} {p1 : Int32} {p2 : Int32} {p3 : Int32} {p5 : Int32} {p7 : Int32} {S : zs_T} {Q : zs_Q} (hB : zt_B bf) (h : w_X9_schema_77 (zx σ n0 bf) d p0 p1 p2 p3 p5 p7 S Q) : zs_U (zx σ n0 bf) d 8155 77 [(0, .ref p0), (1, .int p1), (2, .int p2), (3, .int p3), (5, .int p5), (7, .int p7)] [] S Q := by
  unfold w_X9_schema_77 at h
  refine zu_iload d_8155_77 rfl ?_
  refine zu_iload_n d_8155_79 rfl ?_
  refine zu_cmpge (t := 115) d_8155_80 rfl (fun c1 => ?_) (fun c1 => ?_)
  · have h := h.1 c1
    refine zu_aload_n d_8155_115 rfl (zs_ra _) ?_
    obtain ⟨k2, h⟩ := h
    refine zg_8_133 rfl d_8155_116 k2 ?_
    refine zu_aload_n d_8155_119 rfl (zs_ra _) ?_
    refine zg_8_124 rfl d_8155_120 k2 ?_
    refine zu_iload_n d_8155_123 rfl ?_
    obtain ⟨b3, e4, h⟩ := h
    refine zs_stk1 (zs_rfe e4) ?_
    obtain ⟨k5, h⟩ := h
    refine zu_iald (k := 0) d_8155_124 rfl rfl k5 ?_
    refine zu_iload_n d_8155_125 rfl ?_
    refine zu_stk d_8155_126 rfl rfl ?_
    refine zu_aload_n d_8155_127 rfl (zs_ra _) ?_
    refine zg_8_494 rfl d_8155_128 k2 ?_
    obtain ⟨b6, e7, h⟩ := h
    refine zs_stk2 (zs_rfe e7) ?_
    obtain ⟨k8, h⟩ := h
    obtain ⟨k9, h⟩ := h
    refine zu_iast (k := 0) d_8155_131 rfl rfl k9 k8 ?_
    generalize e11 : zs_si S b6 ((zs_i S b3 p2.toNatClampNeg) + p3).toNatClampNeg (zs_I S 8009 p0) = S10
    have h := h S10 e11.symm
    have K12 : ∀ b, zs_K S10 b = zs_K S b := zs_Kt e11 (zs_Ksi _ _ _ _) (fun _ => rfl)
    refine zu_iinc d_8155_132 rfl zi_1 (zs_lt zq_8155 rfl) ?_
    refine zu_aload_n d_8155_135 rfl (zs_ra _) ?_
    refine zc_8_538  hB rfl ((K12 _).trans k2) d_8155_136 (Nat.le_of_ble_eq_true rfl) h (fun S13 h => ?_)
    exact (u_X9_schema_139 hB h).weak ⟨rfl, rfl, rfl, rfl, rfl, trivial⟩
  · have h := h.2 c1
    refine zu_aload_n d_8155_83 rfl (zs_ra _) ?_
    obtain ⟨k15, h⟩ := h
    refine zg_8_133 rfl d_8155_84 k15 ?_
    refine zu_aload_n d_8155_87 rfl (zs_ra _) ?_
    refine zg_8_124 rfl d_8155_88 k15 ?_
    refine zu_iload_n d_8155_91 rfl ?_
    obtain ⟨b16, e17, h⟩ := h
    refine zs_stk1 (zs_rfe e17) ?_
    obtain ⟨k18, h⟩ := h
    refine zu_iald (k := 0) d_8155_92 rfl rfl k18 ?_
    refine zu_iload d_8155_93 rfl ?_
    refine zu_stk d_8155_95 rfl rfl ?_
    obtain ⟨b19, e20, h⟩ := h
    refine zs_stk1 (zs_rfe e20) ?_
    obtain ⟨k21, h⟩ := h
    refine zu_iald (k := 0) d_8155_96 rfl rfl k21 ?_
    refine zu_aload_n d_8155_97 rfl (zs_ra _) ?_
    refine zg_8_494 rfl d_8155_98 k15 ?_
    refine zu_cmpne (t := 109) d_8155_101 rfl (fun c22 => ?_) (fun c22 => ?_)
    · have h := h.1 c22
      exact (u_X9_schema_109 hB h).weak ⟨rfl, rfl, rfl, rfl, rfl, rfl, trivial⟩
    · have h := h.2 c22
      refine zu_aload_n d_8155_104 rfl (zs_ra _) ?_
      refine zu_iconst d_8155_105 zi_4 ?_
      refine zc_8_541 (x0 := (4 : Int32)) hB rfl k15 d_8155_106 (Nat.le_of_ble_eq_true rfl) h (fun S23 h => ?_)
      exact (u_X9_schema_109 hB h).weak ⟨rfl, rfl, rfl, rfl, rfl, rfl, trivial⟩
def w_X9_schema_215 (X : zs_X) (d : Nat) (p0 : Nat) (p1 : Int32) (p2 : Int32) (p3 : Int32) (p7 : Int32) (p8 : Int32) (S : zs_T) (Q : zs_Q) : Prop :=
  (((p3 ≤ p8 → (zs_K S p0 = some (.inl 8) ∧ zs_C X d 8029 [.ref p0, .int (13 : Int32)] S (zs_kI (fun v4 S3 => (((v4 = 0 → (zs_U X d 8155 30 [(0, .ref p0), (1, .int p1), (2, .int p2), (3, .int p3), (4, .int v4)] [] S3 Q)) ∧ (¬ (v4 = 0) → (zs_K S3 p0 = some (.inl 8) ∧ zs_C X d 8014 [.ref p0] S3 (zs_kV (fun S7 => (zs_U X d 8155 30 [(0, .ref p0), (1, .int p1), (2, .int p2), (3, .int p3), (4, .int v4)] [] S7 Q)) Q)))))) Q))) ∧ (¬ (p3 ≤ p8) → (zs_K S p0 = some (.inl 8) ∧ ∃ b10, (zs_R S 8057 p0) = some b10 ∧ zs_A S b10 0 p2 ∧ ∃ b13, (zs_R S 8062 p0) = some b13 ∧ zs_A S b13 0 ((zs_i S b10 p2.toNatClampNeg) + p8) ∧ ab_n0 X.1 ≤ b13 ∧ ∀ S17, S17 = zs_si S b13 ((zs_i S b10 p2.toNatClampNeg) + p8).toNatClampNeg p7 → zs_U X d 8155 215 [(0, .ref p0), (1, .int p1), (2, .int p2), (3, .int p3), (7, .int p7), (8, .int (p8 + (1 : Int32)))] [] S17 Q))))
theorem u_X9_schema_215 {σ : Nat → Nat} {n0 : Nat} {bf : ab_B} {d : Nat} {p0 : Nat} {p1 : Int32} {p2 : Int32} {p3 : Int32} {p7 : Int32} {p8 : Int32} {S : zs_T} {Q : zs_Q} (hB : zt_B bf) (h : w_X9_schema_215 (zx σ n0 bf) d p0 p1 p2 p3 p7 p8 S Q) : zs_U (zx σ n0 bf) d 8155 215 [(0, .ref p0), (1, .int p1), (2, .int p2), (3, .int p3), (7, .int p7), (8, .int p8)] [] S Q := by
  unfold w_X9_schema_215 at h
  refine zu_iload d_8155_215 rfl ?_
  refine zu_iload_n d_8155_217 rfl ?_
  refine zu_cmpge (t := 243) d_8155_218 rfl (fun c1 => ?_) (fun c1 => ?_)
  · have h := h.1 c1
    refine zu_aload_n d_8155_243 rfl (zs_ra _) ?_
    refine zu_bipush d_8155_244 zj_13 ?_
    obtain ⟨k2, h⟩ := h
    refine zc_8_535 (x0 := (13 : Int32)) hB rfl k2 d_8155_246 (Nat.le_of_ble_eq_true rfl) h (fun v4 S3 h => ?_)
    refine zu_istore d_8155_249 (zs_lt zq_8155 rfl) ?_
    refine zu_iload d_8155_251 rfl ?_
    refine zu_ifeq (t := 260) d_8155_253 rfl (fun c5 => ?_) (fun c5 => ?_)
    · have h := h.1 c5
      refine zu_goto (t := 30) d_8155_260 rfl ?_
      exact h.weak ⟨rfl, rfl, rfl, rfl, rfl, trivial⟩
    · have h := h.2 c5
      refine zu_aload_n d_8155_256 rfl (zs_ra _) ?_
      obtain ⟨k6, h⟩ := h
      refine zc_8_538  hB rfl k6 d_8155_257 (Nat.le_of_ble_eq_true rfl) h (fun S7 h => ?_)
      refine zu_goto (t := 30) d_8155_260 rfl ?_
      exact h.weak ⟨rfl, rfl, rfl, rfl, rfl, trivial⟩
  · have h := h.2 c1
    refine zu_aload_n d_8155_221 rfl (zs_ra _) ?_
    obtain ⟨k9, h⟩ := h
    refine zg_8_136 rfl d_8155_222 k9 ?_
    refine zu_aload_n d_8155_225 rfl (zs_ra _) ?_
    refine zg_8_124 rfl d_8155_226 k9 ?_
    refine zu_iload_n d_8155_229 rfl ?_
    obtain ⟨b10, e11, h⟩ := h
    refine zs_stk1 (zs_rfe e11) ?_
    obtain ⟨k12, h⟩ := h
    refine zu_iald (k := 0) d_8155_230 rfl rfl k12 ?_
    refine zu_iload d_8155_231 rfl ?_
    refine zu_stk d_8155_233 rfl rfl ?_
    refine zu_iload d_8155_234 rfl ?_
    obtain ⟨b13, e14, h⟩ := h
    refine zs_stk2 (zs_rfe e14) ?_
    obtain ⟨k15, h⟩ := h
    obtain ⟨k16, h⟩ := h
    refine zu_iast (k := 0) d_8155_236 rfl rfl k16 k15 ?_
    generalize e18 : zs_si S b13 ((zs_i S b10 p2.toNatClampNeg) + p8).toNatClampNeg p7 = S17
    have h := h S17 e18.symm
    have K19 : ∀ b, zs_K S17 b = zs_K S b := zs_Kt e18 (zs_Ksi _ _ _ _) (fun _ => rfl)
    refine zu_iinc d_8155_237 rfl zi_1 (zs_lt zq_8155 rfl) ?_
    refine zu_goto (t := 215) d_8155_240 rfl ?_
    exact h.weak ⟨rfl, rfl, rfl, rfl, rfl, rfl, trivial⟩
def w_X9_schema (X : zs_X) (d : Nat) (p0 : Nat) (p1 : Int32) (S : zs_T) (Q : zs_Q) : Prop :=
  (zs_K S p0 = some (.inl 8) ∧ ab_n0 X.1 ≤ p0 ∧ ∀ S3, S3 = zs_sI S 8060 p0 ((zs_I S 8060 p0) + (1 : Int32)) → ∃ b6, (zs_R S3 8057 p0) = some b6 ∧ zs_A S b6 0 (zs_I S3 8060 p0) ∧ ab_n0 X.1 ≤ b6 ∧ ∀ S10, S10 = zs_si S3 b6 (zs_I S3 8060 p0).toNatClampNeg (zs_I S3 8063 p0) → w_X9_schema_27 X d p0 p1 (zs_I S3 8060 p0) (0 : Int32) S10 Q)
theorem u_X9_schema {σ : Nat → Nat} {n0 : Nat} {bf : ab_B} {d : Nat} {p0 : Nat} {p1 : Int32} {S : zs_T} {Q : zs_Q} (hB : zt_B bf) (hd : 1 ≤ d) (h : w_X9_schema (zx σ n0 bf) (d - 1) p0 p1 S Q) : zs_C (zx σ n0 bf) d 8155 [.ref p0, .int p1] S Q := by
  have hL : lv_args 0 [.ref p0, .int p1] = [(0, .ref p0), (1, .int p1)] := rfl
  refine zs_C.of1 (hB.2 8155 (by decide) (by decide)) hd (by rw [hL]; exact zs_sub_self _ (by exact ⟨rfl, rfl, trivial⟩)) ?_
  rw [hL]
  clear hL
  unfold w_X9_schema at h
  refine zu_aload_n d_8155_0 rfl (zs_ra _) ?_
  refine zu_dup d_8155_1 rfl ?_
  obtain ⟨k1, h⟩ := h
  refine zg_8_581 rfl d_8155_2 k1 ?_
  refine zu_iconst d_8155_5 zi_1 ?_
  refine zu_stk d_8155_6 rfl rfl ?_
  obtain ⟨k2, h⟩ := h
  refine zp_8_581 (v := ((zs_I S 8060 p0) + (1 : Int32))) rfl d_8155_7 k1 k2 ?_
  generalize e4 : zs_sI S 8060 p0 ((zs_I S 8060 p0) + (1 : Int32)) = S3
  have h := h S3 e4.symm
  have K5 : ∀ b, zs_K S3 b = zs_K S b := zs_Kt e4 (zs_KsI _ _ _ _) (fun _ => rfl)
  refine zu_aload_n d_8155_10 rfl (zs_ra _) ?_
  refine zg_8_581 rfl d_8155_11 ((K5 _).trans k1) ?_
  refine zu_istore_n d_8155_14 (zs_lt zq_8155 rfl) ?_
  refine zu_aload_n d_8155_15 rfl (zs_ra _) ?_
  refine zg_8_124 rfl d_8155_16 ((K5 _).trans k1) ?_
  refine zu_iload_n d_8155_19 rfl ?_
  refine zu_aload_n d_8155_20 rfl (zs_ra _) ?_
  refine zg_8_584 rfl d_8155_21 ((K5 _).trans k1) ?_
  obtain ⟨b6, e7, h⟩ := h
  refine zs_stk2 (zs_rfe e7) ?_
  obtain ⟨k8, h⟩ := h
  obtain ⟨k9, h⟩ := h
  refine zu_iast (k := 0) d_8155_24 rfl rfl k9 (zs_Ak K5 k8) ?_
  generalize e11 : zs_si S3 b6 (zs_I S3 8060 p0).toNatClampNeg (zs_I S3 8063 p0) = S10
  have h := h S10 e11.symm
  have K12 : ∀ b, zs_K S10 b = zs_K S b := zs_Kt e11 (zs_Ksi _ _ _ _) K5
  refine zu_iconst d_8155_25 zi_0 ?_
  refine zu_istore_n d_8155_26 (zs_lt zq_8155 rfl) ?_
  exact (u_X9_schema_27 hB h).weak ⟨rfl, rfl, rfl, rfl, trivial⟩
/-! SchemaPascalModel.typed(I)V -/
theorem zm_8156 {σ : Nat → Nat} {n0 : Nat} {bf : ab_B} : ab_code (zx σ n0 bf).1 8156 = prog_17_method_145_code := rfl
theorem zq_8156 {σ : Nat → Nat} {n0 : Nat} {bf : ab_B} : ab_maxL (zx σ n0 bf).1 8156 = 3 := rfl
theorem zr_8156 {σ : Nat → Nat} {n0 : Nat} {bf : ab_B} : ab_ret (zx σ n0 bf).1 8156 = (Option.none : Option Jvm.ClassFile.FieldType) := rfl
theorem d_8156_0 {σ : Nat → Nat} {n0 : Nat} {bf : ab_B} : decode (ab_code (zx σ n0 bf).1 8156) 0 = .ok (.aload_n 0, 1) := zd zm_8156 (by decide +kernel)
theorem d_8156_1 {σ : Nat → Nat} {n0 : Nat} {bf : ab_B} : decode (ab_code (zx σ n0 bf).1 8156) 1 = .ok (.getfield 444, 3) := zd zm_8156 (by decide +kernel)
theorem d_8156_4 {σ : Nat → Nat} {n0 : Nat} {bf : ab_B} : decode (ab_code (zx σ n0 bf).1 8156) 4 = .ok (.ifCond .le 4, 3) := zd zm_8156 (by decide +kernel)
theorem d_8156_7 {σ : Nat → Nat} {n0 : Nat} {bf : ab_B} : decode (ab_code (zx σ n0 bf).1 8156) 7 = .ok (.return_, 1) := zd zm_8156 (by decide +kernel)
theorem d_8156_8 {σ : Nat → Nat} {n0 : Nat} {bf : ab_B} : decode (ab_code (zx σ n0 bf).1 8156) 8 = .ok (.aload_n 0, 1) := zd zm_8156 (by decide +kernel)
theorem d_8156_9 {σ : Nat → Nat} {n0 : Nat} {bf : ab_B} : decode (ab_code (zx σ n0 bf).1 8156) 9 = .ok (.dup, 1) := zd zm_8156 (by decide +kernel)
theorem d_8156_10 {σ : Nat → Nat} {n0 : Nat} {bf : ab_B} : decode (ab_code (zx σ n0 bf).1 8156) 10 = .ok (.getfield 831, 3) := zd zm_8156 (by decide +kernel)
theorem d_8156_13 {σ : Nat → Nat} {n0 : Nat} {bf : ab_B} : decode (ab_code (zx σ n0 bf).1 8156) 13 = .ok (.iconst 1, 1) := zd zm_8156 (by decide +kernel)
theorem d_8156_14 {σ : Nat → Nat} {n0 : Nat} {bf : ab_B} : decode (ab_code (zx σ n0 bf).1 8156) 14 = .ok (.isub, 1) := zd zm_8156 (by decide +kernel)
theorem d_8156_15 {σ : Nat → Nat} {n0 : Nat} {bf : ab_B} : decode (ab_code (zx σ n0 bf).1 8156) 15 = .ok (.putfield 831, 3) := zd zm_8156 (by decide +kernel)
theorem d_8156_18 {σ : Nat → Nat} {n0 : Nat} {bf : ab_B} : decode (ab_code (zx σ n0 bf).1 8156) 18 = .ok (.aload_n 0, 1) := zd zm_8156 (by decide +kernel)
theorem d_8156_19 {σ : Nat → Nat} {n0 : Nat} {bf : ab_B} : decode (ab_code (zx σ n0 bf).1 8156) 19 = .ok (.iload_n 1, 1) := zd zm_8156 (by decide +kernel)
theorem d_8156_20 {σ : Nat → Nat} {n0 : Nat} {bf : ab_B} : decode (ab_code (zx σ n0 bf).1 8156) 20 = .ok (.invokevirtual 934, 3) := zd zm_8156 (by decide +kernel)
theorem d_8156_23 {σ : Nat → Nat} {n0 : Nat} {bf : ab_B} : decode (ab_code (zx σ n0 bf).1 8156) 23 = .ok (.ifCond .eq 21, 3) := zd zm_8156 (by decide +kernel)
theorem d_8156_26 {σ : Nat → Nat} {n0 : Nat} {bf : ab_B} : decode (ab_code (zx σ n0 bf).1 8156) 26 = .ok (.aload_n 0, 1) := zd zm_8156 (by decide +kernel)
theorem d_8156_27 {σ : Nat → Nat} {n0 : Nat} {bf : ab_B} : decode (ab_code (zx σ n0 bf).1 8156) 27 = .ok (.iload_n 1, 1) := zd zm_8156 (by decide +kernel)
theorem d_8156_28 {σ : Nat → Nat} {n0 : Nat} {bf : ab_B} : decode (ab_code (zx σ n0 bf).1 8156) 28 = .ok (.iconst 2, 1) := zd zm_8156 (by decide +kernel)
theorem d_8156_29 {σ : Nat → Nat} {n0 : Nat} {bf : ab_B} : decode (ab_code (zx σ n0 bf).1 8156) 29 = .ok (.aload_n 0, 1) := zd zm_8156 (by decide +kernel)
theorem d_8156_30 {σ : Nat → Nat} {n0 : Nat} {bf : ab_B} : decode (ab_code (zx σ n0 bf).1 8156) 30 = .ok (.getfield 278, 3) := zd zm_8156 (by decide +kernel)
theorem d_8156_33 {σ : Nat → Nat} {n0 : Nat} {bf : ab_B} : decode (ab_code (zx σ n0 bf).1 8156) 33 = .ok (.aload_n 0, 1) := zd zm_8156 (by decide +kernel)
theorem d_8156_34 {σ : Nat → Nat} {n0 : Nat} {bf : ab_B} : decode (ab_code (zx σ n0 bf).1 8156) 34 = .ok (.getfield 831, 3) := zd zm_8156 (by decide +kernel)
theorem d_8156_37 {σ : Nat → Nat} {n0 : Nat} {bf : ab_B} : decode (ab_code (zx σ n0 bf).1 8156) 37 = .ok (.iaload, 1) := zd zm_8156 (by decide +kernel)
theorem d_8156_38 {σ : Nat → Nat} {n0 : Nat} {bf : ab_B} : decode (ab_code (zx σ n0 bf).1 8156) 38 = .ok (.iconst 0, 1) := zd zm_8156 (by decide +kernel)
theorem d_8156_39 {σ : Nat → Nat} {n0 : Nat} {bf : ab_B} : decode (ab_code (zx σ n0 bf).1 8156) 39 = .ok (.iconst 0, 1) := zd zm_8156 (by decide +kernel)
theorem d_8156_40 {σ : Nat → Nat} {n0 : Nat} {bf : ab_B} : decode (ab_code (zx σ n0 bf).1 8156) 40 = .ok (.invokevirtual 606, 3) := zd zm_8156 (by decide +kernel)
theorem d_8156_43 {σ : Nat → Nat} {n0 : Nat} {bf : ab_B} : decode (ab_code (zx σ n0 bf).1 8156) 43 = .ok (.istore_n 2, 1) := zd zm_8156 (by decide +kernel)
theorem d_8156_44 {σ : Nat → Nat} {n0 : Nat} {bf : ab_B} : decode (ab_code (zx σ n0 bf).1 8156) 44 = .ok (.aload_n 0, 1) := zd zm_8156 (by decide +kernel)
theorem d_8156_45 {σ : Nat → Nat} {n0 : Nat} {bf : ab_B} : decode (ab_code (zx σ n0 bf).1 8156) 45 = .ok (.bipush 13, 2) := zd zm_8156 (by decide +kernel)
theorem d_8156_47 {σ : Nat → Nat} {n0 : Nat} {bf : ab_B} : decode (ab_code (zx σ n0 bf).1 8156) 47 = .ok (.invokevirtual 746, 3) := zd zm_8156 (by decide +kernel)
theorem d_8156_50 {σ : Nat → Nat} {n0 : Nat} {bf : ab_B} : decode (ab_code (zx σ n0 bf).1 8156) 50 = .ok (.aload_n 0, 1) := zd zm_8156 (by decide +kernel)
theorem d_8156_51 {σ : Nat → Nat} {n0 : Nat} {bf : ab_B} : decode (ab_code (zx σ n0 bf).1 8156) 51 = .ok (.bipush 63, 2) := zd zm_8156 (by decide +kernel)
theorem d_8156_53 {σ : Nat → Nat} {n0 : Nat} {bf : ab_B} : decode (ab_code (zx σ n0 bf).1 8156) 53 = .ok (.iconst 0, 1) := zd zm_8156 (by decide +kernel)
theorem d_8156_54 {σ : Nat → Nat} {n0 : Nat} {bf : ab_B} : decode (ab_code (zx σ n0 bf).1 8156) 54 = .ok (.iconst 0, 1) := zd zm_8156 (by decide +kernel)
theorem d_8156_55 {σ : Nat → Nat} {n0 : Nat} {bf : ab_B} : decode (ab_code (zx σ n0 bf).1 8156) 55 = .ok (.iconst 0, 1) := zd zm_8156 (by decide +kernel)
theorem d_8156_56 {σ : Nat → Nat} {n0 : Nat} {bf : ab_B} : decode (ab_code (zx σ n0 bf).1 8156) 56 = .ok (.invokevirtual 649, 3) := zd zm_8156 (by decide +kernel)
theorem d_8156_59 {σ : Nat → Nat} {n0 : Nat} {bf : ab_B} : decode (ab_code (zx σ n0 bf).1 8156) 59 = .ok (.return_, 1) := zd zm_8156 (by decide +kernel)
def w_X9_typed_44 (X : zs_X) (d : Nat) (p0 : Nat) (S : zs_T) (Q : zs_Q) : Prop :=
  (zs_K S p0 = some (.inl 8) ∧ zs_C X d 8028 [.ref p0, .int (13 : Int32)] S (zs_kV (fun S2 => (zs_K S2 p0 = some (.inl 8) ∧ zs_C X d 8030 [.ref p0, .int (63 : Int32), .int (0 : Int32), .int (0 : Int32), .int (0 : Int32)] S2 (zs_kV (fun S5 => (Q (.returned none) S5)) Q))) Q))
theorem u_X9_typed_44 {σ : Nat → Nat} {n0 : Nat} {bf : ab_B} {d : Nat} {p0 : Nat} {S : zs_T} {Q : zs_Q} (hB : zt_B bf) (h : w_X9_typed_44 (zx σ n0 bf) d p0 S Q) : zs_U (zx σ n0 bf) d 8156 44 [(0, .ref p0)] [] S Q := by
  unfold w_X9_typed_44 at h
  refine zu_aload_n d_8156_44 rfl (zs_ra _) ?_
  refine zu_bipush d_8156_45 zj_13 ?_
  obtain ⟨k1, h⟩ := h
  refine zc_8_746 (x0 := (13 : Int32)) hB rfl k1 d_8156_47 (Nat.le_of_ble_eq_true rfl) h (fun S2 h => ?_)
  refine zu_aload_n d_8156_50 rfl (zs_ra _) ?_
  refine zu_bipush d_8156_51 zj_63 ?_
  refine zu_iconst d_8156_53 zi_0 ?_
  refine zu_iconst d_8156_54 zi_0 ?_
  refine zu_iconst d_8156_55 zi_0 ?_
  obtain ⟨k4, h⟩ := h
  refine zc_8_649 (x0 := (63 : Int32)) (x1 := (0 : Int32)) (x2 := (0 : Int32)) (x3 := (0 : Int32)) hB rfl k4 d_8156_56 (Nat.le_of_ble_eq_true rfl) h (fun S5 h => ?_)
  exact zu_vret d_8156_59 zr_8156 h
def w_X9_typed (X : zs_X) (d : Nat) (p0 : Nat) (p1 : Int32) (S : zs_T) (Q : zs_Q) : Prop :=
  (zs_K S p0 = some (.inl 8) ∧ (((zs_I S 8010 p0) ≤ 0 → (ab_n0 X.1 ≤ p0 ∧ ∀ S4, S4 = zs_sI S 8129 p0 ((zs_I S 8129 p0) - (1 : Int32)) → zs_C X d 8157 [.ref p0, .int p1] S4 (zs_kI (fun v8 S7 => (((v8 = 0 → w_X9_typed_44 X d p0 S7 Q) ∧ (¬ (v8 = 0) → (zs_K S7 p0 = some (.inl 8) ∧ ∃ b11, (zs_R S7 8128 p0) = some b11 ∧ zs_A S7 b11 0 (zs_I S7 8129 p0) ∧ zs_C X d 8011 [.ref p0, .int p1, .int (2 : Int32), .int (zs_i S7 b11 (zs_I S7 8129 p0).toNatClampNeg), .int (0 : Int32), .int (0 : Int32)] S7 (zs_kI (fun v15 S14 => (w_X9_typed_44 X d p0 S14 Q)) Q)))))) Q))) ∧ (¬ ((zs_I S 8010 p0) ≤ 0) → (Q (.returned none) S))))
theorem u_X9_typed {σ : Nat → Nat} {n0 : Nat} {bf : ab_B} {d : Nat} {p0 : Nat} {p1 : Int32} {S : zs_T} {Q : zs_Q} (hB : zt_B bf) (hd : 1 ≤ d) (h : w_X9_typed (zx σ n0 bf) (d - 1) p0 p1 S Q) : zs_C (zx σ n0 bf) d 8156 [.ref p0, .int p1] S Q := by
  have hL : lv_args 0 [.ref p0, .int p1] = [(0, .ref p0), (1, .int p1)] := rfl
  refine zs_C.of1 (hB.2 8156 (by decide) (by decide)) hd (by rw [hL]; exact zs_sub_self _ (by exact ⟨rfl, rfl, trivial⟩)) ?_
  rw [hL]
  clear hL
  unfold w_X9_typed at h
  refine zu_aload_n d_8156_0 rfl (zs_ra _) ?_
  obtain ⟨k1, h⟩ := h
  refine zg_8_444 rfl d_8156_1 k1 ?_
  refine zu_ifle (t := 8) d_8156_4 rfl (fun c2 => ?_) (fun c2 => ?_)
  · have h := h.1 c2
    refine zu_aload_n d_8156_8 rfl (zs_ra _) ?_
    refine zu_dup d_8156_9 rfl ?_
    refine zg_8_831 rfl d_8156_10 k1 ?_
    refine zu_iconst d_8156_13 zi_1 ?_
    refine zu_stk d_8156_14 rfl rfl ?_
    obtain ⟨k3, h⟩ := h
    refine zp_8_831 (v := ((zs_I S 8129 p0) - (1 : Int32))) rfl d_8156_15 k1 k3 ?_
    generalize e5 : zs_sI S 8129 p0 ((zs_I S 8129 p0) - (1 : Int32)) = S4
    have h := h S4 e5.symm
    have K6 : ∀ b, zs_K S4 b = zs_K S b := zs_Kt e5 (zs_KsI _ _ _ _) (fun _ => rfl)
    refine zu_aload_n d_8156_18 rfl (zs_ra _) ?_
    refine zu_iload_n d_8156_19 rfl ?_
    refine zc_8_934 (x0 := p1) hB rfl ((K6 _).trans k1) d_8156_20 (Nat.le_of_ble_eq_true rfl) h (fun v8 S7 h => ?_)
    refine zu_ifeq (t := 44) d_8156_23 rfl (fun c9 => ?_) (fun c9 => ?_)
    · have h := h.1 c9
      exact (u_X9_typed_44 hB h).weak ⟨rfl, trivial⟩
    · have h := h.2 c9
      refine zu_aload_n d_8156_26 rfl (zs_ra _) ?_
      refine zu_iload_n d_8156_27 rfl ?_
      refine zu_iconst d_8156_28 zi_2 ?_
      refine zu_aload_n d_8156_29 rfl (zs_ra _) ?_
      obtain ⟨k10, h⟩ := h
      refine zg_8_278 rfl d_8156_30 k10 ?_
      refine zu_aload_n d_8156_33 rfl (zs_ra _) ?_
      refine zg_8_831 rfl d_8156_34 k10 ?_
      obtain ⟨b11, e12, h⟩ := h
      refine zs_stk1 (zs_rfe e12) ?_
      obtain ⟨k13, h⟩ := h
      refine zu_iald (k := 0) d_8156_37 rfl rfl k13 ?_
      refine zu_iconst d_8156_38 zi_0 ?_
      refine zu_iconst d_8156_39 zi_0 ?_
      refine zc_8_606 (x0 := p1) (x1 := (2 : Int32)) (x2 := (zs_i S7 b11 (zs_I S7 8129 p0).toNatClampNeg)) (x3 := (0 : Int32)) (x4 := (0 : Int32)) hB rfl k10 d_8156_40 (Nat.le_of_ble_eq_true rfl) h (fun v15 S14 h => ?_)
      refine zu_istore_n d_8156_43 (zs_lt zq_8156 rfl) ?_
      exact (u_X9_typed_44 hB h).weak ⟨rfl, trivial⟩
  · have h := h.2 c2
    exact zu_vret d_8156_7 zr_8156 h
/-! SchemaPascalModel.notTold(I)Z -/
theorem zm_8157 {σ : Nat → Nat} {n0 : Nat} {bf : ab_B} : ab_code (zx σ n0 bf).1 8157 = prog_17_method_144_code := rfl
theorem zq_8157 {σ : Nat → Nat} {n0 : Nat} {bf : ab_B} : ab_maxL (zx σ n0 bf).1 8157 = 2 := rfl
theorem zr_8157 {σ : Nat → Nat} {n0 : Nat} {bf : ab_B} : ab_ret (zx σ n0 bf).1 8157 = (Option.some Jvm.ClassFile.FieldType.boolean) := rfl
theorem d_8157_0 {σ : Nat → Nat} {n0 : Nat} {bf : ab_B} : decode (ab_code (zx σ n0 bf).1 8157) 0 = .ok (.aload_n 0, 1) := zd zm_8157 (by decide +kernel)
theorem d_8157_1 {σ : Nat → Nat} {n0 : Nat} {bf : ab_B} : decode (ab_code (zx σ n0 bf).1 8157) 1 = .ok (.getfield 444, 3) := zd zm_8157 (by decide +kernel)
theorem d_8157_4 {σ : Nat → Nat} {n0 : Nat} {bf : ab_B} : decode (ab_code (zx σ n0 bf).1 8157) 4 = .ok (.ifCond .ne 16, 3) := zd zm_8157 (by decide +kernel)
theorem d_8157_7 {σ : Nat → Nat} {n0 : Nat} {bf : ab_B} : decode (ab_code (zx σ n0 bf).1 8157) 7 = .ok (.aload_n 0, 1) := zd zm_8157 (by decide +kernel)
theorem d_8157_8 {σ : Nat → Nat} {n0 : Nat} {bf : ab_B} : decode (ab_code (zx σ n0 bf).1 8157) 8 = .ok (.iload_n 1, 1) := zd zm_8157 (by decide +kernel)
theorem d_8157_9 {σ : Nat → Nat} {n0 : Nat} {bf : ab_B} : decode (ab_code (zx σ n0 bf).1 8157) 9 = .ok (.invokevirtual 864, 3) := zd zm_8157 (by decide +kernel)
theorem d_8157_12 {σ : Nat → Nat} {n0 : Nat} {bf : ab_B} : decode (ab_code (zx σ n0 bf).1 8157) 12 = .ok (.ifCond .eq 8, 3) := zd zm_8157 (by decide +kernel)
theorem d_8157_15 {σ : Nat → Nat} {n0 : Nat} {bf : ab_B} : decode (ab_code (zx σ n0 bf).1 8157) 15 = .ok (.aload_n 0, 1) := zd zm_8157 (by decide +kernel)
theorem d_8157_16 {σ : Nat → Nat} {n0 : Nat} {bf : ab_B} : decode (ab_code (zx σ n0 bf).1 8157) 16 = .ok (.iconst 4, 1) := zd zm_8157 (by decide +kernel)
theorem d_8157_17 {σ : Nat → Nat} {n0 : Nat} {bf : ab_B} : decode (ab_code (zx σ n0 bf).1 8157) 17 = .ok (.invokevirtual 541, 3) := zd zm_8157 (by decide +kernel)
theorem d_8157_20 {σ : Nat → Nat} {n0 : Nat} {bf : ab_B} : decode (ab_code (zx σ n0 bf).1 8157) 20 = .ok (.aload_n 0, 1) := zd zm_8157 (by decide +kernel)
theorem d_8157_21 {σ : Nat → Nat} {n0 : Nat} {bf : ab_B} : decode (ab_code (zx σ n0 bf).1 8157) 21 = .ok (.getfield 444, 3) := zd zm_8157 (by decide +kernel)
theorem d_8157_24 {σ : Nat → Nat} {n0 : Nat} {bf : ab_B} : decode (ab_code (zx σ n0 bf).1 8157) 24 = .ok (.ifCond .ne 7, 3) := zd zm_8157 (by decide +kernel)
theorem d_8157_27 {σ : Nat → Nat} {n0 : Nat} {bf : ab_B} : decode (ab_code (zx σ n0 bf).1 8157) 27 = .ok (.iconst 1, 1) := zd zm_8157 (by decide +kernel)
theorem d_8157_28 {σ : Nat → Nat} {n0 : Nat} {bf : ab_B} : decode (ab_code (zx σ n0 bf).1 8157) 28 = .ok (.goto 4, 3) := zd zm_8157 (by decide +kernel)
theorem d_8157_31 {σ : Nat → Nat} {n0 : Nat} {bf : ab_B} : decode (ab_code (zx σ n0 bf).1 8157) 31 = .ok (.iconst 0, 1) := zd zm_8157 (by decide +kernel)
theorem d_8157_32 {σ : Nat → Nat} {n0 : Nat} {bf : ab_B} : decode (ab_code (zx σ n0 bf).1 8157) 32 = .ok (.ireturn, 1) := zd zm_8157 (by decide +kernel)
def w_X9_notTold_20 (X : zs_X) (d : Nat) (p0 : Nat) (S : zs_T) (Q : zs_Q) : Prop :=
  (zs_K S p0 = some (.inl 8) ∧ ((¬ (zs_I S 8010 p0) = 0 → (Q (.returned (some (.int (0 : Int32)))) S)) ∧ (¬ (¬ (zs_I S 8010 p0) = 0) → (Q (.returned (some (.int (1 : Int32)))) S))))
theorem u_X9_notTold_20 {σ : Nat → Nat} {n0 : Nat} {bf : ab_B} {d : Nat} {p0 : Nat} {S : zs_T} {Q : zs_Q} (hB : zt_B bf) (h : w_X9_notTold_20 (zx σ n0 bf) d p0 S Q) : zs_U (zx σ n0 bf) d 8157 20 [(0, .ref p0)] [] S Q := by
  unfold w_X9_notTold_20 at h
  refine zu_aload_n d_8157_20 rfl (zs_ra _) ?_
  obtain ⟨k1, h⟩ := h
  refine zg_8_444 rfl d_8157_21 k1 ?_
  refine zu_ifne (t := 31) d_8157_24 rfl (fun c2 => ?_) (fun c2 => ?_)
  · have h := h.1 c2
    refine zu_iconst d_8157_31 zi_0 ?_
    exact zu_iret d_8157_32 zr_8157 (zs_b_n (Or.inl rfl)) h
  · have h := h.2 c2
    refine zu_iconst d_8157_27 zi_1 ?_
    refine zu_goto (t := 32) d_8157_28 rfl ?_
    exact zu_iret d_8157_32 zr_8157 (zs_b_n (Or.inr rfl)) h
def w_X9_notTold (X : zs_X) (d : Nat) (p0 : Nat) (p1 : Int32) (S : zs_T) (Q : zs_Q) : Prop :=
  (zs_K S p0 = some (.inl 8) ∧ ((¬ (zs_I S 8010 p0) = 0 → w_X9_notTold_20 X d p0 S Q) ∧ (¬ (¬ (zs_I S 8010 p0) = 0) → (zs_C X d 8095 [.ref p0, .int p1] S (zs_kI (fun v4 S3 => (((v4 = 0 → w_X9_notTold_20 X d p0 S3 Q) ∧ (¬ (v4 = 0) → (zs_K S3 p0 = some (.inl 8) ∧ zs_C X d 8027 [.ref p0, .int (4 : Int32)] S3 (zs_kV (fun S7 => w_X9_notTold_20 X d p0 S7 Q) Q)))))) Q)))))
theorem u_X9_notTold {σ : Nat → Nat} {n0 : Nat} {bf : ab_B} {d : Nat} {p0 : Nat} {p1 : Int32} {S : zs_T} {Q : zs_Q} (hB : zt_B bf) (hd : 1 ≤ d) (h : w_X9_notTold (zx σ n0 bf) (d - 1) p0 p1 S Q) : zs_C (zx σ n0 bf) d 8157 [.ref p0, .int p1] S Q := by
  have hL : lv_args 0 [.ref p0, .int p1] = [(0, .ref p0), (1, .int p1)] := rfl
  refine zs_C.of1 (hB.2 8157 (by decide) (by decide)) hd (by rw [hL]; exact zs_sub_self _ (by exact ⟨rfl, rfl, trivial⟩)) ?_
  rw [hL]
  clear hL
  unfold w_X9_notTold at h
  refine zu_aload_n d_8157_0 rfl (zs_ra _) ?_
  obtain ⟨k1, h⟩ := h
  refine zg_8_444 rfl d_8157_1 k1 ?_
  refine zu_ifne (t := 20) d_8157_4 rfl (fun c2 => ?_) (fun c2 => ?_)
  · have h := h.1 c2
    exact (u_X9_notTold_20 hB h).weak ⟨rfl, trivial⟩
  · have h := h.2 c2
    refine zu_aload_n d_8157_7 rfl (zs_ra _) ?_
    refine zu_iload_n d_8157_8 rfl ?_
    refine zc_8_864 (x0 := p1) hB rfl k1 d_8157_9 (Nat.le_of_ble_eq_true rfl) h (fun v4 S3 h => ?_)
    refine zu_ifeq (t := 20) d_8157_12 rfl (fun c5 => ?_) (fun c5 => ?_)
    · have h := h.1 c5
      exact (u_X9_notTold_20 hB h).weak ⟨rfl, trivial⟩
    · have h := h.2 c5
      refine zu_aload_n d_8157_15 rfl (zs_ra _) ?_
      refine zu_iconst d_8157_16 zi_4 ?_
      obtain ⟨k6, h⟩ := h
      refine zc_8_541 (x0 := (4 : Int32)) hB rfl k6 d_8157_17 (Nat.le_of_ble_eq_true rfl) h (fun S7 h => ?_)
      exact (u_X9_notTold_20 hB h).weak ⟨rfl, trivial⟩
/-! SchemaPascalModel.schemaTyped(II)V -/
theorem zm_8158 {σ : Nat → Nat} {n0 : Nat} {bf : ab_B} : ab_code (zx σ n0 bf).1 8158 = prog_17_method_148_code := rfl
theorem zq_8158 {σ : Nat → Nat} {n0 : Nat} {bf : ab_B} : ab_maxL (zx σ n0 bf).1 8158 = 5 := rfl
theorem zr_8158 {σ : Nat → Nat} {n0 : Nat} {bf : ab_B} : ab_ret (zx σ n0 bf).1 8158 = (Option.none : Option Jvm.ClassFile.FieldType) := rfl
theorem d_8158_0 {σ : Nat → Nat} {n0 : Nat} {bf : ab_B} : decode (ab_code (zx σ n0 bf).1 8158) 0 = .ok (.aload_n 0, 1) := zd zm_8158 (by decide +kernel)
theorem d_8158_1 {σ : Nat → Nat} {n0 : Nat} {bf : ab_B} : decode (ab_code (zx σ n0 bf).1 8158) 1 = .ok (.getfield 444, 3) := zd zm_8158 (by decide +kernel)
theorem d_8158_4 {σ : Nat → Nat} {n0 : Nat} {bf : ab_B} : decode (ab_code (zx σ n0 bf).1 8158) 4 = .ok (.ifCond .le 4, 3) := zd zm_8158 (by decide +kernel)
theorem d_8158_7 {σ : Nat → Nat} {n0 : Nat} {bf : ab_B} : decode (ab_code (zx σ n0 bf).1 8158) 7 = .ok (.return_, 1) := zd zm_8158 (by decide +kernel)
theorem d_8158_8 {σ : Nat → Nat} {n0 : Nat} {bf : ab_B} : decode (ab_code (zx σ n0 bf).1 8158) 8 = .ok (.aload_n 0, 1) := zd zm_8158 (by decide +kernel)
theorem d_8158_9 {σ : Nat → Nat} {n0 : Nat} {bf : ab_B} : decode (ab_code (zx σ n0 bf).1 8158) 9 = .ok (.invokevirtual 855, 3) := zd zm_8158 (by decide +kernel)
theorem d_8158_12 {σ : Nat → Nat} {n0 : Nat} {bf : ab_B} : decode (ab_code (zx σ n0 bf).1 8158) 12 = .ok (.aload_n 0, 1) := zd zm_8158 (by decide +kernel)
theorem d_8158_13 {σ : Nat → Nat} {n0 : Nat} {bf : ab_B} : decode (ab_code (zx σ n0 bf).1 8158) 13 = .ok (.iconst 0, 1) := zd zm_8158 (by decide +kernel)
theorem d_8158_14 {σ : Nat → Nat} {n0 : Nat} {bf : ab_B} : decode (ab_code (zx σ n0 bf).1 8158) 14 = .ok (.putfield 852, 3) := zd zm_8158 (by decide +kernel)
theorem d_8158_17 {σ : Nat → Nat} {n0 : Nat} {bf : ab_B} : decode (ab_code (zx σ n0 bf).1 8158) 17 = .ok (.aload_n 0, 1) := zd zm_8158 (by decide +kernel)
theorem d_8158_18 {σ : Nat → Nat} {n0 : Nat} {bf : ab_B} : decode (ab_code (zx σ n0 bf).1 8158) 18 = .ok (.dup, 1) := zd zm_8158 (by decide +kernel)
theorem d_8158_19 {σ : Nat → Nat} {n0 : Nat} {bf : ab_B} : decode (ab_code (zx σ n0 bf).1 8158) 19 = .ok (.getfield 831, 3) := zd zm_8158 (by decide +kernel)
theorem d_8158_22 {σ : Nat → Nat} {n0 : Nat} {bf : ab_B} : decode (ab_code (zx σ n0 bf).1 8158) 22 = .ok (.iconst 1, 1) := zd zm_8158 (by decide +kernel)
theorem d_8158_23 {σ : Nat → Nat} {n0 : Nat} {bf : ab_B} : decode (ab_code (zx σ n0 bf).1 8158) 23 = .ok (.isub, 1) := zd zm_8158 (by decide +kernel)
theorem d_8158_24 {σ : Nat → Nat} {n0 : Nat} {bf : ab_B} : decode (ab_code (zx σ n0 bf).1 8158) 24 = .ok (.putfield 831, 3) := zd zm_8158 (by decide +kernel)
theorem d_8158_27 {σ : Nat → Nat} {n0 : Nat} {bf : ab_B} : decode (ab_code (zx σ n0 bf).1 8158) 27 = .ok (.aload_n 0, 1) := zd zm_8158 (by decide +kernel)
theorem d_8158_28 {σ : Nat → Nat} {n0 : Nat} {bf : ab_B} : decode (ab_code (zx σ n0 bf).1 8158) 28 = .ok (.getfield 278, 3) := zd zm_8158 (by decide +kernel)
theorem d_8158_31 {σ : Nat → Nat} {n0 : Nat} {bf : ab_B} : decode (ab_code (zx σ n0 bf).1 8158) 31 = .ok (.aload_n 0, 1) := zd zm_8158 (by decide +kernel)
theorem d_8158_32 {σ : Nat → Nat} {n0 : Nat} {bf : ab_B} : decode (ab_code (zx σ n0 bf).1 8158) 32 = .ok (.getfield 831, 3) := zd zm_8158 (by decide +kernel)
theorem d_8158_35 {σ : Nat → Nat} {n0 : Nat} {bf : ab_B} : decode (ab_code (zx σ n0 bf).1 8158) 35 = .ok (.iaload, 1) := zd zm_8158 (by decide +kernel)
theorem d_8158_36 {σ : Nat → Nat} {n0 : Nat} {bf : ab_B} : decode (ab_code (zx σ n0 bf).1 8158) 36 = .ok (.istore_n 3, 1) := zd zm_8158 (by decide +kernel)
theorem d_8158_37 {σ : Nat → Nat} {n0 : Nat} {bf : ab_B} : decode (ab_code (zx σ n0 bf).1 8158) 37 = .ok (.aload_n 0, 1) := zd zm_8158 (by decide +kernel)
theorem d_8158_38 {σ : Nat → Nat} {n0 : Nat} {bf : ab_B} : decode (ab_code (zx σ n0 bf).1 8158) 38 = .ok (.getfield 90, 3) := zd zm_8158 (by decide +kernel)
theorem d_8158_41 {σ : Nat → Nat} {n0 : Nat} {bf : ab_B} : decode (ab_code (zx σ n0 bf).1 8158) 41 = .ok (.iload_n 3, 1) := zd zm_8158 (by decide +kernel)
theorem d_8158_42 {σ : Nat → Nat} {n0 : Nat} {bf : ab_B} : decode (ab_code (zx σ n0 bf).1 8158) 42 = .ok (.baload, 1) := zd zm_8158 (by decide +kernel)
theorem d_8158_43 {σ : Nat → Nat} {n0 : Nat} {bf : ab_B} : decode (ab_code (zx σ n0 bf).1 8158) 43 = .ok (.bipush 8, 2) := zd zm_8158 (by decide +kernel)
theorem d_8158_45 {σ : Nat → Nat} {n0 : Nat} {bf : ab_B} : decode (ab_code (zx σ n0 bf).1 8158) 45 = .ok (.if_icmp .eq 19, 3) := zd zm_8158 (by decide +kernel)
theorem d_8158_48 {σ : Nat → Nat} {n0 : Nat} {bf : ab_B} : decode (ab_code (zx σ n0 bf).1 8158) 48 = .ok (.aload_n 0, 1) := zd zm_8158 (by decide +kernel)
theorem d_8158_49 {σ : Nat → Nat} {n0 : Nat} {bf : ab_B} : decode (ab_code (zx σ n0 bf).1 8158) 49 = .ok (.getfield 90, 3) := zd zm_8158 (by decide +kernel)
theorem d_8158_52 {σ : Nat → Nat} {n0 : Nat} {bf : ab_B} : decode (ab_code (zx σ n0 bf).1 8158) 52 = .ok (.iload_n 3, 1) := zd zm_8158 (by decide +kernel)
theorem d_8158_53 {σ : Nat → Nat} {n0 : Nat} {bf : ab_B} : decode (ab_code (zx σ n0 bf).1 8158) 53 = .ok (.baload, 1) := zd zm_8158 (by decide +kernel)
theorem d_8158_54 {σ : Nat → Nat} {n0 : Nat} {bf : ab_B} : decode (ab_code (zx σ n0 bf).1 8158) 54 = .ok (.bipush 9, 2) := zd zm_8158 (by decide +kernel)
theorem d_8158_56 {σ : Nat → Nat} {n0 : Nat} {bf : ab_B} : decode (ab_code (zx σ n0 bf).1 8158) 56 = .ok (.if_icmp .eq 8, 3) := zd zm_8158 (by decide +kernel)
theorem d_8158_59 {σ : Nat → Nat} {n0 : Nat} {bf : ab_B} : decode (ab_code (zx σ n0 bf).1 8158) 59 = .ok (.aload_n 0, 1) := zd zm_8158 (by decide +kernel)
theorem d_8158_60 {σ : Nat → Nat} {n0 : Nat} {bf : ab_B} : decode (ab_code (zx σ n0 bf).1 8158) 60 = .ok (.iconst 5, 1) := zd zm_8158 (by decide +kernel)
theorem d_8158_61 {σ : Nat → Nat} {n0 : Nat} {bf : ab_B} : decode (ab_code (zx σ n0 bf).1 8158) 61 = .ok (.invokevirtual 541, 3) := zd zm_8158 (by decide +kernel)
theorem d_8158_64 {σ : Nat → Nat} {n0 : Nat} {bf : ab_B} : decode (ab_code (zx σ n0 bf).1 8158) 64 = .ok (.aload_n 0, 1) := zd zm_8158 (by decide +kernel)
theorem d_8158_65 {σ : Nat → Nat} {n0 : Nat} {bf : ab_B} : decode (ab_code (zx σ n0 bf).1 8158) 65 = .ok (.iload_n 1, 1) := zd zm_8158 (by decide +kernel)
theorem d_8158_66 {σ : Nat → Nat} {n0 : Nat} {bf : ab_B} : decode (ab_code (zx σ n0 bf).1 8158) 66 = .ok (.invokevirtual 934, 3) := zd zm_8158 (by decide +kernel)
theorem d_8158_69 {σ : Nat → Nat} {n0 : Nat} {bf : ab_B} : decode (ab_code (zx σ n0 bf).1 8158) 69 = .ok (.ifCond .eq 54, 3) := zd zm_8158 (by decide +kernel)
theorem d_8158_72 {σ : Nat → Nat} {n0 : Nat} {bf : ab_B} : decode (ab_code (zx σ n0 bf).1 8158) 72 = .ok (.aload_n 0, 1) := zd zm_8158 (by decide +kernel)
theorem d_8158_73 {σ : Nat → Nat} {n0 : Nat} {bf : ab_B} : decode (ab_code (zx σ n0 bf).1 8158) 73 = .ok (.getfield 130, 3) := zd zm_8158 (by decide +kernel)
theorem d_8158_76 {σ : Nat → Nat} {n0 : Nat} {bf : ab_B} : decode (ab_code (zx σ n0 bf).1 8158) 76 = .ok (.iload_n 2, 1) := zd zm_8158 (by decide +kernel)
theorem d_8158_77 {σ : Nat → Nat} {n0 : Nat} {bf : ab_B} : decode (ab_code (zx σ n0 bf).1 8158) 77 = .ok (.iload_n 3, 1) := zd zm_8158 (by decide +kernel)
theorem d_8158_78 {σ : Nat → Nat} {n0 : Nat} {bf : ab_B} : decode (ab_code (zx σ n0 bf).1 8158) 78 = .ok (.iastore, 1) := zd zm_8158 (by decide +kernel)
theorem d_8158_79 {σ : Nat → Nat} {n0 : Nat} {bf : ab_B} : decode (ab_code (zx σ n0 bf).1 8158) 79 = .ok (.aload_n 0, 1) := zd zm_8158 (by decide +kernel)
theorem d_8158_80 {σ : Nat → Nat} {n0 : Nat} {bf : ab_B} : decode (ab_code (zx σ n0 bf).1 8158) 80 = .ok (.getfield 248, 3) := zd zm_8158 (by decide +kernel)
theorem d_8158_83 {σ : Nat → Nat} {n0 : Nat} {bf : ab_B} : decode (ab_code (zx σ n0 bf).1 8158) 83 = .ok (.iload_n 2, 1) := zd zm_8158 (by decide +kernel)
theorem d_8158_84 {σ : Nat → Nat} {n0 : Nat} {bf : ab_B} : decode (ab_code (zx σ n0 bf).1 8158) 84 = .ok (.aload_n 0, 1) := zd zm_8158 (by decide +kernel)
theorem d_8158_85 {σ : Nat → Nat} {n0 : Nat} {bf : ab_B} : decode (ab_code (zx σ n0 bf).1 8158) 85 = .ok (.bipush 15, 2) := zd zm_8158 (by decide +kernel)
theorem d_8158_87 {σ : Nat → Nat} {n0 : Nat} {bf : ab_B} : decode (ab_code (zx σ n0 bf).1 8158) 87 = .ok (.iload_n 2, 1) := zd zm_8158 (by decide +kernel)
theorem d_8158_88 {σ : Nat → Nat} {n0 : Nat} {bf : ab_B} : decode (ab_code (zx σ n0 bf).1 8158) 88 = .ok (.aload_n 0, 1) := zd zm_8158 (by decide +kernel)
theorem d_8158_89 {σ : Nat → Nat} {n0 : Nat} {bf : ab_B} : decode (ab_code (zx σ n0 bf).1 8158) 89 = .ok (.getfield 109, 3) := zd zm_8158 (by decide +kernel)
theorem d_8158_92 {σ : Nat → Nat} {n0 : Nat} {bf : ab_B} : decode (ab_code (zx σ n0 bf).1 8158) 92 = .ok (.iload_n 3, 1) := zd zm_8158 (by decide +kernel)
theorem d_8158_93 {σ : Nat → Nat} {n0 : Nat} {bf : ab_B} : decode (ab_code (zx σ n0 bf).1 8158) 93 = .ok (.baload, 1) := zd zm_8158 (by decide +kernel)
theorem d_8158_94 {σ : Nat → Nat} {n0 : Nat} {bf : ab_B} : decode (ab_code (zx σ n0 bf).1 8158) 94 = .ok (.iconst 2, 1) := zd zm_8158 (by decide +kernel)
theorem d_8158_95 {σ : Nat → Nat} {n0 : Nat} {bf : ab_B} : decode (ab_code (zx σ n0 bf).1 8158) 95 = .ok (.iadd, 1) := zd zm_8158 (by decide +kernel)
theorem d_8158_96 {σ : Nat → Nat} {n0 : Nat} {bf : ab_B} : decode (ab_code (zx σ n0 bf).1 8158) 96 = .ok (.invokevirtual 599, 3) := zd zm_8158 (by decide +kernel)
theorem d_8158_99 {σ : Nat → Nat} {n0 : Nat} {bf : ab_B} : decode (ab_code (zx σ n0 bf).1 8158) 99 = .ok (.iastore, 1) := zd zm_8158 (by decide +kernel)
theorem d_8158_100 {σ : Nat → Nat} {n0 : Nat} {bf : ab_B} : decode (ab_code (zx σ n0 bf).1 8158) 100 = .ok (.aload_n 0, 1) := zd zm_8158 (by decide +kernel)
theorem d_8158_101 {σ : Nat → Nat} {n0 : Nat} {bf : ab_B} : decode (ab_code (zx σ n0 bf).1 8158) 101 = .ok (.getfield 105, 3) := zd zm_8158 (by decide +kernel)
theorem d_8158_104 {σ : Nat → Nat} {n0 : Nat} {bf : ab_B} : decode (ab_code (zx σ n0 bf).1 8158) 104 = .ok (.aload_n 0, 1) := zd zm_8158 (by decide +kernel)
theorem d_8158_105 {σ : Nat → Nat} {n0 : Nat} {bf : ab_B} : decode (ab_code (zx σ n0 bf).1 8158) 105 = .ok (.getfield 248, 3) := zd zm_8158 (by decide +kernel)
theorem d_8158_108 {σ : Nat → Nat} {n0 : Nat} {bf : ab_B} : decode (ab_code (zx σ n0 bf).1 8158) 108 = .ok (.iload_n 2, 1) := zd zm_8158 (by decide +kernel)
theorem d_8158_109 {σ : Nat → Nat} {n0 : Nat} {bf : ab_B} : decode (ab_code (zx σ n0 bf).1 8158) 109 = .ok (.iaload, 1) := zd zm_8158 (by decide +kernel)
theorem d_8158_110 {σ : Nat → Nat} {n0 : Nat} {bf : ab_B} : decode (ab_code (zx σ n0 bf).1 8158) 110 = .ok (.iconst 1, 1) := zd zm_8158 (by decide +kernel)
theorem d_8158_111 {σ : Nat → Nat} {n0 : Nat} {bf : ab_B} : decode (ab_code (zx σ n0 bf).1 8158) 111 = .ok (.bastore, 1) := zd zm_8158 (by decide +kernel)
theorem d_8158_112 {σ : Nat → Nat} {n0 : Nat} {bf : ab_B} : decode (ab_code (zx σ n0 bf).1 8158) 112 = .ok (.aload_n 0, 1) := zd zm_8158 (by decide +kernel)
theorem d_8158_113 {σ : Nat → Nat} {n0 : Nat} {bf : ab_B} : decode (ab_code (zx σ n0 bf).1 8158) 113 = .ok (.iload_n 1, 1) := zd zm_8158 (by decide +kernel)
theorem d_8158_114 {σ : Nat → Nat} {n0 : Nat} {bf : ab_B} : decode (ab_code (zx σ n0 bf).1 8158) 114 = .ok (.iconst 3, 1) := zd zm_8158 (by decide +kernel)
theorem d_8158_115 {σ : Nat → Nat} {n0 : Nat} {bf : ab_B} : decode (ab_code (zx σ n0 bf).1 8158) 115 = .ok (.iconst 0, 1) := zd zm_8158 (by decide +kernel)
theorem d_8158_116 {σ : Nat → Nat} {n0 : Nat} {bf : ab_B} : decode (ab_code (zx σ n0 bf).1 8158) 116 = .ok (.iload_n 2, 1) := zd zm_8158 (by decide +kernel)
theorem d_8158_117 {σ : Nat → Nat} {n0 : Nat} {bf : ab_B} : decode (ab_code (zx σ n0 bf).1 8158) 117 = .ok (.iconst 0, 1) := zd zm_8158 (by decide +kernel)
theorem d_8158_118 {σ : Nat → Nat} {n0 : Nat} {bf : ab_B} : decode (ab_code (zx σ n0 bf).1 8158) 118 = .ok (.invokevirtual 606, 3) := zd zm_8158 (by decide +kernel)
theorem d_8158_121 {σ : Nat → Nat} {n0 : Nat} {bf : ab_B} : decode (ab_code (zx σ n0 bf).1 8158) 121 = .ok (.istore 4, 2) := zd zm_8158 (by decide +kernel)
theorem d_8158_123 {σ : Nat → Nat} {n0 : Nat} {bf : ab_B} : decode (ab_code (zx σ n0 bf).1 8158) 123 = .ok (.aload_n 0, 1) := zd zm_8158 (by decide +kernel)
theorem d_8158_124 {σ : Nat → Nat} {n0 : Nat} {bf : ab_B} : decode (ab_code (zx σ n0 bf).1 8158) 124 = .ok (.bipush 13, 2) := zd zm_8158 (by decide +kernel)
theorem d_8158_126 {σ : Nat → Nat} {n0 : Nat} {bf : ab_B} : decode (ab_code (zx σ n0 bf).1 8158) 126 = .ok (.invokevirtual 746, 3) := zd zm_8158 (by decide +kernel)
theorem d_8158_129 {σ : Nat → Nat} {n0 : Nat} {bf : ab_B} : decode (ab_code (zx σ n0 bf).1 8158) 129 = .ok (.aload_n 0, 1) := zd zm_8158 (by decide +kernel)
theorem d_8158_130 {σ : Nat → Nat} {n0 : Nat} {bf : ab_B} : decode (ab_code (zx σ n0 bf).1 8158) 130 = .ok (.bipush 63, 2) := zd zm_8158 (by decide +kernel)
theorem d_8158_132 {σ : Nat → Nat} {n0 : Nat} {bf : ab_B} : decode (ab_code (zx σ n0 bf).1 8158) 132 = .ok (.iconst 0, 1) := zd zm_8158 (by decide +kernel)
theorem d_8158_133 {σ : Nat → Nat} {n0 : Nat} {bf : ab_B} : decode (ab_code (zx σ n0 bf).1 8158) 133 = .ok (.iconst 0, 1) := zd zm_8158 (by decide +kernel)
theorem d_8158_134 {σ : Nat → Nat} {n0 : Nat} {bf : ab_B} : decode (ab_code (zx σ n0 bf).1 8158) 134 = .ok (.iconst 0, 1) := zd zm_8158 (by decide +kernel)
theorem d_8158_135 {σ : Nat → Nat} {n0 : Nat} {bf : ab_B} : decode (ab_code (zx σ n0 bf).1 8158) 135 = .ok (.invokevirtual 649, 3) := zd zm_8158 (by decide +kernel)
theorem d_8158_138 {σ : Nat → Nat} {n0 : Nat} {bf : ab_B} : decode (ab_code (zx σ n0 bf).1 8158) 138 = .ok (.return_, 1) := zd zm_8158 (by decide +kernel)
def w_X9_schemaTyped_123 (X : zs_X) (d : Nat) (p0 : Nat) (S : zs_T) (Q : zs_Q) : Prop :=
  (zs_K S p0 = some (.inl 8) ∧ zs_C X d 8028 [.ref p0, .int (13 : Int32)] S (zs_kV (fun S2 => (zs_K S2 p0 = some (.inl 8) ∧ zs_C X d 8030 [.ref p0, .int (63 : Int32), .int (0 : Int32), .int (0 : Int32), .int (0 : Int32)] S2 (zs_kV (fun S5 => (Q (.returned none) S5)) Q))) Q))
theorem u_X9_schemaTyped_123 {σ : Nat → Nat} {n0 : Nat} {bf : ab_B} {d : Nat} {p0 : Nat} {S : zs_T} {Q : zs_Q} (hB : zt_B bf) (h : w_X9_schemaTyped_123 (zx σ n0 bf) d p0 S Q) : zs_U (zx σ n0 bf) d 8158 123 [(0, .ref p0)] [] S Q := by
  unfold w_X9_schemaTyped_123 at h
  refine zu_aload_n d_8158_123 rfl (zs_ra _) ?_
  refine zu_bipush d_8158_124 zj_13 ?_
  obtain ⟨k1, h⟩ := h
  refine zc_8_746 (x0 := (13 : Int32)) hB rfl k1 d_8158_126 (Nat.le_of_ble_eq_true rfl) h (fun S2 h => ?_)
  refine zu_aload_n d_8158_129 rfl (zs_ra _) ?_
  refine zu_bipush d_8158_130 zj_63 ?_
  refine zu_iconst d_8158_132 zi_0 ?_
  refine zu_iconst d_8158_133 zi_0 ?_
  refine zu_iconst d_8158_134 zi_0 ?_
  obtain ⟨k4, h⟩ := h
  refine zc_8_649 (x0 := (63 : Int32)) (x1 := (0 : Int32)) (x2 := (0 : Int32)) (x3 := (0 : Int32)) hB rfl k4 d_8158_135 (Nat.le_of_ble_eq_true rfl) h (fun S5 h => ?_)
  exact zu_vret d_8158_138 zr_8158 h
def w_X9_schemaTyped_100 (X : zs_X) (d : Nat) (p0 : Nat) (p1 : Int32) (p2 : Int32) (S : zs_T) (Q : zs_Q) : Prop :=
  (zs_K S p0 = some (.inl 8) ∧ ∃ b2, (zs_R S 8115 p0) = some b2 ∧ zs_A S b2 0 p2 ∧ ∃ b5, (zs_R S 8049 p0) = some b5 ∧ zs_A S b5 2 (zs_i S b2 p2.toNatClampNeg) ∧ ab_n0 X.1 ≤ b5 ∧ ∀ S9, S9 = zs_si S b5 (zs_i S b2 p2.toNatClampNeg).toNatClampNeg (vp_nar .boolean (1 : Int32)) → zs_C X d 8011 [.ref p0, .int p1, .int (3 : Int32), .int (0 : Int32), .int p2, .int (0 : Int32)] S9 (zs_kI (fun v13 S12 => (w_X9_schemaTyped_123 X d p0 S12 Q)) Q))
theorem u_X9_schemaTyped_100 {σ : Nat → Nat} {n0 : Nat} {bf : ab_B} {d : Nat} {p0 : Nat} {p1 : Int32} {p2 : Int32} {S : zs_T} {Q : zs_Q} (hB : zt_B bf) (h : w_X9_schemaTyped_100 (zx σ n0 bf) d p0 p1 p2 S Q) : zs_U (zx σ n0 bf) d 8158 100 [(0, .ref p0), (1, .int p1), (2, .int p2)] [] S Q := by
  unfold w_X9_schemaTyped_100 at h
  refine zu_aload_n d_8158_100 rfl (zs_ra _) ?_
  obtain ⟨k1, h⟩ := h
  refine zg_8_105 rfl d_8158_101 k1 ?_
  refine zu_aload_n d_8158_104 rfl (zs_ra _) ?_
  refine zg_8_248 rfl d_8158_105 k1 ?_
  refine zu_iload_n d_8158_108 rfl ?_
  obtain ⟨b2, e3, h⟩ := h
  refine zs_stk1 (zs_rfe e3) ?_
  obtain ⟨k4, h⟩ := h
  refine zu_iald (k := 0) d_8158_109 rfl rfl k4 ?_
  refine zu_iconst d_8158_110 zi_1 ?_
  obtain ⟨b5, e6, h⟩ := h
  refine zs_stk2 (zs_rfe e6) ?_
  obtain ⟨k7, h⟩ := h
  obtain ⟨k8, h⟩ := h
  refine zu_bast_bool (k := 2) d_8158_111 rfl rfl k8 k7 ?_
  generalize e10 : zs_si S b5 (zs_i S b2 p2.toNatClampNeg).toNatClampNeg (vp_nar .boolean (1 : Int32)) = S9
  have h := h S9 e10.symm
  have K11 : ∀ b, zs_K S9 b = zs_K S b := zs_Kt e10 (zs_Ksi _ _ _ _) (fun _ => rfl)
  refine zu_aload_n d_8158_112 rfl (zs_ra _) ?_
  refine zu_iload_n d_8158_113 rfl ?_
  refine zu_iconst d_8158_114 zi_3 ?_
  refine zu_iconst d_8158_115 zi_0 ?_
  refine zu_iload_n d_8158_116 rfl ?_
  refine zu_iconst d_8158_117 zi_0 ?_
  refine zc_8_606 (x0 := p1) (x1 := (3 : Int32)) (x2 := (0 : Int32)) (x3 := p2) (x4 := (0 : Int32)) hB rfl ((K11 _).trans k1) d_8158_118 (Nat.le_of_ble_eq_true rfl) h (fun v13 S12 h => ?_)
  refine zu_istore d_8158_121 (zs_lt zq_8158 rfl) ?_
  exact (u_X9_schemaTyped_123 hB h).weak ⟨rfl, trivial⟩
def w_X9_schemaTyped_64 (X : zs_X) (d : Nat) (p0 : Nat) (p1 : Int32) (p2 : Int32) (p3 : Int32) (S : zs_T) (Q : zs_Q) : Prop :=
  (zs_K S p0 = some (.inl 8) ∧ zs_C X d 8157 [.ref p0, .int p1] S (zs_kI (fun v3 S2 => (((v3 = 0 → w_X9_schemaTyped_123 X d p0 S2 Q) ∧ (¬ (v3 = 0) → (zs_K S2 p0 = some (.inl 8) ∧ ∃ b6, (zs_R S2 8059 p0) = some b6 ∧ zs_A S2 b6 0 p2 ∧ ab_n0 X.1 ≤ b6 ∧ ∀ S10, S10 = zs_si S2 b6 p2.toNatClampNeg p3 → ∃ b13, (zs_R S10 8050 p0) = some b13 ∧ zs_A S2 b13 1 p3 ∧ zs_C X d 8009 [.ref p0, .int (15 : Int32), .int p2, .int ((zs_i S10 b13 p3.toNatClampNeg) + (2 : Int32))] S10 (zs_kI (fun v17 S16 => (∃ b18, (zs_R S10 8115 p0) = some b18 ∧ zs_A S16 b18 0 p2 ∧ ab_n0 X.1 ≤ b18 ∧ ∀ S22, S22 = zs_si S16 b18 p2.toNatClampNeg v17 → w_X9_schemaTyped_100 X d p0 p1 p2 S22 Q)) Q)))))) Q))
theorem u_X9_schemaTyped_64 {σ : Nat → Nat} {n0 : Nat} {bf : ab_B} {d : Nat} {p0 : Nat} {p1 : Int32} {p2 : Int32} {p3 : Int32} {S : zs_T} {Q : zs_Q} (hB : zt_B bf) (h : w_X9_schemaTyped_64 (zx σ n0 bf) d p0 p1 p2 p3 S Q) : zs_U (zx σ n0 bf) d 8158 64 [(0, .ref p0), (1, .int p1), (2, .int p2), (3, .int p3)] [] S Q := by
  unfold w_X9_schemaTyped_64 at h
  refine zu_aload_n d_8158_64 rfl (zs_ra _) ?_
  refine zu_iload_n d_8158_65 rfl ?_
  obtain ⟨k1, h⟩ := h
  refine zc_8_934 (x0 := p1) hB rfl k1 d_8158_66 (Nat.le_of_ble_eq_true rfl) h (fun v3 S2 h => ?_)
  refine zu_ifeq (t := 123) d_8158_69 rfl (fun c4 => ?_) (fun c4 => ?_)
  · have h := h.1 c4
    exact (u_X9_schemaTyped_123 hB h).weak ⟨rfl, trivial⟩
  · have h := h.2 c4
    refine zu_aload_n d_8158_72 rfl (zs_ra _) ?_
    obtain ⟨k5, h⟩ := h
    refine zg_8_130 rfl d_8158_73 k5 ?_
    refine zu_iload_n d_8158_76 rfl ?_
    refine zu_iload_n d_8158_77 rfl ?_
    obtain ⟨b6, e7, h⟩ := h
    refine zs_stk2 (zs_rfe e7) ?_
    obtain ⟨k8, h⟩ := h
    obtain ⟨k9, h⟩ := h
    refine zu_iast (k := 0) d_8158_78 rfl rfl k9 k8 ?_
    generalize e11 : zs_si S2 b6 p2.toNatClampNeg p3 = S10
    have h := h S10 e11.symm
    have K12 : ∀ b, zs_K S10 b = zs_K S2 b := zs_Kt e11 (zs_Ksi _ _ _ _) (fun _ => rfl)
    refine zu_aload_n d_8158_79 rfl (zs_ra _) ?_
    refine zg_8_248 rfl d_8158_80 ((K12 _).trans k5) ?_
    refine zu_iload_n d_8158_83 rfl ?_
    refine zu_aload_n d_8158_84 rfl (zs_ra _) ?_
    refine zu_bipush d_8158_85 zj_15 ?_
    refine zu_iload_n d_8158_87 rfl ?_
    refine zu_aload_n d_8158_88 rfl (zs_ra _) ?_
    refine zg_8_109 rfl d_8158_89 ((K12 _).trans k5) ?_
    refine zu_iload_n d_8158_92 rfl ?_
    obtain ⟨b13, e14, h⟩ := h
    refine zs_stk1 (zs_rfe e14) ?_
    obtain ⟨k15, h⟩ := h
    refine zu_bald (k := 1) d_8158_93 rfl (Or.inl rfl) (zs_Ak K12 k15) ?_
    refine zu_iconst d_8158_94 zi_2 ?_
    refine zu_stk d_8158_95 rfl rfl ?_
    refine zc_8_599 (x0 := (15 : Int32)) (x1 := p2) (x2 := ((zs_i S10 b13 p3.toNatClampNeg) + (2 : Int32))) hB rfl ((K12 _).trans k5) d_8158_96 (by simp only [List.map_cons, List.map_nil, List.sum_cons, List.sum_nil, zs_cat, zs_cI, zs_cJ, zs_cA]; exact Nat.le_of_ble_eq_true rfl) h (fun v17 S16 h => ?_)
    obtain ⟨b18, e19, h⟩ := h
    refine zs_stk2 (zs_rfe e19) ?_
    obtain ⟨k20, h⟩ := h
    obtain ⟨k21, h⟩ := h
    refine zu_iast (k := 0) d_8158_99 rfl rfl k21 k20 ?_
    generalize e23 : zs_si S16 b18 p2.toNatClampNeg v17 = S22
    have h := h S22 e23.symm
    have K24 : ∀ b, zs_K S22 b = zs_K S16 b := zs_Kt e23 (zs_Ksi _ _ _ _) (fun _ => rfl)
    exact (u_X9_schemaTyped_100 hB h).weak ⟨rfl, rfl, rfl, trivial⟩
def w_X9_schemaTyped_37 (X : zs_X) (d : Nat) (p0 : Nat) (p1 : Int32) (p2 : Int32) (p3 : Int32) (S : zs_T) (Q : zs_Q) : Prop :=
  (zs_K S p0 = some (.inl 8) ∧ ∃ b2, (zs_R S 8044 p0) = some b2 ∧ zs_A S b2 1 p3 ∧ (((zs_i S b2 p3.toNatClampNeg) = (8 : Int32) → w_X9_schemaTyped_64 X d p0 p1 p2 p3 S Q) ∧ (¬ ((zs_i S b2 p3.toNatClampNeg) = (8 : Int32)) → ((((zs_i S b2 p3.toNatClampNeg) = (9 : Int32) → w_X9_schemaTyped_64 X d p0 p1 p2 p3 S Q) ∧ (¬ ((zs_i S b2 p3.toNatClampNeg) = (9 : Int32)) → (zs_C X d 8027 [.ref p0, .int (5 : Int32)] S (zs_kV (fun S7 => w_X9_schemaTyped_64 X d p0 p1 p2 p3 S7 Q) Q))))))))
theorem u_X9_schemaTyped_37 {σ : Nat → Nat} {n0 : Nat} {bf : ab_B} {d : Nat} {p0 : Nat} {p1 : Int32} {p2 : Int32} {p3 : Int32} {S : zs_T} {Q : zs_Q} (hB : zt_B bf) (h : w_X9_schemaTyped_37 (zx σ n0 bf) d p0 p1 p2 p3 S Q) : zs_U (zx σ n0 bf) d 8158 37 [(0, .ref p0), (1, .int p1), (2, .int p2), (3, .int p3)] [] S Q := by
  unfold w_X9_schemaTyped_37 at h
  refine zu_aload_n d_8158_37 rfl (zs_ra _) ?_
  obtain ⟨k1, h⟩ := h
  refine zg_8_90 rfl d_8158_38 k1 ?_
  refine zu_iload_n d_8158_41 rfl ?_
  obtain ⟨b2, e3, h⟩ := h
  refine zs_stk1 (zs_rfe e3) ?_
  obtain ⟨k4, h⟩ := h
  refine zu_bald (k := 1) d_8158_42 rfl (Or.inl rfl) k4 ?_
  refine zu_bipush d_8158_43 zj_8 ?_
  refine zu_cmpeq (t := 64) d_8158_45 rfl (fun c5 => ?_) (fun c5 => ?_)
  · have h := h.1 c5
    exact (u_X9_schemaTyped_64 hB h).weak ⟨rfl, rfl, rfl, rfl, trivial⟩
  · have h := h.2 c5
    refine zu_aload_n d_8158_48 rfl (zs_ra _) ?_
    refine zg_8_90 rfl d_8158_49 k1 ?_
    refine zu_iload_n d_8158_52 rfl ?_
    refine zs_stk1 (zs_rfe e3) ?_
    refine zu_bald (k := 1) d_8158_53 rfl (Or.inl rfl) k4 ?_
    refine zu_bipush d_8158_54 zj_9 ?_
    refine zu_cmpeq (t := 64) d_8158_56 rfl (fun c6 => ?_) (fun c6 => ?_)
    · have h := h.1 c6
      exact (u_X9_schemaTyped_64 hB h).weak ⟨rfl, rfl, rfl, rfl, trivial⟩
    · have h := h.2 c6
      refine zu_aload_n d_8158_59 rfl (zs_ra _) ?_
      refine zu_iconst d_8158_60 zi_5 ?_
      refine zc_8_541 (x0 := (5 : Int32)) hB rfl k1 d_8158_61 (Nat.le_of_ble_eq_true rfl) h (fun S7 h => ?_)
      exact (u_X9_schemaTyped_64 hB h).weak ⟨rfl, rfl, rfl, rfl, trivial⟩
def w_X9_schemaTyped (X : zs_X) (d : Nat) (p0 : Nat) (p1 : Int32) (p2 : Int32) (S : zs_T) (Q : zs_Q) : Prop :=
  (zs_K S p0 = some (.inl 8) ∧ (((zs_I S 8010 p0) ≤ 0 → (zs_C X d 8093 [.ref p0] S (zs_kV (fun S3 => (zs_K S3 p0 = some (.inl 8) ∧ ab_n0 X.1 ≤ p0 ∧ ∀ S7, S7 = zs_sI S3 8114 p0 (0 : Int32) → ∀ S10, S10 = zs_sI S7 8129 p0 ((zs_I S7 8129 p0) - (1 : Int32)) → ∃ b13, (zs_R S10 8128 p0) = some b13 ∧ zs_A S3 b13 0 (zs_I S10 8129 p0) ∧ w_X9_schemaTyped_37 X d p0 p1 p2 (zs_i S10 b13 (zs_I S10 8129 p0).toNatClampNeg) S10 Q)) Q))) ∧ (¬ ((zs_I S 8010 p0) ≤ 0) → (Q (.returned none) S))))
theorem u_X9_schemaTyped {σ : Nat → Nat} {n0 : Nat} {bf : ab_B} {d : Nat} {p0 : Nat} {p1 : Int32} {p2 : Int32} {S : zs_T} {Q : zs_Q} (hB : zt_B bf) (hd : 1 ≤ d) (h : w_X9_schemaTyped (zx σ n0 bf) (d - 1) p0 p1 p2 S Q) : zs_C (zx σ n0 bf) d 8158 [.ref p0, .int p1, .int p2] S Q := by
  have hL : lv_args 0 [.ref p0, .int p1, .int p2] = [(0, .ref p0), (1, .int p1), (2, .int p2)] := rfl
  refine zs_C.of1 (hB.2 8158 (by decide) (by decide)) hd (by rw [hL]; exact zs_sub_self _ (by exact ⟨rfl, rfl, rfl, trivial⟩)) ?_
  rw [hL]
  clear hL
  unfold w_X9_schemaTyped at h
  refine zu_aload_n d_8158_0 rfl (zs_ra _) ?_
  obtain ⟨k1, h⟩ := h
  refine zg_8_444 rfl d_8158_1 k1 ?_
  refine zu_ifle (t := 8) d_8158_4 rfl (fun c2 => ?_) (fun c2 => ?_)
  · have h := h.1 c2
    refine zu_aload_n d_8158_8 rfl (zs_ra _) ?_
    refine zc_8_855  hB rfl k1 d_8158_9 (Nat.le_of_ble_eq_true rfl) h (fun S3 h => ?_)
    refine zu_aload_n d_8158_12 rfl (zs_ra _) ?_
    refine zu_iconst d_8158_13 zi_0 ?_
    obtain ⟨k5, h⟩ := h
    obtain ⟨k6, h⟩ := h
    refine zp_8_852 (v := (0 : Int32)) rfl d_8158_14 k5 k6 ?_
    generalize e8 : zs_sI S3 8114 p0 (0 : Int32) = S7
    have h := h S7 e8.symm
    have K9 : ∀ b, zs_K S7 b = zs_K S3 b := zs_Kt e8 (zs_KsI _ _ _ _) (fun _ => rfl)
    refine zu_aload_n d_8158_17 rfl (zs_ra _) ?_
    refine zu_dup d_8158_18 rfl ?_
    refine zg_8_831 rfl d_8158_19 ((K9 _).trans k5) ?_
    refine zu_iconst d_8158_22 zi_1 ?_
    refine zu_stk d_8158_23 rfl rfl ?_
    refine zp_8_831 (v := ((zs_I S7 8129 p0) - (1 : Int32))) rfl d_8158_24 ((K9 _).trans k5) k6 ?_
    generalize e11 : zs_sI S7 8129 p0 ((zs_I S7 8129 p0) - (1 : Int32)) = S10
    have h := h S10 e11.symm
    have K12 : ∀ b, zs_K S10 b = zs_K S3 b := zs_Kt e11 (zs_KsI _ _ _ _) K9
    refine zu_aload_n d_8158_27 rfl (zs_ra _) ?_
    refine zg_8_278 rfl d_8158_28 ((K12 _).trans k5) ?_
    refine zu_aload_n d_8158_31 rfl (zs_ra _) ?_
    refine zg_8_831 rfl d_8158_32 ((K12 _).trans k5) ?_
    obtain ⟨b13, e14, h⟩ := h
    refine zs_stk1 (zs_rfe e14) ?_
    obtain ⟨k15, h⟩ := h
    refine zu_iald (k := 0) d_8158_35 rfl rfl (zs_Ak K12 k15) ?_
    refine zu_istore_n d_8158_36 (zs_lt zq_8158 rfl) ?_
    exact (u_X9_schemaTyped_37 hB h).weak ⟨rfl, rfl, rfl, rfl, trivial⟩
  · have h := h.2 c2
    exact zu_vret d_8158_7 zr_8158 h
/-! SchemaPascalModel.vars(ZI)V -/
theorem zm_8159 {σ : Nat → Nat} {n0 : Nat} {bf : ab_B} : ab_code (zx σ n0 bf).1 8159 = prog_17_method_150_code := rfl
theorem zq_8159 {σ : Nat → Nat} {n0 : Nat} {bf : ab_B} : ab_maxL (zx σ n0 bf).1 8159 = 4 := rfl
theorem zr_8159 {σ : Nat → Nat} {n0 : Nat} {bf : ab_B} : ab_ret (zx σ n0 bf).1 8159 = (Option.none : Option Jvm.ClassFile.FieldType) := rfl
theorem d_8159_0 {σ : Nat → Nat} {n0 : Nat} {bf : ab_B} : decode (ab_code (zx σ n0 bf).1 8159) 0 = .ok (.aload_n 0, 1) := zd zm_8159 (by decide +kernel)
theorem d_8159_1 {σ : Nat → Nat} {n0 : Nat} {bf : ab_B} : decode (ab_code (zx σ n0 bf).1 8159) 1 = .ok (.getfield 484, 3) := zd zm_8159 (by decide +kernel)
theorem d_8159_4 {σ : Nat → Nat} {n0 : Nat} {bf : ab_B} : decode (ab_code (zx σ n0 bf).1 8159) 4 = .ok (.iconst 1, 1) := zd zm_8159 (by decide +kernel)
theorem d_8159_5 {σ : Nat → Nat} {n0 : Nat} {bf : ab_B} : decode (ab_code (zx σ n0 bf).1 8159) 5 = .ok (.if_icmp .eq 8, 3) := zd zm_8159 (by decide +kernel)
theorem d_8159_8 {σ : Nat → Nat} {n0 : Nat} {bf : ab_B} : decode (ab_code (zx σ n0 bf).1 8159) 8 = .ok (.iload_n 1, 1) := zd zm_8159 (by decide +kernel)
theorem d_8159_9 {σ : Nat → Nat} {n0 : Nat} {bf : ab_B} : decode (ab_code (zx σ n0 bf).1 8159) 9 = .ok (.ifCond .ne 4, 3) := zd zm_8159 (by decide +kernel)
theorem d_8159_12 {σ : Nat → Nat} {n0 : Nat} {bf : ab_B} : decode (ab_code (zx σ n0 bf).1 8159) 12 = .ok (.return_, 1) := zd zm_8159 (by decide +kernel)
theorem d_8159_13 {σ : Nat → Nat} {n0 : Nat} {bf : ab_B} : decode (ab_code (zx σ n0 bf).1 8159) 13 = .ok (.aload_n 0, 1) := zd zm_8159 (by decide +kernel)
theorem d_8159_14 {σ : Nat → Nat} {n0 : Nat} {bf : ab_B} : decode (ab_code (zx σ n0 bf).1 8159) 14 = .ok (.invokevirtual 937, 3) := zd zm_8159 (by decide +kernel)
theorem d_8159_17 {σ : Nat → Nat} {n0 : Nat} {bf : ab_B} : decode (ab_code (zx σ n0 bf).1 8159) 17 = .ok (.istore_n 3, 1) := zd zm_8159 (by decide +kernel)
theorem d_8159_18 {σ : Nat → Nat} {n0 : Nat} {bf : ab_B} : decode (ab_code (zx σ n0 bf).1 8159) 18 = .ok (.aload_n 0, 1) := zd zm_8159 (by decide +kernel)
theorem d_8159_19 {σ : Nat → Nat} {n0 : Nat} {bf : ab_B} : decode (ab_code (zx σ n0 bf).1 8159) 19 = .ok (.bipush 14, 2) := zd zm_8159 (by decide +kernel)
theorem d_8159_21 {σ : Nat → Nat} {n0 : Nat} {bf : ab_B} : decode (ab_code (zx σ n0 bf).1 8159) 21 = .ok (.invokevirtual 746, 3) := zd zm_8159 (by decide +kernel)
theorem d_8159_24 {σ : Nat → Nat} {n0 : Nat} {bf : ab_B} : decode (ab_code (zx σ n0 bf).1 8159) 24 = .ok (.aload_n 0, 1) := zd zm_8159 (by decide +kernel)
theorem d_8159_25 {σ : Nat → Nat} {n0 : Nat} {bf : ab_B} : decode (ab_code (zx σ n0 bf).1 8159) 25 = .ok (.bipush 67, 2) := zd zm_8159 (by decide +kernel)
theorem d_8159_27 {σ : Nat → Nat} {n0 : Nat} {bf : ab_B} : decode (ab_code (zx σ n0 bf).1 8159) 27 = .ok (.iload_n 2, 1) := zd zm_8159 (by decide +kernel)
theorem d_8159_28 {σ : Nat → Nat} {n0 : Nat} {bf : ab_B} : decode (ab_code (zx σ n0 bf).1 8159) 28 = .ok (.iload_n 3, 1) := zd zm_8159 (by decide +kernel)
theorem d_8159_29 {σ : Nat → Nat} {n0 : Nat} {bf : ab_B} : decode (ab_code (zx σ n0 bf).1 8159) 29 = .ok (.aload_n 0, 1) := zd zm_8159 (by decide +kernel)
theorem d_8159_30 {σ : Nat → Nat} {n0 : Nat} {bf : ab_B} : decode (ab_code (zx σ n0 bf).1 8159) 30 = .ok (.getfield 556, 3) := zd zm_8159 (by decide +kernel)
theorem d_8159_33 {σ : Nat → Nat} {n0 : Nat} {bf : ab_B} : decode (ab_code (zx σ n0 bf).1 8159) 33 = .ok (.invokevirtual 649, 3) := zd zm_8159 (by decide +kernel)
theorem d_8159_36 {σ : Nat → Nat} {n0 : Nat} {bf : ab_B} : decode (ab_code (zx σ n0 bf).1 8159) 36 = .ok (.aload_n 0, 1) := zd zm_8159 (by decide +kernel)
theorem d_8159_37 {σ : Nat → Nat} {n0 : Nat} {bf : ab_B} : decode (ab_code (zx σ n0 bf).1 8159) 37 = .ok (.bipush 30, 2) := zd zm_8159 (by decide +kernel)
theorem d_8159_39 {σ : Nat → Nat} {n0 : Nat} {bf : ab_B} : decode (ab_code (zx σ n0 bf).1 8159) 39 = .ok (.iconst 1, 1) := zd zm_8159 (by decide +kernel)
theorem d_8159_40 {σ : Nat → Nat} {n0 : Nat} {bf : ab_B} : decode (ab_code (zx σ n0 bf).1 8159) 40 = .ok (.iconst 0, 1) := zd zm_8159 (by decide +kernel)
theorem d_8159_41 {σ : Nat → Nat} {n0 : Nat} {bf : ab_B} : decode (ab_code (zx σ n0 bf).1 8159) 41 = .ok (.iconst 0, 1) := zd zm_8159 (by decide +kernel)
theorem d_8159_42 {σ : Nat → Nat} {n0 : Nat} {bf : ab_B} : decode (ab_code (zx σ n0 bf).1 8159) 42 = .ok (.invokevirtual 649, 3) := zd zm_8159 (by decide +kernel)
theorem d_8159_45 {σ : Nat → Nat} {n0 : Nat} {bf : ab_B} : decode (ab_code (zx σ n0 bf).1 8159) 45 = .ok (.return_, 1) := zd zm_8159 (by decide +kernel)
def w_X9_vars_45 (X : zs_X) (d : Nat)  (S : zs_T) (Q : zs_Q) : Prop :=
  (Q (.returned none) S)
theorem u_X9_vars_45 {σ : Nat → Nat} {n0 : Nat} {bf : ab_B} {d : Nat}  {S : zs_T} {Q : zs_Q} (hB : zt_B bf) (h : w_X9_vars_45 (zx σ n0 bf) d  S Q) : zs_U (zx σ n0 bf) d 8159 45 [] [] S Q := by
  unfold w_X9_vars_45 at h
  exact zu_vret d_8159_45 zr_8159 h
def w_X9_vars_13 (X : zs_X) (d : Nat) (p0 : Nat) (p2 : Int32) (S : zs_T) (Q : zs_Q) : Prop :=
  (zs_K S p0 = some (.inl 8) ∧ zs_C X d 8160 [.ref p0] S (zs_kI (fun v3 S2 => (zs_K S2 p0 = some (.inl 8) ∧ zs_C X d 8028 [.ref p0, .int (14 : Int32)] S2 (zs_kV (fun S5 => (zs_K S5 p0 = some (.inl 8) ∧ zs_C X d 8030 [.ref p0, .int (67 : Int32), .int p2, .int v3, .int (zs_I S5 8040 p0)] S5 (zs_kV (fun S8 => (zs_K S8 p0 = some (.inl 8) ∧ zs_C X d 8030 [.ref p0, .int (30 : Int32), .int (1 : Int32), .int (0 : Int32), .int (0 : Int32)] S8 (zs_kV (fun S11 => w_X9_vars_45 X d  S11 Q) Q))) Q))) Q))) Q))
theorem u_X9_vars_13 {σ : Nat → Nat} {n0 : Nat} {bf : ab_B} {d : Nat} {p0 : Nat} {p2 : Int32} {S : zs_T} {Q : zs_Q} (hB : zt_B bf) (h : w_X9_vars_13 (zx σ n0 bf) d p0 p2 S Q) : zs_U (zx σ n0 bf) d 8159 13 [(0, .ref p0), (2, .int p2)] [] S Q := by
  unfold w_X9_vars_13 at h
  refine zu_aload_n d_8159_13 rfl (zs_ra _) ?_
  obtain ⟨k1, h⟩ := h
  refine zc_8_937  hB rfl k1 d_8159_14 (Nat.le_of_ble_eq_true rfl) h (fun v3 S2 h => ?_)
  refine zu_istore_n d_8159_17 (zs_lt zq_8159 rfl) ?_
  refine zu_aload_n d_8159_18 rfl (zs_ra _) ?_
  refine zu_bipush d_8159_19 zj_14 ?_
  obtain ⟨k4, h⟩ := h
  refine zc_8_746 (x0 := (14 : Int32)) hB rfl k4 d_8159_21 (Nat.le_of_ble_eq_true rfl) h (fun S5 h => ?_)
  refine zu_aload_n d_8159_24 rfl (zs_ra _) ?_
  refine zu_bipush d_8159_25 zj_67 ?_
  refine zu_iload_n d_8159_27 rfl ?_
  refine zu_iload_n d_8159_28 rfl ?_
  refine zu_aload_n d_8159_29 rfl (zs_ra _) ?_
  obtain ⟨k7, h⟩ := h
  refine zg_8_556 rfl d_8159_30 k7 ?_
  refine zc_8_649 (x0 := (67 : Int32)) (x1 := p2) (x2 := v3) (x3 := (zs_I S5 8040 p0)) hB rfl k7 d_8159_33 (Nat.le_of_ble_eq_true rfl) h (fun S8 h => ?_)
  refine zu_aload_n d_8159_36 rfl (zs_ra _) ?_
  refine zu_bipush d_8159_37 zj_30 ?_
  refine zu_iconst d_8159_39 zi_1 ?_
  refine zu_iconst d_8159_40 zi_0 ?_
  refine zu_iconst d_8159_41 zi_0 ?_
  obtain ⟨k10, h⟩ := h
  refine zc_8_649 (x0 := (30 : Int32)) (x1 := (1 : Int32)) (x2 := (0 : Int32)) (x3 := (0 : Int32)) hB rfl k10 d_8159_42 (Nat.le_of_ble_eq_true rfl) h (fun S11 h => ?_)
  exact (u_X9_vars_45 hB h).weak trivial
def w_X9_vars (X : zs_X) (d : Nat) (p0 : Nat) (p1 : Int32) (p2 : Int32) (S : zs_T) (Q : zs_Q) : Prop :=
  (zs_K S p0 = some (.inl 8) ∧ (((zs_I S 8006 p0) = (1 : Int32) → w_X9_vars_13 X d p0 p2 S Q) ∧ (¬ ((zs_I S 8006 p0) = (1 : Int32)) → (((¬ p1 = 0 → w_X9_vars_13 X d p0 p2 S Q) ∧ (¬ (¬ p1 = 0) → (Q (.returned none) S)))))))
theorem u_X9_vars {σ : Nat → Nat} {n0 : Nat} {bf : ab_B} {d : Nat} {p0 : Nat} {p1 : Int32} {p2 : Int32} {S : zs_T} {Q : zs_Q} (hB : zt_B bf) (hd : 1 ≤ d) (h : w_X9_vars (zx σ n0 bf) (d - 1) p0 p1 p2 S Q) : zs_C (zx σ n0 bf) d 8159 [.ref p0, .int p1, .int p2] S Q := by
  have hL : lv_args 0 [.ref p0, .int p1, .int p2] = [(0, .ref p0), (1, .int p1), (2, .int p2)] := rfl
  refine zs_C.of1 (hB.2 8159 (by decide) (by decide)) hd (by rw [hL]; exact zs_sub_self _ (by exact ⟨rfl, rfl, rfl, trivial⟩)) ?_
  rw [hL]
  clear hL
  unfold w_X9_vars at h
  refine zu_aload_n d_8159_0 rfl (zs_ra _) ?_
  obtain ⟨k1, h⟩ := h
  refine zg_8_484 rfl d_8159_1 k1 ?_
  refine zu_iconst d_8159_4 zi_1 ?_
  refine zu_cmpeq (t := 13) d_8159_5 rfl (fun c2 => ?_) (fun c2 => ?_)
  · have h := h.1 c2
    exact (u_X9_vars_13 hB h).weak ⟨rfl, rfl, trivial⟩
  · have h := h.2 c2
    refine zu_iload_n d_8159_8 rfl ?_
    refine zu_ifne (t := 13) d_8159_9 rfl (fun c3 => ?_) (fun c3 => ?_)
    · have h := h.1 c3
      exact (u_X9_vars_13 hB h).weak ⟨rfl, rfl, trivial⟩
    · have h := h.2 c3
      exact zu_vret d_8159_12 zr_8159 h
/-! SchemaPascalModel.pendingNames()I -/
theorem zm_8160 {σ : Nat → Nat} {n0 : Nat} {bf : ab_B} : ab_code (zx σ n0 bf).1 8160 = prog_17_method_149_code := rfl
theorem zq_8160 {σ : Nat → Nat} {n0 : Nat} {bf : ab_B} : ab_maxL (zx σ n0 bf).1 8160 = 4 := rfl
theorem zr_8160 {σ : Nat → Nat} {n0 : Nat} {bf : ab_B} : ab_ret (zx σ n0 bf).1 8160 = (Option.some Jvm.ClassFile.FieldType.int) := rfl
theorem d_8160_0 {σ : Nat → Nat} {n0 : Nat} {bf : ab_B} : decode (ab_code (zx σ n0 bf).1 8160) 0 = .ok (.iconst 0, 1) := zd zm_8160 (by decide +kernel)
theorem d_8160_1 {σ : Nat → Nat} {n0 : Nat} {bf : ab_B} : decode (ab_code (zx σ n0 bf).1 8160) 1 = .ok (.istore_n 1, 1) := zd zm_8160 (by decide +kernel)
theorem d_8160_2 {σ : Nat → Nat} {n0 : Nat} {bf : ab_B} : decode (ab_code (zx σ n0 bf).1 8160) 2 = .ok (.iconst 1, 1) := zd zm_8160 (by decide +kernel)
theorem d_8160_3 {σ : Nat → Nat} {n0 : Nat} {bf : ab_B} : decode (ab_code (zx σ n0 bf).1 8160) 3 = .ok (.istore_n 2, 1) := zd zm_8160 (by decide +kernel)
theorem d_8160_4 {σ : Nat → Nat} {n0 : Nat} {bf : ab_B} : decode (ab_code (zx σ n0 bf).1 8160) 4 = .ok (.iload_n 2, 1) := zd zm_8160 (by decide +kernel)
theorem d_8160_5 {σ : Nat → Nat} {n0 : Nat} {bf : ab_B} : decode (ab_code (zx σ n0 bf).1 8160) 5 = .ok (.ifCond .eq 76, 3) := zd zm_8160 (by decide +kernel)
theorem d_8160_8 {σ : Nat → Nat} {n0 : Nat} {bf : ab_B} : decode (ab_code (zx σ n0 bf).1 8160) 8 = .ok (.aload_n 0, 1) := zd zm_8160 (by decide +kernel)
theorem d_8160_9 {σ : Nat → Nat} {n0 : Nat} {bf : ab_B} : decode (ab_code (zx σ n0 bf).1 8160) 9 = .ok (.invokevirtual 925, 3) := zd zm_8160 (by decide +kernel)
theorem d_8160_12 {σ : Nat → Nat} {n0 : Nat} {bf : ab_B} : decode (ab_code (zx σ n0 bf).1 8160) 12 = .ok (.ifCond .eq 69, 3) := zd zm_8160 (by decide +kernel)
theorem d_8160_15 {σ : Nat → Nat} {n0 : Nat} {bf : ab_B} : decode (ab_code (zx σ n0 bf).1 8160) 15 = .ok (.iconst 0, 1) := zd zm_8160 (by decide +kernel)
theorem d_8160_16 {σ : Nat → Nat} {n0 : Nat} {bf : ab_B} : decode (ab_code (zx σ n0 bf).1 8160) 16 = .ok (.istore_n 3, 1) := zd zm_8160 (by decide +kernel)
theorem d_8160_17 {σ : Nat → Nat} {n0 : Nat} {bf : ab_B} : decode (ab_code (zx σ n0 bf).1 8160) 17 = .ok (.iload_n 3, 1) := zd zm_8160 (by decide +kernel)
theorem d_8160_18 {σ : Nat → Nat} {n0 : Nat} {bf : ab_B} : decode (ab_code (zx σ n0 bf).1 8160) 18 = .ok (.iload_n 1, 1) := zd zm_8160 (by decide +kernel)
theorem d_8160_19 {σ : Nat → Nat} {n0 : Nat} {bf : ab_B} : decode (ab_code (zx σ n0 bf).1 8160) 19 = .ok (.if_icmp .ge 27, 3) := zd zm_8160 (by decide +kernel)
theorem d_8160_22 {σ : Nat → Nat} {n0 : Nat} {bf : ab_B} : decode (ab_code (zx σ n0 bf).1 8160) 22 = .ok (.aload_n 0, 1) := zd zm_8160 (by decide +kernel)
theorem d_8160_23 {σ : Nat → Nat} {n0 : Nat} {bf : ab_B} : decode (ab_code (zx σ n0 bf).1 8160) 23 = .ok (.getfield 305, 3) := zd zm_8160 (by decide +kernel)
theorem d_8160_26 {σ : Nat → Nat} {n0 : Nat} {bf : ab_B} : decode (ab_code (zx σ n0 bf).1 8160) 26 = .ok (.iload_n 3, 1) := zd zm_8160 (by decide +kernel)
theorem d_8160_27 {σ : Nat → Nat} {n0 : Nat} {bf : ab_B} : decode (ab_code (zx σ n0 bf).1 8160) 27 = .ok (.iaload, 1) := zd zm_8160 (by decide +kernel)
theorem d_8160_28 {σ : Nat → Nat} {n0 : Nat} {bf : ab_B} : decode (ab_code (zx σ n0 bf).1 8160) 28 = .ok (.aload_n 0, 1) := zd zm_8160 (by decide +kernel)
theorem d_8160_29 {σ : Nat → Nat} {n0 : Nat} {bf : ab_B} : decode (ab_code (zx σ n0 bf).1 8160) 29 = .ok (.getfield 494, 3) := zd zm_8160 (by decide +kernel)
theorem d_8160_32 {σ : Nat → Nat} {n0 : Nat} {bf : ab_B} : decode (ab_code (zx σ n0 bf).1 8160) 32 = .ok (.if_icmp .ne 8, 3) := zd zm_8160 (by decide +kernel)
theorem d_8160_35 {σ : Nat → Nat} {n0 : Nat} {bf : ab_B} : decode (ab_code (zx σ n0 bf).1 8160) 35 = .ok (.aload_n 0, 1) := zd zm_8160 (by decide +kernel)
theorem d_8160_36 {σ : Nat → Nat} {n0 : Nat} {bf : ab_B} : decode (ab_code (zx σ n0 bf).1 8160) 36 = .ok (.iconst 4, 1) := zd zm_8160 (by decide +kernel)
theorem d_8160_37 {σ : Nat → Nat} {n0 : Nat} {bf : ab_B} : decode (ab_code (zx σ n0 bf).1 8160) 37 = .ok (.invokevirtual 541, 3) := zd zm_8160 (by decide +kernel)
theorem d_8160_40 {σ : Nat → Nat} {n0 : Nat} {bf : ab_B} : decode (ab_code (zx σ n0 bf).1 8160) 40 = .ok (.iinc 3 1, 3) := zd zm_8160 (by decide +kernel)
theorem d_8160_43 {σ : Nat → Nat} {n0 : Nat} {bf : ab_B} : decode (ab_code (zx σ n0 bf).1 8160) 43 = .ok (.goto (-26), 3) := zd zm_8160 (by decide +kernel)
theorem d_8160_46 {σ : Nat → Nat} {n0 : Nat} {bf : ab_B} : decode (ab_code (zx σ n0 bf).1 8160) 46 = .ok (.aload_n 0, 1) := zd zm_8160 (by decide +kernel)
theorem d_8160_47 {σ : Nat → Nat} {n0 : Nat} {bf : ab_B} : decode (ab_code (zx σ n0 bf).1 8160) 47 = .ok (.getfield 305, 3) := zd zm_8160 (by decide +kernel)
theorem d_8160_50 {σ : Nat → Nat} {n0 : Nat} {bf : ab_B} : decode (ab_code (zx σ n0 bf).1 8160) 50 = .ok (.iload_n 1, 1) := zd zm_8160 (by decide +kernel)
theorem d_8160_51 {σ : Nat → Nat} {n0 : Nat} {bf : ab_B} : decode (ab_code (zx σ n0 bf).1 8160) 51 = .ok (.aload_n 0, 1) := zd zm_8160 (by decide +kernel)
theorem d_8160_52 {σ : Nat → Nat} {n0 : Nat} {bf : ab_B} : decode (ab_code (zx σ n0 bf).1 8160) 52 = .ok (.getfield 494, 3) := zd zm_8160 (by decide +kernel)
theorem d_8160_55 {σ : Nat → Nat} {n0 : Nat} {bf : ab_B} : decode (ab_code (zx σ n0 bf).1 8160) 55 = .ok (.iastore, 1) := zd zm_8160 (by decide +kernel)
theorem d_8160_56 {σ : Nat → Nat} {n0 : Nat} {bf : ab_B} : decode (ab_code (zx σ n0 bf).1 8160) 56 = .ok (.iinc 1 1, 3) := zd zm_8160 (by decide +kernel)
theorem d_8160_59 {σ : Nat → Nat} {n0 : Nat} {bf : ab_B} : decode (ab_code (zx σ n0 bf).1 8160) 59 = .ok (.aload_n 0, 1) := zd zm_8160 (by decide +kernel)
theorem d_8160_60 {σ : Nat → Nat} {n0 : Nat} {bf : ab_B} : decode (ab_code (zx σ n0 bf).1 8160) 60 = .ok (.invokevirtual 538, 3) := zd zm_8160 (by decide +kernel)
theorem d_8160_63 {σ : Nat → Nat} {n0 : Nat} {bf : ab_B} : decode (ab_code (zx σ n0 bf).1 8160) 63 = .ok (.aload_n 0, 1) := zd zm_8160 (by decide +kernel)
theorem d_8160_64 {σ : Nat → Nat} {n0 : Nat} {bf : ab_B} : decode (ab_code (zx σ n0 bf).1 8160) 64 = .ok (.bipush 12, 2) := zd zm_8160 (by decide +kernel)
theorem d_8160_66 {σ : Nat → Nat} {n0 : Nat} {bf : ab_B} : decode (ab_code (zx σ n0 bf).1 8160) 66 = .ok (.invokevirtual 535, 3) := zd zm_8160 (by decide +kernel)
theorem d_8160_69 {σ : Nat → Nat} {n0 : Nat} {bf : ab_B} : decode (ab_code (zx σ n0 bf).1 8160) 69 = .ok (.istore_n 2, 1) := zd zm_8160 (by decide +kernel)
theorem d_8160_70 {σ : Nat → Nat} {n0 : Nat} {bf : ab_B} : decode (ab_code (zx σ n0 bf).1 8160) 70 = .ok (.iload_n 2, 1) := zd zm_8160 (by decide +kernel)
theorem d_8160_71 {σ : Nat → Nat} {n0 : Nat} {bf : ab_B} : decode (ab_code (zx σ n0 bf).1 8160) 71 = .ok (.ifCond .eq (-67), 3) := zd zm_8160 (by decide +kernel)
theorem d_8160_74 {σ : Nat → Nat} {n0 : Nat} {bf : ab_B} : decode (ab_code (zx σ n0 bf).1 8160) 74 = .ok (.aload_n 0, 1) := zd zm_8160 (by decide +kernel)
theorem d_8160_75 {σ : Nat → Nat} {n0 : Nat} {bf : ab_B} : decode (ab_code (zx σ n0 bf).1 8160) 75 = .ok (.invokevirtual 538, 3) := zd zm_8160 (by decide +kernel)
theorem d_8160_78 {σ : Nat → Nat} {n0 : Nat} {bf : ab_B} : decode (ab_code (zx σ n0 bf).1 8160) 78 = .ok (.goto (-74), 3) := zd zm_8160 (by decide +kernel)
theorem d_8160_81 {σ : Nat → Nat} {n0 : Nat} {bf : ab_B} : decode (ab_code (zx σ n0 bf).1 8160) 81 = .ok (.iload_n 1, 1) := zd zm_8160 (by decide +kernel)
theorem d_8160_82 {σ : Nat → Nat} {n0 : Nat} {bf : ab_B} : decode (ab_code (zx σ n0 bf).1 8160) 82 = .ok (.ireturn, 1) := zd zm_8160 (by decide +kernel)
def w_X9_pendingNames_4 (X : zs_X) (d : Nat) (p0 : Nat) (p1 : Int32) (p2 : Int32) (S : zs_T) (Q : zs_Q) : Prop :=
  (((p2 = 0 → (Q (.returned (some (.int p1))) S)) ∧ (¬ (p2 = 0) → (zs_K S p0 = some (.inl 8) ∧ zs_C X d 8151 [.ref p0] S (zs_kI (fun v4 S3 => (((v4 = 0 → (Q (.returned (some (.int p1))) S3)) ∧ (¬ (v4 = 0) → (zs_U X d 8160 17 [(0, .ref p0), (1, .int p1), (3, .int (0 : Int32))] [] S3 Q))))) Q)))))
theorem u_X9_pendingNames_4 {σ : Nat → Nat} {n0 : Nat} {bf : ab_B} {d : Nat} {p0 : Nat} {p1 : Int32} {p2 : Int32} {S : zs_T} {Q : zs_Q} (hB : zt_B bf) (h : w_X9_pendingNames_4 (zx σ n0 bf) d p0 p1 p2 S Q) : zs_U (zx σ n0 bf) d 8160 4 [(0, .ref p0), (1, .int p1), (2, .int p2)] [] S Q := by
  unfold w_X9_pendingNames_4 at h
  refine zu_iload_n d_8160_4 rfl ?_
  refine zu_ifeq (t := 81) d_8160_5 rfl (fun c1 => ?_) (fun c1 => ?_)
  · have h := h.1 c1
    refine zu_iload_n d_8160_81 rfl ?_
    exact zu_iret d_8160_82 zr_8160 rfl h
  · have h := h.2 c1
    refine zu_aload_n d_8160_8 rfl (zs_ra _) ?_
    obtain ⟨k2, h⟩ := h
    refine zc_8_925  hB rfl k2 d_8160_9 (Nat.le_of_ble_eq_true rfl) h (fun v4 S3 h => ?_)
    refine zu_ifeq (t := 81) d_8160_12 rfl (fun c5 => ?_) (fun c5 => ?_)
    · have h := h.1 c5
      refine zu_iload_n d_8160_81 rfl ?_
      exact zu_iret d_8160_82 zr_8160 rfl h
    · have h := h.2 c5
      refine zu_iconst d_8160_15 zi_0 ?_
      refine zu_istore_n d_8160_16 (zs_lt zq_8160 rfl) ?_
      exact h.weak ⟨rfl, rfl, rfl, trivial⟩
def w_X9_pendingNames_70 (X : zs_X) (d : Nat) (p0 : Nat) (p1 : Int32) (p2 : Int32) (S : zs_T) (Q : zs_Q) : Prop :=
  (((p2 = 0 → zs_U X d 8160 4 [(0, .ref p0), (1, .int p1), (2, .int p2)] [] S Q) ∧ (¬ (p2 = 0) → (zs_K S p0 = some (.inl 8) ∧ zs_C X d 8014 [.ref p0] S (zs_kV (fun S3 => (zs_U X d 8160 4 [(0, .ref p0), (1, .int p1), (2, .int p2)] [] S3 Q)) Q)))))
theorem u_X9_pendingNames_70 {σ : Nat → Nat} {n0 : Nat} {bf : ab_B} {d : Nat} {p0 : Nat} {p1 : Int32} {p2 : Int32} {S : zs_T} {Q : zs_Q} (hB : zt_B bf) (h : w_X9_pendingNames_70 (zx σ n0 bf) d p0 p1 p2 S Q) : zs_U (zx σ n0 bf) d 8160 70 [(0, .ref p0), (1, .int p1), (2, .int p2)] [] S Q := by
  unfold w_X9_pendingNames_70 at h
  refine zu_iload_n d_8160_70 rfl ?_
  refine zu_ifeq (t := 4) d_8160_71 rfl (fun c1 => ?_) (fun c1 => ?_)
  · have h := h.1 c1
    exact h.weak ⟨rfl, rfl, rfl, trivial⟩
  · have h := h.2 c1
    refine zu_aload_n d_8160_74 rfl (zs_ra _) ?_
    obtain ⟨k2, h⟩ := h
    refine zc_8_538  hB rfl k2 d_8160_75 (Nat.le_of_ble_eq_true rfl) h (fun S3 h => ?_)
    refine zu_goto (t := 4) d_8160_78 rfl ?_
    exact h.weak ⟨rfl, rfl, rfl, trivial⟩
def w_X9_pendingNames_17 (X : zs_X) (d : Nat) (p0 : Nat) (p1 : Int32) (p3 : Int32) (S : zs_T) (Q : zs_Q) : Prop :=
  (((p1 ≤ p3 → (zs_K S p0 = some (.inl 8) ∧ ∃ b3, (zs_R S 8143 p0) = some b3 ∧ zs_A S b3 0 p1 ∧ ab_n0 X.1 ≤ b3 ∧ ∀ S7, S7 = zs_si S b3 p1.toNatClampNeg (zs_I S 8009 p0) → zs_C X d 8014 [.ref p0] S7 (zs_kV (fun S10 => (zs_K S10 p0 = some (.inl 8) ∧ zs_C X d 8029 [.ref p0, .int (12 : Int32)] S10 (zs_kI (fun v14 S13 => (w_X9_pendingNames_70 X d p0 (p1 + (1 : Int32)) v14 S13 Q)) Q))) Q))) ∧ (¬ (p1 ≤ p3) → (zs_K S p0 = some (.inl 8) ∧ ∃ b16, (zs_R S 8143 p0) = some b16 ∧ zs_A S b16 0 p3 ∧ ((¬ (zs_i S b16 p3.toNatClampNeg) = (zs_I S 8009 p0) → (zs_U X d 8160 17 [(0, .ref p0), (1, .int p1), (3, .int (p3 + (1 : Int32)))] [] S Q)) ∧ (¬ (¬ (zs_i S b16 p3.toNatClampNeg) = (zs_I S 8009 p0)) → (zs_C X d 8027 [.ref p0, .int (4 : Int32)] S (zs_kV (fun S20 => (zs_U X d 8160 17 [(0, .ref p0), (1, .int p1), (3, .int (p3 + (1 : Int32)))] [] S20 Q)) Q))))))))
theorem u_X9_pendingNames_17 {σ : Nat → Nat} {n0 : Nat} {bf : ab_B} {d : Nat} {p0 : Nat} {p1 : Int32} {p3 : Int32} {S : zs_T} {Q : zs_Q} (hB : zt_B bf) (h : w_X9_pendingNames_17 (zx σ n0 bf) d p0 p1 p3 S Q) : zs_U (zx σ n0 bf) d 8160 17 [(0, .ref p0), (1, .int p1), (3, .int p3)] [] S Q := by
  unfold w_X9_pendingNames_17 at h
  refine zu_iload_n d_8160_17 rfl ?_
  refine zu_iload_n d_8160_18 rfl ?_
  refine zu_cmpge (t := 46) d_8160_19 rfl (fun c1 => ?_) (fun c1 => ?_)
  · have h := h.1 c1
    refine zu_aload_n d_8160_46 rfl (zs_ra _) ?_
    obtain ⟨k2, h⟩ := h
    refine zg_8_305 rfl d_8160_47 k2 ?_
    refine zu_iload_n d_8160_50 rfl ?_
    refine zu_aload_n d_8160_51 rfl (zs_ra _) ?_
    refine zg_8_494 rfl d_8160_52 k2 ?_
    obtain ⟨b3, e4, h⟩ := h
    refine zs_stk2 (zs_rfe e4) ?_
    obtain ⟨k5, h⟩ := h
    obtain ⟨k6, h⟩ := h
    refine zu_iast (k := 0) d_8160_55 rfl rfl k6 k5 ?_
    generalize e8 : zs_si S b3 p1.toNatClampNeg (zs_I S 8009 p0) = S7
    have h := h S7 e8.symm
    have K9 : ∀ b, zs_K S7 b = zs_K S b := zs_Kt e8 (zs_Ksi _ _ _ _) (fun _ => rfl)
    refine zu_iinc d_8160_56 rfl zi_1 (zs_lt zq_8160 rfl) ?_
    refine zu_aload_n d_8160_59 rfl (zs_ra _) ?_
    refine zc_8_538  hB rfl ((K9 _).trans k2) d_8160_60 (Nat.le_of_ble_eq_true rfl) h (fun S10 h => ?_)
    refine zu_aload_n d_8160_63 rfl (zs_ra _) ?_
    refine zu_bipush d_8160_64 zj_12 ?_
    obtain ⟨k12, h⟩ := h
    refine zc_8_535 (x0 := (12 : Int32)) hB rfl k12 d_8160_66 (Nat.le_of_ble_eq_true rfl) h (fun v14 S13 h => ?_)
    refine zu_istore_n d_8160_69 (zs_lt zq_8160 rfl) ?_
    exact (u_X9_pendingNames_70 hB h).weak ⟨rfl, rfl, rfl, trivial⟩
  · have h := h.2 c1
    refine zu_aload_n d_8160_22 rfl (zs_ra _) ?_
    obtain ⟨k15, h⟩ := h
    refine zg_8_305 rfl d_8160_23 k15 ?_
    refine zu_iload_n d_8160_26 rfl ?_
    obtain ⟨b16, e17, h⟩ := h
    refine zs_stk1 (zs_rfe e17) ?_
    obtain ⟨k18, h⟩ := h
    refine zu_iald (k := 0) d_8160_27 rfl rfl k18 ?_
    refine zu_aload_n d_8160_28 rfl (zs_ra _) ?_
    refine zg_8_494 rfl d_8160_29 k15 ?_
    refine zu_cmpne (t := 40) d_8160_32 rfl (fun c19 => ?_) (fun c19 => ?_)
    · have h := h.1 c19
      refine zu_iinc d_8160_40 rfl zi_1 (zs_lt zq_8160 rfl) ?_
      refine zu_goto (t := 17) d_8160_43 rfl ?_
      exact h.weak ⟨rfl, rfl, rfl, trivial⟩
    · have h := h.2 c19
      refine zu_aload_n d_8160_35 rfl (zs_ra _) ?_
      refine zu_iconst d_8160_36 zi_4 ?_
      refine zc_8_541 (x0 := (4 : Int32)) hB rfl k15 d_8160_37 (Nat.le_of_ble_eq_true rfl) h (fun S20 h => ?_)
      refine zu_iinc d_8160_40 rfl zi_1 (zs_lt zq_8160 rfl) ?_
      refine zu_goto (t := 17) d_8160_43 rfl ?_
      exact h.weak ⟨rfl, rfl, rfl, trivial⟩
def w_X9_pendingNames (X : zs_X) (d : Nat) (p0 : Nat) (S : zs_T) (Q : zs_Q) : Prop :=
  (zs_U X d 8160 4 [(0, .ref p0), (1, .int (0 : Int32)), (2, .int (1 : Int32))] [] S Q)
theorem u_X9_pendingNames {σ : Nat → Nat} {n0 : Nat} {bf : ab_B} {d : Nat} {p0 : Nat} {S : zs_T} {Q : zs_Q} (hB : zt_B bf) (hd : 1 ≤ d) (h : w_X9_pendingNames (zx σ n0 bf) (d - 1) p0 S Q) : zs_C (zx σ n0 bf) d 8160 [.ref p0] S Q := by
  have hL : lv_args 0 [.ref p0] = [(0, .ref p0)] := rfl
  refine zs_C.of1 (hB.2 8160 (by decide) (by decide)) hd (by rw [hL]; exact zs_sub_self _ (by exact ⟨rfl, trivial⟩)) ?_
  rw [hL]
  clear hL
  unfold w_X9_pendingNames at h
  refine zu_iconst d_8160_0 zi_0 ?_
  refine zu_istore_n d_8160_1 (zs_lt zq_8160 rfl) ?_
  refine zu_iconst d_8160_2 zi_1 ?_
  refine zu_istore_n d_8160_3 (zs_lt zq_8160 rfl) ?_
  exact h.weak ⟨rfl, rfl, rfl, trivial⟩
/-! SchemaPascalModel.varTyped(III)V -/
theorem zm_8161 {σ : Nat → Nat} {n0 : Nat} {bf : ab_B} : ab_code (zx σ n0 bf).1 8161 = prog_17_method_151_code := rfl
theorem zq_8161 {σ : Nat → Nat} {n0 : Nat} {bf : ab_B} : ab_maxL (zx σ n0 bf).1 8161 = 10 := rfl
theorem zr_8161 {σ : Nat → Nat} {n0 : Nat} {bf : ab_B} : ab_ret (zx σ n0 bf).1 8161 = (Option.none : Option Jvm.ClassFile.FieldType) := rfl
theorem d_8161_0 {σ : Nat → Nat} {n0 : Nat} {bf : ab_B} : decode (ab_code (zx σ n0 bf).1 8161) 0 = .ok (.aload_n 0, 1) := zd zm_8161 (by decide +kernel)
theorem d_8161_1 {σ : Nat → Nat} {n0 : Nat} {bf : ab_B} : decode (ab_code (zx σ n0 bf).1 8161) 1 = .ok (.getfield 444, 3) := zd zm_8161 (by decide +kernel)
theorem d_8161_4 {σ : Nat → Nat} {n0 : Nat} {bf : ab_B} : decode (ab_code (zx σ n0 bf).1 8161) 4 = .ok (.ifCond .le 4, 3) := zd zm_8161 (by decide +kernel)
theorem d_8161_7 {σ : Nat → Nat} {n0 : Nat} {bf : ab_B} : decode (ab_code (zx σ n0 bf).1 8161) 7 = .ok (.return_, 1) := zd zm_8161 (by decide +kernel)
theorem d_8161_8 {σ : Nat → Nat} {n0 : Nat} {bf : ab_B} : decode (ab_code (zx σ n0 bf).1 8161) 8 = .ok (.aload_n 0, 1) := zd zm_8161 (by decide +kernel)
theorem d_8161_9 {σ : Nat → Nat} {n0 : Nat} {bf : ab_B} : decode (ab_code (zx σ n0 bf).1 8161) 9 = .ok (.dup, 1) := zd zm_8161 (by decide +kernel)
theorem d_8161_10 {σ : Nat → Nat} {n0 : Nat} {bf : ab_B} : decode (ab_code (zx σ n0 bf).1 8161) 10 = .ok (.getfield 831, 3) := zd zm_8161 (by decide +kernel)
theorem d_8161_13 {σ : Nat → Nat} {n0 : Nat} {bf : ab_B} : decode (ab_code (zx σ n0 bf).1 8161) 13 = .ok (.iconst 1, 1) := zd zm_8161 (by decide +kernel)
theorem d_8161_14 {σ : Nat → Nat} {n0 : Nat} {bf : ab_B} : decode (ab_code (zx σ n0 bf).1 8161) 14 = .ok (.isub, 1) := zd zm_8161 (by decide +kernel)
theorem d_8161_15 {σ : Nat → Nat} {n0 : Nat} {bf : ab_B} : decode (ab_code (zx σ n0 bf).1 8161) 15 = .ok (.putfield 831, 3) := zd zm_8161 (by decide +kernel)
theorem d_8161_18 {σ : Nat → Nat} {n0 : Nat} {bf : ab_B} : decode (ab_code (zx σ n0 bf).1 8161) 18 = .ok (.aload_n 0, 1) := zd zm_8161 (by decide +kernel)
theorem d_8161_19 {σ : Nat → Nat} {n0 : Nat} {bf : ab_B} : decode (ab_code (zx σ n0 bf).1 8161) 19 = .ok (.getfield 278, 3) := zd zm_8161 (by decide +kernel)
theorem d_8161_22 {σ : Nat → Nat} {n0 : Nat} {bf : ab_B} : decode (ab_code (zx σ n0 bf).1 8161) 22 = .ok (.aload_n 0, 1) := zd zm_8161 (by decide +kernel)
theorem d_8161_23 {σ : Nat → Nat} {n0 : Nat} {bf : ab_B} : decode (ab_code (zx σ n0 bf).1 8161) 23 = .ok (.getfield 831, 3) := zd zm_8161 (by decide +kernel)
theorem d_8161_26 {σ : Nat → Nat} {n0 : Nat} {bf : ab_B} : decode (ab_code (zx σ n0 bf).1 8161) 26 = .ok (.iaload, 1) := zd zm_8161 (by decide +kernel)
theorem d_8161_27 {σ : Nat → Nat} {n0 : Nat} {bf : ab_B} : decode (ab_code (zx σ n0 bf).1 8161) 27 = .ok (.istore 4, 2) := zd zm_8161 (by decide +kernel)
theorem d_8161_29 {σ : Nat → Nat} {n0 : Nat} {bf : ab_B} : decode (ab_code (zx σ n0 bf).1 8161) 29 = .ok (.iload_n 2, 1) := zd zm_8161 (by decide +kernel)
theorem d_8161_30 {σ : Nat → Nat} {n0 : Nat} {bf : ab_B} : decode (ab_code (zx σ n0 bf).1 8161) 30 = .ok (.iconst 2, 1) := zd zm_8161 (by decide +kernel)
theorem d_8161_31 {σ : Nat → Nat} {n0 : Nat} {bf : ab_B} : decode (ab_code (zx σ n0 bf).1 8161) 31 = .ok (.if_icmp .le 21, 3) := zd zm_8161 (by decide +kernel)
theorem d_8161_34 {σ : Nat → Nat} {n0 : Nat} {bf : ab_B} : decode (ab_code (zx σ n0 bf).1 8161) 34 = .ok (.aload_n 0, 1) := zd zm_8161 (by decide +kernel)
theorem d_8161_35 {σ : Nat → Nat} {n0 : Nat} {bf : ab_B} : decode (ab_code (zx σ n0 bf).1 8161) 35 = .ok (.getfield 90, 3) := zd zm_8161 (by decide +kernel)
theorem d_8161_38 {σ : Nat → Nat} {n0 : Nat} {bf : ab_B} : decode (ab_code (zx σ n0 bf).1 8161) 38 = .ok (.iload 4, 2) := zd zm_8161 (by decide +kernel)
theorem d_8161_40 {σ : Nat → Nat} {n0 : Nat} {bf : ab_B} : decode (ab_code (zx σ n0 bf).1 8161) 40 = .ok (.baload, 1) := zd zm_8161 (by decide +kernel)
theorem d_8161_41 {σ : Nat → Nat} {n0 : Nat} {bf : ab_B} : decode (ab_code (zx σ n0 bf).1 8161) 41 = .ok (.bipush 11, 2) := zd zm_8161 (by decide +kernel)
theorem d_8161_43 {σ : Nat → Nat} {n0 : Nat} {bf : ab_B} : decode (ab_code (zx σ n0 bf).1 8161) 43 = .ok (.if_icmp .ne 9, 3) := zd zm_8161 (by decide +kernel)
theorem d_8161_46 {σ : Nat → Nat} {n0 : Nat} {bf : ab_B} : decode (ab_code (zx σ n0 bf).1 8161) 46 = .ok (.aload_n 0, 1) := zd zm_8161 (by decide +kernel)
theorem d_8161_47 {σ : Nat → Nat} {n0 : Nat} {bf : ab_B} : decode (ab_code (zx σ n0 bf).1 8161) 47 = .ok (.bipush 8, 2) := zd zm_8161 (by decide +kernel)
theorem d_8161_49 {σ : Nat → Nat} {n0 : Nat} {bf : ab_B} : decode (ab_code (zx σ n0 bf).1 8161) 49 = .ok (.invokevirtual 541, 3) := zd zm_8161 (by decide +kernel)
theorem d_8161_52 {σ : Nat → Nat} {n0 : Nat} {bf : ab_B} : decode (ab_code (zx σ n0 bf).1 8161) 52 = .ok (.iconst 0, 1) := zd zm_8161 (by decide +kernel)
theorem d_8161_53 {σ : Nat → Nat} {n0 : Nat} {bf : ab_B} : decode (ab_code (zx σ n0 bf).1 8161) 53 = .ok (.istore 5, 2) := zd zm_8161 (by decide +kernel)
theorem d_8161_55 {σ : Nat → Nat} {n0 : Nat} {bf : ab_B} : decode (ab_code (zx σ n0 bf).1 8161) 55 = .ok (.iload 5, 2) := zd zm_8161 (by decide +kernel)
theorem d_8161_57 {σ : Nat → Nat} {n0 : Nat} {bf : ab_B} : decode (ab_code (zx σ n0 bf).1 8161) 57 = .ok (.iload_n 2, 1) := zd zm_8161 (by decide +kernel)
theorem d_8161_58 {σ : Nat → Nat} {n0 : Nat} {bf : ab_B} : decode (ab_code (zx σ n0 bf).1 8161) 58 = .ok (.if_icmp .ge 22, 3) := zd zm_8161 (by decide +kernel)
theorem d_8161_61 {σ : Nat → Nat} {n0 : Nat} {bf : ab_B} : decode (ab_code (zx σ n0 bf).1 8161) 61 = .ok (.aload_n 0, 1) := zd zm_8161 (by decide +kernel)
theorem d_8161_62 {σ : Nat → Nat} {n0 : Nat} {bf : ab_B} : decode (ab_code (zx σ n0 bf).1 8161) 62 = .ok (.aload_n 0, 1) := zd zm_8161 (by decide +kernel)
theorem d_8161_63 {σ : Nat → Nat} {n0 : Nat} {bf : ab_B} : decode (ab_code (zx σ n0 bf).1 8161) 63 = .ok (.getfield 305, 3) := zd zm_8161 (by decide +kernel)
theorem d_8161_66 {σ : Nat → Nat} {n0 : Nat} {bf : ab_B} : decode (ab_code (zx σ n0 bf).1 8161) 66 = .ok (.iload 5, 2) := zd zm_8161 (by decide +kernel)
theorem d_8161_68 {σ : Nat → Nat} {n0 : Nat} {bf : ab_B} : decode (ab_code (zx σ n0 bf).1 8161) 68 = .ok (.iaload, 1) := zd zm_8161 (by decide +kernel)
theorem d_8161_69 {σ : Nat → Nat} {n0 : Nat} {bf : ab_B} : decode (ab_code (zx σ n0 bf).1 8161) 69 = .ok (.invokevirtual 934, 3) := zd zm_8161 (by decide +kernel)
theorem d_8161_72 {σ : Nat → Nat} {n0 : Nat} {bf : ab_B} : decode (ab_code (zx σ n0 bf).1 8161) 72 = .ok (.istore 6, 2) := zd zm_8161 (by decide +kernel)
theorem d_8161_74 {σ : Nat → Nat} {n0 : Nat} {bf : ab_B} : decode (ab_code (zx σ n0 bf).1 8161) 74 = .ok (.iinc 5 1, 3) := zd zm_8161 (by decide +kernel)
theorem d_8161_77 {σ : Nat → Nat} {n0 : Nat} {bf : ab_B} : decode (ab_code (zx σ n0 bf).1 8161) 77 = .ok (.goto (-22), 3) := zd zm_8161 (by decide +kernel)
theorem d_8161_80 {σ : Nat → Nat} {n0 : Nat} {bf : ab_B} : decode (ab_code (zx σ n0 bf).1 8161) 80 = .ok (.aload_n 0, 1) := zd zm_8161 (by decide +kernel)
theorem d_8161_81 {σ : Nat → Nat} {n0 : Nat} {bf : ab_B} : decode (ab_code (zx σ n0 bf).1 8161) 81 = .ok (.getfield 444, 3) := zd zm_8161 (by decide +kernel)
theorem d_8161_84 {σ : Nat → Nat} {n0 : Nat} {bf : ab_B} : decode (ab_code (zx σ n0 bf).1 8161) 84 = .ok (.ifCond .le 4, 3) := zd zm_8161 (by decide +kernel)
theorem d_8161_87 {σ : Nat → Nat} {n0 : Nat} {bf : ab_B} : decode (ab_code (zx σ n0 bf).1 8161) 87 = .ok (.return_, 1) := zd zm_8161 (by decide +kernel)
theorem d_8161_88 {σ : Nat → Nat} {n0 : Nat} {bf : ab_B} : decode (ab_code (zx σ n0 bf).1 8161) 88 = .ok (.aload_n 0, 1) := zd zm_8161 (by decide +kernel)
theorem d_8161_89 {σ : Nat → Nat} {n0 : Nat} {bf : ab_B} : decode (ab_code (zx σ n0 bf).1 8161) 89 = .ok (.getfield 90, 3) := zd zm_8161 (by decide +kernel)
theorem d_8161_92 {σ : Nat → Nat} {n0 : Nat} {bf : ab_B} : decode (ab_code (zx σ n0 bf).1 8161) 92 = .ok (.iload 4, 2) := zd zm_8161 (by decide +kernel)
theorem d_8161_94 {σ : Nat → Nat} {n0 : Nat} {bf : ab_B} : decode (ab_code (zx σ n0 bf).1 8161) 94 = .ok (.baload, 1) := zd zm_8161 (by decide +kernel)
theorem d_8161_95 {σ : Nat → Nat} {n0 : Nat} {bf : ab_B} : decode (ab_code (zx σ n0 bf).1 8161) 95 = .ok (.bipush 11, 2) := zd zm_8161 (by decide +kernel)
theorem d_8161_97 {σ : Nat → Nat} {n0 : Nat} {bf : ab_B} : decode (ab_code (zx σ n0 bf).1 8161) 97 = .ok (.if_icmp .ne 18, 3) := zd zm_8161 (by decide +kernel)
theorem d_8161_100 {σ : Nat → Nat} {n0 : Nat} {bf : ab_B} : decode (ab_code (zx σ n0 bf).1 8161) 100 = .ok (.aload_n 0, 1) := zd zm_8161 (by decide +kernel)
theorem d_8161_101 {σ : Nat → Nat} {n0 : Nat} {bf : ab_B} : decode (ab_code (zx σ n0 bf).1 8161) 101 = .ok (.getfield 99, 3) := zd zm_8161 (by decide +kernel)
theorem d_8161_104 {σ : Nat → Nat} {n0 : Nat} {bf : ab_B} : decode (ab_code (zx σ n0 bf).1 8161) 104 = .ok (.iload 4, 2) := zd zm_8161 (by decide +kernel)
theorem d_8161_106 {σ : Nat → Nat} {n0 : Nat} {bf : ab_B} : decode (ab_code (zx σ n0 bf).1 8161) 106 = .ok (.iaload, 1) := zd zm_8161 (by decide +kernel)
theorem d_8161_107 {σ : Nat → Nat} {n0 : Nat} {bf : ab_B} : decode (ab_code (zx σ n0 bf).1 8161) 107 = .ok (.iconst 1, 1) := zd zm_8161 (by decide +kernel)
theorem d_8161_108 {σ : Nat → Nat} {n0 : Nat} {bf : ab_B} : decode (ab_code (zx σ n0 bf).1 8161) 108 = .ok (.if_icmp .ne 7, 3) := zd zm_8161 (by decide +kernel)
theorem d_8161_111 {σ : Nat → Nat} {n0 : Nat} {bf : ab_B} : decode (ab_code (zx σ n0 bf).1 8161) 111 = .ok (.iconst 1, 1) := zd zm_8161 (by decide +kernel)
theorem d_8161_112 {σ : Nat → Nat} {n0 : Nat} {bf : ab_B} : decode (ab_code (zx σ n0 bf).1 8161) 112 = .ok (.goto 4, 3) := zd zm_8161 (by decide +kernel)
theorem d_8161_115 {σ : Nat → Nat} {n0 : Nat} {bf : ab_B} : decode (ab_code (zx σ n0 bf).1 8161) 115 = .ok (.iconst 0, 1) := zd zm_8161 (by decide +kernel)
theorem d_8161_116 {σ : Nat → Nat} {n0 : Nat} {bf : ab_B} : decode (ab_code (zx σ n0 bf).1 8161) 116 = .ok (.istore 5, 2) := zd zm_8161 (by decide +kernel)
theorem d_8161_118 {σ : Nat → Nat} {n0 : Nat} {bf : ab_B} : decode (ab_code (zx σ n0 bf).1 8161) 118 = .ok (.aload_n 0, 1) := zd zm_8161 (by decide +kernel)
theorem d_8161_119 {σ : Nat → Nat} {n0 : Nat} {bf : ab_B} : decode (ab_code (zx σ n0 bf).1 8161) 119 = .ok (.getfield 556, 3) := zd zm_8161 (by decide +kernel)
theorem d_8161_122 {σ : Nat → Nat} {n0 : Nat} {bf : ab_B} : decode (ab_code (zx σ n0 bf).1 8161) 122 = .ok (.istore 6, 2) := zd zm_8161 (by decide +kernel)
theorem d_8161_124 {σ : Nat → Nat} {n0 : Nat} {bf : ab_B} : decode (ab_code (zx σ n0 bf).1 8161) 124 = .ok (.iconst 0, 1) := zd zm_8161 (by decide +kernel)
theorem d_8161_125 {σ : Nat → Nat} {n0 : Nat} {bf : ab_B} : decode (ab_code (zx σ n0 bf).1 8161) 125 = .ok (.istore 7, 2) := zd zm_8161 (by decide +kernel)
theorem d_8161_127 {σ : Nat → Nat} {n0 : Nat} {bf : ab_B} : decode (ab_code (zx σ n0 bf).1 8161) 127 = .ok (.iload 7, 2) := zd zm_8161 (by decide +kernel)
theorem d_8161_129 {σ : Nat → Nat} {n0 : Nat} {bf : ab_B} : decode (ab_code (zx σ n0 bf).1 8161) 129 = .ok (.iload_n 2, 1) := zd zm_8161 (by decide +kernel)
theorem d_8161_130 {σ : Nat → Nat} {n0 : Nat} {bf : ab_B} : decode (ab_code (zx σ n0 bf).1 8161) 130 = .ok (.if_icmp .ge 98, 3) := zd zm_8161 (by decide +kernel)
theorem d_8161_133 {σ : Nat → Nat} {n0 : Nat} {bf : ab_B} : decode (ab_code (zx σ n0 bf).1 8161) 133 = .ok (.iload_n 3, 1) := zd zm_8161 (by decide +kernel)
theorem d_8161_134 {σ : Nat → Nat} {n0 : Nat} {bf : ab_B} : decode (ab_code (zx σ n0 bf).1 8161) 134 = .ok (.istore 8, 2) := zd zm_8161 (by decide +kernel)
theorem d_8161_136 {σ : Nat → Nat} {n0 : Nat} {bf : ab_B} : decode (ab_code (zx σ n0 bf).1 8161) 136 = .ok (.iload 5, 2) := zd zm_8161 (by decide +kernel)
theorem d_8161_138 {σ : Nat → Nat} {n0 : Nat} {bf : ab_B} : decode (ab_code (zx σ n0 bf).1 8161) 138 = .ok (.ifCond .eq 55, 3) := zd zm_8161 (by decide +kernel)
theorem d_8161_141 {σ : Nat → Nat} {n0 : Nat} {bf : ab_B} : decode (ab_code (zx σ n0 bf).1 8161) 141 = .ok (.iload 7, 2) := zd zm_8161 (by decide +kernel)
theorem d_8161_143 {σ : Nat → Nat} {n0 : Nat} {bf : ab_B} : decode (ab_code (zx σ n0 bf).1 8161) 143 = .ok (.ifCond .le 50, 3) := zd zm_8161 (by decide +kernel)
theorem d_8161_146 {σ : Nat → Nat} {n0 : Nat} {bf : ab_B} : decode (ab_code (zx σ n0 bf).1 8161) 146 = .ok (.iload 8, 2) := zd zm_8161 (by decide +kernel)
theorem d_8161_148 {σ : Nat → Nat} {n0 : Nat} {bf : ab_B} : decode (ab_code (zx σ n0 bf).1 8161) 148 = .ok (.iload 6, 2) := zd zm_8161 (by decide +kernel)
theorem d_8161_150 {σ : Nat → Nat} {n0 : Nat} {bf : ab_B} : decode (ab_code (zx σ n0 bf).1 8161) 150 = .ok (.if_icmp .ge 43, 3) := zd zm_8161 (by decide +kernel)
theorem d_8161_153 {σ : Nat → Nat} {n0 : Nat} {bf : ab_B} : decode (ab_code (zx σ n0 bf).1 8161) 153 = .ok (.aload_n 0, 1) := zd zm_8161 (by decide +kernel)
theorem d_8161_154 {σ : Nat → Nat} {n0 : Nat} {bf : ab_B} : decode (ab_code (zx σ n0 bf).1 8161) 154 = .ok (.aload_n 0, 1) := zd zm_8161 (by decide +kernel)
theorem d_8161_155 {σ : Nat → Nat} {n0 : Nat} {bf : ab_B} : decode (ab_code (zx σ n0 bf).1 8161) 155 = .ok (.getfield 72, 3) := zd zm_8161 (by decide +kernel)
theorem d_8161_158 {σ : Nat → Nat} {n0 : Nat} {bf : ab_B} : decode (ab_code (zx σ n0 bf).1 8161) 158 = .ok (.iload 8, 2) := zd zm_8161 (by decide +kernel)
theorem d_8161_160 {σ : Nat → Nat} {n0 : Nat} {bf : ab_B} : decode (ab_code (zx σ n0 bf).1 8161) 160 = .ok (.iaload, 1) := zd zm_8161 (by decide +kernel)
theorem d_8161_161 {σ : Nat → Nat} {n0 : Nat} {bf : ab_B} : decode (ab_code (zx σ n0 bf).1 8161) 161 = .ok (.aload_n 0, 1) := zd zm_8161 (by decide +kernel)
theorem d_8161_162 {σ : Nat → Nat} {n0 : Nat} {bf : ab_B} : decode (ab_code (zx σ n0 bf).1 8161) 162 = .ok (.getfield 75, 3) := zd zm_8161 (by decide +kernel)
theorem d_8161_165 {σ : Nat → Nat} {n0 : Nat} {bf : ab_B} : decode (ab_code (zx σ n0 bf).1 8161) 165 = .ok (.iload 8, 2) := zd zm_8161 (by decide +kernel)
theorem d_8161_167 {σ : Nat → Nat} {n0 : Nat} {bf : ab_B} : decode (ab_code (zx σ n0 bf).1 8161) 167 = .ok (.iaload, 1) := zd zm_8161 (by decide +kernel)
theorem d_8161_168 {σ : Nat → Nat} {n0 : Nat} {bf : ab_B} : decode (ab_code (zx σ n0 bf).1 8161) 168 = .ok (.aload_n 0, 1) := zd zm_8161 (by decide +kernel)
theorem d_8161_169 {σ : Nat → Nat} {n0 : Nat} {bf : ab_B} : decode (ab_code (zx σ n0 bf).1 8161) 169 = .ok (.getfield 78, 3) := zd zm_8161 (by decide +kernel)
theorem d_8161_172 {σ : Nat → Nat} {n0 : Nat} {bf : ab_B} : decode (ab_code (zx σ n0 bf).1 8161) 172 = .ok (.iload 8, 2) := zd zm_8161 (by decide +kernel)
theorem d_8161_174 {σ : Nat → Nat} {n0 : Nat} {bf : ab_B} : decode (ab_code (zx σ n0 bf).1 8161) 174 = .ok (.iaload, 1) := zd zm_8161 (by decide +kernel)
theorem d_8161_175 {σ : Nat → Nat} {n0 : Nat} {bf : ab_B} : decode (ab_code (zx σ n0 bf).1 8161) 175 = .ok (.aload_n 0, 1) := zd zm_8161 (by decide +kernel)
theorem d_8161_176 {σ : Nat → Nat} {n0 : Nat} {bf : ab_B} : decode (ab_code (zx σ n0 bf).1 8161) 176 = .ok (.getfield 81, 3) := zd zm_8161 (by decide +kernel)
theorem d_8161_179 {σ : Nat → Nat} {n0 : Nat} {bf : ab_B} : decode (ab_code (zx σ n0 bf).1 8161) 179 = .ok (.iload 8, 2) := zd zm_8161 (by decide +kernel)
theorem d_8161_181 {σ : Nat → Nat} {n0 : Nat} {bf : ab_B} : decode (ab_code (zx σ n0 bf).1 8161) 181 = .ok (.iaload, 1) := zd zm_8161 (by decide +kernel)
theorem d_8161_182 {σ : Nat → Nat} {n0 : Nat} {bf : ab_B} : decode (ab_code (zx σ n0 bf).1 8161) 182 = .ok (.invokevirtual 656, 3) := zd zm_8161 (by decide +kernel)
theorem d_8161_185 {σ : Nat → Nat} {n0 : Nat} {bf : ab_B} : decode (ab_code (zx σ n0 bf).1 8161) 185 = .ok (.istore 9, 2) := zd zm_8161 (by decide +kernel)
theorem d_8161_187 {σ : Nat → Nat} {n0 : Nat} {bf : ab_B} : decode (ab_code (zx σ n0 bf).1 8161) 187 = .ok (.iinc 8 1, 3) := zd zm_8161 (by decide +kernel)
theorem d_8161_190 {σ : Nat → Nat} {n0 : Nat} {bf : ab_B} : decode (ab_code (zx σ n0 bf).1 8161) 190 = .ok (.goto (-54), 3) := zd zm_8161 (by decide +kernel)
theorem d_8161_193 {σ : Nat → Nat} {n0 : Nat} {bf : ab_B} : decode (ab_code (zx σ n0 bf).1 8161) 193 = .ok (.aload_n 0, 1) := zd zm_8161 (by decide +kernel)
theorem d_8161_194 {σ : Nat → Nat} {n0 : Nat} {bf : ab_B} : decode (ab_code (zx σ n0 bf).1 8161) 194 = .ok (.bipush 70, 2) := zd zm_8161 (by decide +kernel)
theorem d_8161_196 {σ : Nat → Nat} {n0 : Nat} {bf : ab_B} : decode (ab_code (zx σ n0 bf).1 8161) 196 = .ok (.aload_n 0, 1) := zd zm_8161 (by decide +kernel)
theorem d_8161_197 {σ : Nat → Nat} {n0 : Nat} {bf : ab_B} : decode (ab_code (zx σ n0 bf).1 8161) 197 = .ok (.getfield 221, 3) := zd zm_8161 (by decide +kernel)
theorem d_8161_200 {σ : Nat → Nat} {n0 : Nat} {bf : ab_B} : decode (ab_code (zx σ n0 bf).1 8161) 200 = .ok (.iload_n 1, 1) := zd zm_8161 (by decide +kernel)
theorem d_8161_201 {σ : Nat → Nat} {n0 : Nat} {bf : ab_B} : decode (ab_code (zx σ n0 bf).1 8161) 201 = .ok (.iaload, 1) := zd zm_8161 (by decide +kernel)
theorem d_8161_202 {σ : Nat → Nat} {n0 : Nat} {bf : ab_B} : decode (ab_code (zx σ n0 bf).1 8161) 202 = .ok (.iload 7, 2) := zd zm_8161 (by decide +kernel)
theorem d_8161_204 {σ : Nat → Nat} {n0 : Nat} {bf : ab_B} : decode (ab_code (zx σ n0 bf).1 8161) 204 = .ok (.iadd, 1) := zd zm_8161 (by decide +kernel)
theorem d_8161_205 {σ : Nat → Nat} {n0 : Nat} {bf : ab_B} : decode (ab_code (zx σ n0 bf).1 8161) 205 = .ok (.iload 4, 2) := zd zm_8161 (by decide +kernel)
theorem d_8161_207 {σ : Nat → Nat} {n0 : Nat} {bf : ab_B} : decode (ab_code (zx σ n0 bf).1 8161) 207 = .ok (.iload 5, 2) := zd zm_8161 (by decide +kernel)
theorem d_8161_209 {σ : Nat → Nat} {n0 : Nat} {bf : ab_B} : decode (ab_code (zx σ n0 bf).1 8161) 209 = .ok (.ifCond .eq 7, 3) := zd zm_8161 (by decide +kernel)
theorem d_8161_212 {σ : Nat → Nat} {n0 : Nat} {bf : ab_B} : decode (ab_code (zx σ n0 bf).1 8161) 212 = .ok (.iconst 2, 1) := zd zm_8161 (by decide +kernel)
theorem d_8161_213 {σ : Nat → Nat} {n0 : Nat} {bf : ab_B} : decode (ab_code (zx σ n0 bf).1 8161) 213 = .ok (.goto 4, 3) := zd zm_8161 (by decide +kernel)
theorem d_8161_216 {σ : Nat → Nat} {n0 : Nat} {bf : ab_B} : decode (ab_code (zx σ n0 bf).1 8161) 216 = .ok (.iconst 0, 1) := zd zm_8161 (by decide +kernel)
theorem d_8161_217 {σ : Nat → Nat} {n0 : Nat} {bf : ab_B} : decode (ab_code (zx σ n0 bf).1 8161) 217 = .ok (.invokevirtual 656, 3) := zd zm_8161 (by decide +kernel)
theorem d_8161_220 {σ : Nat → Nat} {n0 : Nat} {bf : ab_B} : decode (ab_code (zx σ n0 bf).1 8161) 220 = .ok (.istore 8, 2) := zd zm_8161 (by decide +kernel)
theorem d_8161_222 {σ : Nat → Nat} {n0 : Nat} {bf : ab_B} : decode (ab_code (zx σ n0 bf).1 8161) 222 = .ok (.iinc 7 1, 3) := zd zm_8161 (by decide +kernel)
theorem d_8161_225 {σ : Nat → Nat} {n0 : Nat} {bf : ab_B} : decode (ab_code (zx σ n0 bf).1 8161) 225 = .ok (.goto (-98), 3) := zd zm_8161 (by decide +kernel)
theorem d_8161_228 {σ : Nat → Nat} {n0 : Nat} {bf : ab_B} : decode (ab_code (zx σ n0 bf).1 8161) 228 = .ok (.aload_n 0, 1) := zd zm_8161 (by decide +kernel)
theorem d_8161_229 {σ : Nat → Nat} {n0 : Nat} {bf : ab_B} : decode (ab_code (zx σ n0 bf).1 8161) 229 = .ok (.bipush 36, 2) := zd zm_8161 (by decide +kernel)
theorem d_8161_231 {σ : Nat → Nat} {n0 : Nat} {bf : ab_B} : decode (ab_code (zx σ n0 bf).1 8161) 231 = .ok (.invokevirtual 544, 3) := zd zm_8161 (by decide +kernel)
theorem d_8161_234 {σ : Nat → Nat} {n0 : Nat} {bf : ab_B} : decode (ab_code (zx σ n0 bf).1 8161) 234 = .ok (.ifCond .eq 28, 3) := zd zm_8161 (by decide +kernel)
theorem d_8161_237 {σ : Nat → Nat} {n0 : Nat} {bf : ab_B} : decode (ab_code (zx σ n0 bf).1 8161) 237 = .ok (.aload_n 0, 1) := zd zm_8161 (by decide +kernel)
theorem d_8161_238 {σ : Nat → Nat} {n0 : Nat} {bf : ab_B} : decode (ab_code (zx σ n0 bf).1 8161) 238 = .ok (.invokevirtual 538, 3) := zd zm_8161 (by decide +kernel)
theorem d_8161_241 {σ : Nat → Nat} {n0 : Nat} {bf : ab_B} : decode (ab_code (zx σ n0 bf).1 8161) 241 = .ok (.aload_n 0, 1) := zd zm_8161 (by decide +kernel)
theorem d_8161_242 {σ : Nat → Nat} {n0 : Nat} {bf : ab_B} : decode (ab_code (zx σ n0 bf).1 8161) 242 = .ok (.bipush 68, 2) := zd zm_8161 (by decide +kernel)
theorem d_8161_244 {σ : Nat → Nat} {n0 : Nat} {bf : ab_B} : decode (ab_code (zx σ n0 bf).1 8161) 244 = .ok (.iload_n 1, 1) := zd zm_8161 (by decide +kernel)
theorem d_8161_245 {σ : Nat → Nat} {n0 : Nat} {bf : ab_B} : decode (ab_code (zx σ n0 bf).1 8161) 245 = .ok (.iload_n 2, 1) := zd zm_8161 (by decide +kernel)
theorem d_8161_246 {σ : Nat → Nat} {n0 : Nat} {bf : ab_B} : decode (ab_code (zx σ n0 bf).1 8161) 246 = .ok (.iload 4, 2) := zd zm_8161 (by decide +kernel)
theorem d_8161_248 {σ : Nat → Nat} {n0 : Nat} {bf : ab_B} : decode (ab_code (zx σ n0 bf).1 8161) 248 = .ok (.invokevirtual 649, 3) := zd zm_8161 (by decide +kernel)
theorem d_8161_251 {σ : Nat → Nat} {n0 : Nat} {bf : ab_B} : decode (ab_code (zx σ n0 bf).1 8161) 251 = .ok (.aload_n 0, 1) := zd zm_8161 (by decide +kernel)
theorem d_8161_252 {σ : Nat → Nat} {n0 : Nat} {bf : ab_B} : decode (ab_code (zx σ n0 bf).1 8161) 252 = .ok (.iconst 2, 1) := zd zm_8161 (by decide +kernel)
theorem d_8161_253 {σ : Nat → Nat} {n0 : Nat} {bf : ab_B} : decode (ab_code (zx σ n0 bf).1 8161) 253 = .ok (.iconst 0, 1) := zd zm_8161 (by decide +kernel)
theorem d_8161_254 {σ : Nat → Nat} {n0 : Nat} {bf : ab_B} : decode (ab_code (zx σ n0 bf).1 8161) 254 = .ok (.iconst 0, 1) := zd zm_8161 (by decide +kernel)
theorem d_8161_255 {σ : Nat → Nat} {n0 : Nat} {bf : ab_B} : decode (ab_code (zx σ n0 bf).1 8161) 255 = .ok (.iconst 0, 1) := zd zm_8161 (by decide +kernel)
theorem d_8161_256 {σ : Nat → Nat} {n0 : Nat} {bf : ab_B} : decode (ab_code (zx σ n0 bf).1 8161) 256 = .ok (.invokevirtual 649, 3) := zd zm_8161 (by decide +kernel)
theorem d_8161_259 {σ : Nat → Nat} {n0 : Nat} {bf : ab_B} : decode (ab_code (zx σ n0 bf).1 8161) 259 = .ok (.goto 11, 3) := zd zm_8161 (by decide +kernel)
theorem d_8161_262 {σ : Nat → Nat} {n0 : Nat} {bf : ab_B} : decode (ab_code (zx σ n0 bf).1 8161) 262 = .ok (.aload_n 0, 1) := zd zm_8161 (by decide +kernel)
theorem d_8161_263 {σ : Nat → Nat} {n0 : Nat} {bf : ab_B} : decode (ab_code (zx σ n0 bf).1 8161) 263 = .ok (.iload_n 1, 1) := zd zm_8161 (by decide +kernel)
theorem d_8161_264 {σ : Nat → Nat} {n0 : Nat} {bf : ab_B} : decode (ab_code (zx σ n0 bf).1 8161) 264 = .ok (.iload_n 2, 1) := zd zm_8161 (by decide +kernel)
theorem d_8161_265 {σ : Nat → Nat} {n0 : Nat} {bf : ab_B} : decode (ab_code (zx σ n0 bf).1 8161) 265 = .ok (.iload 4, 2) := zd zm_8161 (by decide +kernel)
theorem d_8161_267 {σ : Nat → Nat} {n0 : Nat} {bf : ab_B} : decode (ab_code (zx σ n0 bf).1 8161) 267 = .ok (.invokevirtual 940, 3) := zd zm_8161 (by decide +kernel)
theorem d_8161_270 {σ : Nat → Nat} {n0 : Nat} {bf : ab_B} : decode (ab_code (zx σ n0 bf).1 8161) 270 = .ok (.return_, 1) := zd zm_8161 (by decide +kernel)
def w_X9_varTyped_52 (X : zs_X) (d : Nat) (p0 : Nat) (p1 : Int32) (p2 : Int32) (p3 : Int32) (p4 : Int32) (S : zs_T) (Q : zs_Q) : Prop :=
  (zs_U X d 8161 55 [(0, .ref p0), (1, .int p1), (2, .int p2), (3, .int p3), (4, .int p4), (5, .int (0 : Int32))] [] S Q)
theorem u_X9_varTyped_52 {σ : Nat → Nat} {n0 : Nat} {bf : ab_B} {d : Nat} {p0 : Nat} {p1 : Int32} {p2 : Int32} {p3 : Int32} {p4 : Int32} {S : zs_T} {Q : zs_Q} (hB : zt_B bf) (h : w_X9_varTyped_52 (zx σ n0 bf) d p0 p1 p2 p3 p4 S Q) : zs_U (zx σ n0 bf) d 8161 52 [(0, .ref p0), (1, .int p1), (2, .int p2), (3, .int p3), (4, .int p4)] [] S Q := by
  unfold w_X9_varTyped_52 at h
  refine zu_iconst d_8161_52 zi_0 ?_
  refine zu_istore d_8161_53 (zs_lt zq_8161 rfl) ?_
  exact h.weak ⟨rfl, rfl, rfl, rfl, rfl, rfl, trivial⟩
def w_X9_varTyped_34 (X : zs_X) (d : Nat) (p0 : Nat) (p1 : Int32) (p2 : Int32) (p3 : Int32) (p4 : Int32) (S : zs_T) (Q : zs_Q) : Prop :=
  (zs_K S p0 = some (.inl 8) ∧ ∃ b2, (zs_R S 8044 p0) = some b2 ∧ zs_A S b2 1 p4 ∧ ((¬ (zs_i S b2 p4.toNatClampNeg) = (11 : Int32) → w_X9_varTyped_52 X d p0 p1 p2 p3 p4 S Q) ∧ (¬ (¬ (zs_i S b2 p4.toNatClampNeg) = (11 : Int32)) → (zs_C X d 8027 [.ref p0, .int (8 : Int32)] S (zs_kV (fun S6 => w_X9_varTyped_52 X d p0 p1 p2 p3 p4 S6 Q) Q)))))
theorem u_X9_varTyped_34 {σ : Nat → Nat} {n0 : Nat} {bf : ab_B} {d : Nat} {p0 : Nat} {p1 : Int32} {p2 : Int32} {p3 : Int32} {p4 : Int32} {S : zs_T} {Q : zs_Q} (hB : zt_B bf) (h : w_X9_varTyped_34 (zx σ n0 bf) d p0 p1 p2 p3 p4 S Q) : zs_U (zx σ n0 bf) d 8161 34 [(0, .ref p0), (1, .int p1), (2, .int p2), (3, .int p3), (4, .int p4)] [] S Q := by
  unfold w_X9_varTyped_34 at h
  refine zu_aload_n d_8161_34 rfl (zs_ra _) ?_
  obtain ⟨k1, h⟩ := h
  refine zg_8_90 rfl d_8161_35 k1 ?_
  refine zu_iload d_8161_38 rfl ?_
  obtain ⟨b2, e3, h⟩ := h
  refine zs_stk1 (zs_rfe e3) ?_
  obtain ⟨k4, h⟩ := h
  refine zu_bald (k := 1) d_8161_40 rfl (Or.inl rfl) k4 ?_
  refine zu_bipush d_8161_41 zj_11 ?_
  refine zu_cmpne (t := 52) d_8161_43 rfl (fun c5 => ?_) (fun c5 => ?_)
  · have h := h.1 c5
    exact (u_X9_varTyped_52 hB h).weak ⟨rfl, rfl, rfl, rfl, rfl, trivial⟩
  · have h := h.2 c5
    refine zu_aload_n d_8161_46 rfl (zs_ra _) ?_
    refine zu_bipush d_8161_47 zj_8 ?_
    refine zc_8_541 (x0 := (8 : Int32)) hB rfl k1 d_8161_49 (Nat.le_of_ble_eq_true rfl) h (fun S6 h => ?_)
    exact (u_X9_varTyped_52 hB h).weak ⟨rfl, rfl, rfl, rfl, rfl, trivial⟩
def w_X9_varTyped_116 (X : zs_X) (d : Nat) (p0 : Nat) (p1 : Int32) (p2 : Int32) (p3 : Int32) (p4 : Int32) (q0 : Int32) (S : zs_T) (Q : zs_Q) : Prop :=
  (zs_K S p0 = some (.inl 8) ∧ zs_U X d 8161 127 [(0, .ref p0), (1, .int p1), (2, .int p2), (3, .int p3), (4, .int p4), (5, .int q0), (6, .int (zs_I S 8040 p0)), (7, .int (0 : Int32))] [] S Q)
theorem u_X9_varTyped_116 {σ : Nat → Nat} {n0 : Nat} {bf : ab_B} {d : Nat} {p0 : Nat} {p1 : Int32} {p2 : Int32} {p3 : Int32} {p4 : Int32} {q0 : Int32} {S : zs_T} {Q : zs_Q} (hB : zt_B bf) (h : w_X9_varTyped_116 (zx σ n0 bf) d p0 p1 p2 p3 p4 q0 S Q) : zs_U (zx σ n0 bf) d 8161 116 [(0, .ref p0), (1, .int p1), (2, .int p2), (3, .int p3), (4, .int p4)] [.int q0] S Q := by
  unfold w_X9_varTyped_116 at h
  refine zu_istore d_8161_116 (zs_lt zq_8161 rfl) ?_
  refine zu_aload_n d_8161_118 rfl (zs_ra _) ?_
  obtain ⟨k1, h⟩ := h
  refine zg_8_556 rfl d_8161_119 k1 ?_
  refine zu_istore d_8161_122 (zs_lt zq_8161 rfl) ?_
  refine zu_iconst d_8161_124 zi_0 ?_
  refine zu_istore d_8161_125 (zs_lt zq_8161 rfl) ?_
  exact h.weak ⟨rfl, rfl, rfl, rfl, rfl, rfl, rfl, rfl, trivial⟩
def w_X9_varTyped_115 (X : zs_X) (d : Nat) (p0 : Nat) (p1 : Int32) (p2 : Int32) (p3 : Int32) (p4 : Int32) (S : zs_T) (Q : zs_Q) : Prop :=
  (w_X9_varTyped_116 X d p0 p1 p2 p3 p4 (0 : Int32) S Q)
theorem u_X9_varTyped_115 {σ : Nat → Nat} {n0 : Nat} {bf : ab_B} {d : Nat} {p0 : Nat} {p1 : Int32} {p2 : Int32} {p3 : Int32} {p4 : Int32} {S : zs_T} {Q : zs_Q} (hB : zt_B bf) (h : w_X9_varTyped_115 (zx σ n0 bf) d p0 p1 p2 p3 p4 S Q) : zs_U (zx σ n0 bf) d 8161 115 [(0, .ref p0), (1, .int p1), (2, .int p2), (3, .int p3), (4, .int p4)] [] S Q := by
  unfold w_X9_varTyped_115 at h
  refine zu_iconst d_8161_115 zi_0 ?_
  exact (u_X9_varTyped_116 hB h).weak ⟨rfl, rfl, rfl, rfl, rfl, trivial⟩
def w_X9_varTyped_111 (X : zs_X) (d : Nat) (p0 : Nat) (p1 : Int32) (p2 : Int32) (p3 : Int32) (p4 : Int32) (S : zs_T) (Q : zs_Q) : Prop :=
  (w_X9_varTyped_116 X d p0 p1 p2 p3 p4 (1 : Int32) S Q)
theorem u_X9_varTyped_111 {σ : Nat → Nat} {n0 : Nat} {bf : ab_B} {d : Nat} {p0 : Nat} {p1 : Int32} {p2 : Int32} {p3 : Int32} {p4 : Int32} {S : zs_T} {Q : zs_Q} (hB : zt_B bf) (h : w_X9_varTyped_111 (zx σ n0 bf) d p0 p1 p2 p3 p4 S Q) : zs_U (zx σ n0 bf) d 8161 111 [(0, .ref p0), (1, .int p1), (2, .int p2), (3, .int p3), (4, .int p4)] [] S Q := by
  unfold w_X9_varTyped_111 at h
  refine zu_iconst d_8161_111 zi_1 ?_
  refine zu_goto (t := 116) d_8161_112 rfl ?_
  exact (u_X9_varTyped_116 hB h).weak ⟨rfl, rfl, rfl, rfl, rfl, trivial⟩
def w_X9_varTyped_55 (X : zs_X) (d : Nat) (p0 : Nat) (p1 : Int32) (p2 : Int32) (p3 : Int32) (p4 : Int32) (p5 : Int32) (S : zs_T) (Q : zs_Q) : Prop :=
  (((p2 ≤ p5 → (zs_K S p0 = some (.inl 8) ∧ (((zs_I S 8010 p0) ≤ 0 → (∃ b4, (zs_R S 8044 p0) = some b4 ∧ zs_A S b4 1 p4 ∧ ((¬ (zs_i S b4 p4.toNatClampNeg) = (11 : Int32) → w_X9_varTyped_115 X d p0 p1 p2 p3 p4 S Q) ∧ (¬ (¬ (zs_i S b4 p4.toNatClampNeg) = (11 : Int32)) → (∃ b8, (zs_R S 8047 p0) = some b8 ∧ zs_A S b8 0 p4 ∧ ((¬ (zs_i S b8 p4.toNatClampNeg) = (1 : Int32) → w_X9_varTyped_115 X d p0 p1 p2 p3 p4 S Q) ∧ (¬ (¬ (zs_i S b8 p4.toNatClampNeg) = (1 : Int32)) → w_X9_varTyped_111 X d p0 p1 p2 p3 p4 S Q))))))) ∧ (¬ ((zs_I S 8010 p0) ≤ 0) → (Q (.returned none) S))))) ∧ (¬ (p2 ≤ p5) → (zs_K S p0 = some (.inl 8) ∧ ∃ b13, (zs_R S 8143 p0) = some b13 ∧ zs_A S b13 0 p5 ∧ zs_C X d 8157 [.ref p0, .int (zs_i S b13 p5.toNatClampNeg)] S (zs_kI (fun v17 S16 => (zs_U X d 8161 55 [(0, .ref p0), (1, .int p1), (2, .int p2), (3, .int p3), (4, .int p4), (5, .int (p5 + (1 : Int32)))] [] S16 Q)) Q)))))
theorem u_X9_varTyped_55 {σ : Nat → Nat} {n0 : Nat} {bf : ab_B} {d : Nat} {p0 : Nat} {p1 : Int32} {p2 : Int32} {p3 : Int32} {p4 : Int32} {p5 : Int32} {S : zs_T} {Q : zs_Q} (hB : zt_B bf) (h : w_X9_varTyped_55 (zx σ n0 bf) d p0 p1 p2 p3 p4 p5 S Q) : zs_U (zx σ n0 bf) d 8161 55 [(0, .ref p0), (1, .int p1), (2, .int p2), (3, .int p3), (4, .int p4), (5, .int p5)] [] S Q := by
  unfold w_X9_varTyped_55 at h
  refine zu_iload d_8161_55 rfl ?_
  refine zu_iload_n d_8161_57 rfl ?_
  refine zu_cmpge (t := 80) d_8161_58 rfl (fun c1 => ?_) (fun c1 => ?_)
  · have h := h.1 c1
    refine zu_aload_n d_8161_80 rfl (zs_ra _) ?_
    obtain ⟨k2, h⟩ := h
    refine zg_8_444 rfl d_8161_81 k2 ?_
    refine zu_ifle (t := 88) d_8161_84 rfl (fun c3 => ?_) (fun c3 => ?_)
    · have h := h.1 c3
      refine zu_aload_n d_8161_88 rfl (zs_ra _) ?_
      refine zg_8_90 rfl d_8161_89 k2 ?_
      refine zu_iload d_8161_92 rfl ?_
      obtain ⟨b4, e5, h⟩ := h
      refine zs_stk1 (zs_rfe e5) ?_
      obtain ⟨k6, h⟩ := h
      refine zu_bald (k := 1) d_8161_94 rfl (Or.inl rfl) k6 ?_
      refine zu_bipush d_8161_95 zj_11 ?_
      refine zu_cmpne (t := 115) d_8161_97 rfl (fun c7 => ?_) (fun c7 => ?_)
      · have h := h.1 c7
        exact (u_X9_varTyped_115 hB h).weak ⟨rfl, rfl, rfl, rfl, rfl, trivial⟩
      · have h := h.2 c7
        refine zu_aload_n d_8161_100 rfl (zs_ra _) ?_
        refine zg_8_99 rfl d_8161_101 k2 ?_
        refine zu_iload d_8161_104 rfl ?_
        obtain ⟨b8, e9, h⟩ := h
        refine zs_stk1 (zs_rfe e9) ?_
        obtain ⟨k10, h⟩ := h
        refine zu_iald (k := 0) d_8161_106 rfl rfl k10 ?_
        refine zu_iconst d_8161_107 zi_1 ?_
        refine zu_cmpne (t := 115) d_8161_108 rfl (fun c11 => ?_) (fun c11 => ?_)
        · have h := h.1 c11
          exact (u_X9_varTyped_115 hB h).weak ⟨rfl, rfl, rfl, rfl, rfl, trivial⟩
        · have h := h.2 c11
          exact (u_X9_varTyped_111 hB h).weak ⟨rfl, rfl, rfl, rfl, rfl, trivial⟩
    · have h := h.2 c3
      exact zu_vret d_8161_87 zr_8161 h
  · have h := h.2 c1
    refine zu_aload_n d_8161_61 rfl (zs_ra _) ?_
    refine zu_aload_n d_8161_62 rfl (zs_ra _) ?_
    obtain ⟨k12, h⟩ := h
    refine zg_8_305 rfl d_8161_63 k12 ?_
    refine zu_iload d_8161_66 rfl ?_
    obtain ⟨b13, e14, h⟩ := h
    refine zs_stk1 (zs_rfe e14) ?_
    obtain ⟨k15, h⟩ := h
    refine zu_iald (k := 0) d_8161_68 rfl rfl k15 ?_
    refine zc_8_934 (x0 := (zs_i S b13 p5.toNatClampNeg)) hB rfl k12 d_8161_69 (Nat.le_of_ble_eq_true rfl) h (fun v17 S16 h => ?_)
    refine zu_istore d_8161_72 (zs_lt zq_8161 rfl) ?_
    refine zu_iinc d_8161_74 rfl zi_1 (zs_lt zq_8161 rfl) ?_
    refine zu_goto (t := 55) d_8161_77 rfl ?_
    exact h.weak ⟨rfl, rfl, rfl, rfl, rfl, rfl, trivial⟩
def w_X9_varTyped_259 (X : zs_X) (d : Nat)  (S : zs_T) (Q : zs_Q) : Prop :=
  (Q (.returned none) S)
theorem u_X9_varTyped_259 {σ : Nat → Nat} {n0 : Nat} {bf : ab_B} {d : Nat}  {S : zs_T} {Q : zs_Q} (hB : zt_B bf) (h : w_X9_varTyped_259 (zx σ n0 bf) d  S Q) : zs_U (zx σ n0 bf) d 8161 259 [] [] S Q := by
  unfold w_X9_varTyped_259 at h
  refine zu_goto (t := 270) d_8161_259 rfl ?_
  exact zu_vret d_8161_270 zr_8161 h
def w_X9_varTyped_127 (X : zs_X) (d : Nat) (p0 : Nat) (p1 : Int32) (p2 : Int32) (p3 : Int32) (p4 : Int32) (p5 : Int32) (p6 : Int32) (p7 : Int32) (S : zs_T) (Q : zs_Q) : Prop :=
  (((p2 ≤ p7 → (zs_K S p0 = some (.inl 8) ∧ zs_C X d 8026 [.ref p0, .int (36 : Int32)] S (zs_kI (fun v4 S3 => (((v4 = 0 → (zs_K S3 p0 = some (.inl 8) ∧ zs_C X d 8162 [.ref p0, .int p1, .int p2, .int p4] S3 (zs_kV (fun S7 => (Q (.returned none) S7)) Q))) ∧ (¬ (v4 = 0) → (zs_K S3 p0 = some (.inl 8) ∧ zs_C X d 8014 [.ref p0] S3 (zs_kV (fun S10 => (zs_K S10 p0 = some (.inl 8) ∧ zs_C X d 8030 [.ref p0, .int (68 : Int32), .int p1, .int p2, .int p4] S10 (zs_kV (fun S13 => (zs_K S13 p0 = some (.inl 8) ∧ zs_C X d 8030 [.ref p0, .int (2 : Int32), .int (0 : Int32), .int (0 : Int32), .int (0 : Int32)] S13 (zs_kV (fun S16 => w_X9_varTyped_259 X d  S16 Q) Q))) Q))) Q)))))) Q))) ∧ (¬ (p2 ≤ p7) → (zs_U X d 8161 136 [(0, .ref p0), (1, .int p1), (2, .int p2), (3, .int p3), (4, .int p4), (5, .int p5), (6, .int p6), (7, .int p7), (8, .int p3)] [] S Q))))
theorem u_X9_varTyped_127 {σ : Nat → Nat} {n0 : Nat} {bf : ab_B} {d : Nat} {p0 : Nat} {p1 : Int32} {p2 : Int32} {p3 : Int32} {p4 : Int32} {p5 : Int32} {p6 : Int32} {p7 : Int32} {S : zs_T} {Q : zs_Q} (hB : zt_B bf) (h : w_X9_varTyped_127 (zx σ n0 bf) d p0 p1 p2 p3 p4 p5 p6 p7 S Q) : zs_U (zx σ n0 bf) d 8161 127 [(0, .ref p0), (1, .int p1), (2, .int p2), (3, .int p3), (4, .int p4), (5, .int p5), (6, .int p6), (7, .int p7)] [] S Q := by
  unfold w_X9_varTyped_127 at h
  refine zu_iload d_8161_127 rfl ?_
  refine zu_iload_n d_8161_129 rfl ?_
  refine zu_cmpge (t := 228) d_8161_130 rfl (fun c1 => ?_) (fun c1 => ?_)
  · have h := h.1 c1
    refine zu_aload_n d_8161_228 rfl (zs_ra _) ?_
    refine zu_bipush d_8161_229 zj_36 ?_
    obtain ⟨k2, h⟩ := h
    refine zc_8_544 (x0 := (36 : Int32)) hB rfl k2 d_8161_231 (Nat.le_of_ble_eq_true rfl) h (fun v4 S3 h => ?_)
    refine zu_ifeq (t := 262) d_8161_234 rfl (fun c5 => ?_) (fun c5 => ?_)
    · have h := h.1 c5
      refine zu_aload_n d_8161_262 rfl (zs_ra _) ?_
      refine zu_iload_n d_8161_263 rfl ?_
      refine zu_iload_n d_8161_264 rfl ?_
      refine zu_iload d_8161_265 rfl ?_
      obtain ⟨k6, h⟩ := h
      refine zc_8_940 (x0 := p1) (x1 := p2) (x2 := p4) hB rfl k6 d_8161_267 (Nat.le_of_ble_eq_true rfl) h (fun S7 h => ?_)
      exact zu_vret d_8161_270 zr_8161 h
    · have h := h.2 c5
      refine zu_aload_n d_8161_237 rfl (zs_ra _) ?_
      obtain ⟨k9, h⟩ := h
      refine zc_8_538  hB rfl k9 d_8161_238 (Nat.le_of_ble_eq_true rfl) h (fun S10 h => ?_)
      refine zu_aload_n d_8161_241 rfl (zs_ra _) ?_
      refine zu_bipush d_8161_242 zj_68 ?_
      refine zu_iload_n d_8161_244 rfl ?_
      refine zu_iload_n d_8161_245 rfl ?_
      refine zu_iload d_8161_246 rfl ?_
      obtain ⟨k12, h⟩ := h
      refine zc_8_649 (x0 := (68 : Int32)) (x1 := p1) (x2 := p2) (x3 := p4) hB rfl k12 d_8161_248 (Nat.le_of_ble_eq_true rfl) h (fun S13 h => ?_)
      refine zu_aload_n d_8161_251 rfl (zs_ra _) ?_
      refine zu_iconst d_8161_252 zi_2 ?_
      refine zu_iconst d_8161_253 zi_0 ?_
      refine zu_iconst d_8161_254 zi_0 ?_
      refine zu_iconst d_8161_255 zi_0 ?_
      obtain ⟨k15, h⟩ := h
      refine zc_8_649 (x0 := (2 : Int32)) (x1 := (0 : Int32)) (x2 := (0 : Int32)) (x3 := (0 : Int32)) hB rfl k15 d_8161_256 (Nat.le_of_ble_eq_true rfl) h (fun S16 h => ?_)
      exact (u_X9_varTyped_259 hB h).weak trivial
  · have h := h.2 c1
    refine zu_iload_n d_8161_133 rfl ?_
    refine zu_istore d_8161_134 (zs_lt zq_8161 rfl) ?_
    exact h.weak ⟨rfl, rfl, rfl, rfl, rfl, rfl, rfl, rfl, rfl, trivial⟩
def w_X9_varTyped_217 (X : zs_X) (d : Nat) (p0 : Nat) (p1 : Int32) (p2 : Int32) (p3 : Int32) (p4 : Int32) (p5 : Int32) (p6 : Int32) (p7 : Int32) (q0 : Option Nat) (q1 : Int32) (q2 : Int32) (q3 : Int32) (q4 : Int32) (S : zs_T) (Q : zs_Q) : Prop :=
  (∃ b1, q0 = some b1 ∧ zs_K S b1 = some (.inl 8) ∧ zs_C X d 8012 [.ref b1, .int q1, .int q2, .int q3, .int q4] S (zs_kI (fun v5 S4 => (zs_U X d 8161 127 [(0, .ref p0), (1, .int p1), (2, .int p2), (3, .int p3), (4, .int p4), (5, .int p5), (6, .int p6), (7, .int (p7 + (1 : Int32)))] [] S4 Q)) Q))
theorem u_X9_varTyped_217 {σ : Nat → Nat} {n0 : Nat} {bf : ab_B} {d : Nat} {p0 : Nat} {p1 : Int32} {p2 : Int32} {p3 : Int32} {p4 : Int32} {p5 : Int32} {p6 : Int32} {p7 : Int32} {q0 : Option Nat} {q1 : Int32} {q2 : Int32} {q3 : Int32} {q4 : Int32} {S : zs_T} {Q : zs_Q} (hB : zt_B bf) (h : w_X9_varTyped_217 (zx σ n0 bf) d p0 p1 p2 p3 p4 p5 p6 p7 q0 q1 q2 q3 q4 S Q) : zs_U (zx σ n0 bf) d 8161 217 [(0, .ref p0), (1, .int p1), (2, .int p2), (3, .int p3), (4, .int p4), (5, .int p5), (6, .int p6), (7, .int p7)] [.int q4, .int q3, .int q2, .int q1, va_rf q0] S Q := by
  unfold w_X9_varTyped_217 at h
  obtain ⟨b1, e2, h⟩ := h
  refine zs_stk4 (zs_rfe e2) ?_
  obtain ⟨k3, h⟩ := h
  refine zc_8_656 (x0 := q1) (x1 := q2) (x2 := q3) (x3 := q4) hB rfl k3 d_8161_217 (Nat.le_of_ble_eq_true rfl) h (fun v5 S4 h => ?_)
  refine zu_istore d_8161_220 (zs_lt zq_8161 rfl) ?_
  refine zu_iinc d_8161_222 rfl zi_1 (zs_lt zq_8161 rfl) ?_
  refine zu_goto (t := 127) d_8161_225 rfl ?_
  exact h.weak ⟨rfl, rfl, rfl, rfl, rfl, rfl, rfl, rfl, trivial⟩
def w_X9_varTyped_193 (X : zs_X) (d : Nat) (p0 : Nat) (p1 : Int32) (p2 : Int32) (p3 : Int32) (p4 : Int32) (p5 : Int32) (p6 : Int32) (p7 : Int32) (S : zs_T) (Q : zs_Q) : Prop :=
  (zs_K S p0 = some (.inl 8) ∧ ∃ b2, (zs_R S 8102 p0) = some b2 ∧ zs_A S b2 0 p1 ∧ ((p5 = 0 → (w_X9_varTyped_217 X d p0 p1 p2 p3 p4 p5 p6 p7 (some p0) (70 : Int32) ((zs_i S b2 p1.toNatClampNeg) + p7) p4 (0 : Int32) S Q)) ∧ (¬ (p5 = 0) → (w_X9_varTyped_217 X d p0 p1 p2 p3 p4 p5 p6 p7 (some p0) (70 : Int32) ((zs_i S b2 p1.toNatClampNeg) + p7) p4 (2 : Int32) S Q))))
theorem u_X9_varTyped_193 {σ : Nat → Nat} {n0 : Nat} {bf : ab_B} {d : Nat} {p0 : Nat} {p1 : Int32} {p2 : Int32} {p3 : Int32} {p4 : Int32} {p5 : Int32} {p6 : Int32} {p7 : Int32} {S : zs_T} {Q : zs_Q} (hB : zt_B bf) (h : w_X9_varTyped_193 (zx σ n0 bf) d p0 p1 p2 p3 p4 p5 p6 p7 S Q) : zs_U (zx σ n0 bf) d 8161 193 [(0, .ref p0), (1, .int p1), (2, .int p2), (3, .int p3), (4, .int p4), (5, .int p5), (6, .int p6), (7, .int p7)] [] S Q := by
  unfold w_X9_varTyped_193 at h
  refine zu_aload_n d_8161_193 rfl (zs_ra _) ?_
  refine zu_bipush d_8161_194 zj_70 ?_
  refine zu_aload_n d_8161_196 rfl (zs_ra _) ?_
  obtain ⟨k1, h⟩ := h
  refine zg_8_221 rfl d_8161_197 k1 ?_
  refine zu_iload_n d_8161_200 rfl ?_
  obtain ⟨b2, e3, h⟩ := h
  refine zs_stk1 (zs_rfe e3) ?_
  obtain ⟨k4, h⟩ := h
  refine zu_iald (k := 0) d_8161_201 rfl rfl k4 ?_
  refine zu_iload d_8161_202 rfl ?_
  refine zu_stk d_8161_204 rfl rfl ?_
  refine zu_iload d_8161_205 rfl ?_
  refine zu_iload d_8161_207 rfl ?_
  refine zu_ifeq (t := 216) d_8161_209 rfl (fun c5 => ?_) (fun c5 => ?_)
  · have h := h.1 c5
    refine zu_iconst d_8161_216 zi_0 ?_
    exact (u_X9_varTyped_217 hB h).weak ⟨rfl, rfl, rfl, rfl, rfl, rfl, rfl, rfl, trivial⟩
  · have h := h.2 c5
    refine zu_iconst d_8161_212 zi_2 ?_
    refine zu_goto (t := 217) d_8161_213 rfl ?_
    exact (u_X9_varTyped_217 hB h).weak ⟨rfl, rfl, rfl, rfl, rfl, rfl, rfl, rfl, trivial⟩
def w_X9_varTyped_187 (X : zs_X) (d : Nat) (p0 : Nat) (p1 : Int32) (p2 : Int32) (p3 : Int32) (p4 : Int32) (p5 : Int32) (p6 : Int32) (p7 : Int32) (p8 : Int32) (S : zs_T) (Q : zs_Q) : Prop :=
  (zs_U X d 8161 136 [(0, .ref p0), (1, .int p1), (2, .int p2), (3, .int p3), (4, .int p4), (5, .int p5), (6, .int p6), (7, .int p7), (8, .int (p8 + (1 : Int32)))] [] S Q)
theorem u_X9_varTyped_187 {σ : Nat → Nat} {n0 : Nat} {bf : ab_B} {d : Nat} {p0 : Nat} {p1 : Int32} {p2 : Int32} {p3 : Int32} {p4 : Int32} {p5 : Int32} {p6 : Int32} {p7 : Int32} {p8 : Int32} {S : zs_T} {Q : zs_Q} (hB : zt_B bf) (h : w_X9_varTyped_187 (zx σ n0 bf) d p0 p1 p2 p3 p4 p5 p6 p7 p8 S Q) : zs_U (zx σ n0 bf) d 8161 187 [(0, .ref p0), (1, .int p1), (2, .int p2), (3, .int p3), (4, .int p4), (5, .int p5), (6, .int p6), (7, .int p7), (8, .int p8)] [] S Q := by
  unfold w_X9_varTyped_187 at h
  refine zu_iinc d_8161_187 rfl zi_1 (zs_lt zq_8161 rfl) ?_
  refine zu_goto (t := 136) d_8161_190 rfl ?_
  exact h.weak ⟨rfl, rfl, rfl, rfl, rfl, rfl, rfl, rfl, rfl, trivial⟩
def w_X9_varTyped_136 (X : zs_X) (d : Nat) (p0 : Nat) (p1 : Int32) (p2 : Int32) (p3 : Int32) (p4 : Int32) (p5 : Int32) (p6 : Int32) (p7 : Int32) (p8 : Int32) (S : zs_T) (Q : zs_Q) : Prop :=
  (((p5 = 0 → w_X9_varTyped_193 X d p0 p1 p2 p3 p4 p5 p6 p7 S Q) ∧ (¬ (p5 = 0) → (((p7 ≤ 0 → w_X9_varTyped_193 X d p0 p1 p2 p3 p4 p5 p6 p7 S Q) ∧ (¬ (p7 ≤ 0) → (((p6 ≤ p8 → w_X9_varTyped_193 X d p0 p1 p2 p3 p4 p5 p6 p7 S Q) ∧ (¬ (p6 ≤ p8) → (zs_K S p0 = some (.inl 8) ∧ ∃ b5, (zs_R S 8036 p0) = some b5 ∧ zs_A S b5 0 p8 ∧ ∃ b8, (zs_R S 8037 p0) = some b8 ∧ zs_A S b8 0 p8 ∧ ∃ b11, (zs_R S 8038 p0) = some b11 ∧ zs_A S b11 0 p8 ∧ ∃ b14, (zs_R S 8039 p0) = some b14 ∧ zs_A S b14 0 p8 ∧ zs_C X d 8012 [.ref p0, .int (zs_i S b5 p8.toNatClampNeg), .int (zs_i S b8 p8.toNatClampNeg), .int (zs_i S b11 p8.toNatClampNeg), .int (zs_i S b14 p8.toNatClampNeg)] S (zs_kI (fun v18 S17 => (w_X9_varTyped_187 X d p0 p1 p2 p3 p4 p5 p6 p7 p8 S17 Q)) Q)))))))))))
theorem u_X9_varTyped_136 {σ : Nat → Nat} {n0 : Nat} {bf : ab_B} {d : Nat} {p0 : Nat} {p1 : Int32} {p2 : Int32} {p3 : Int32} {p4 : Int32} {p5 : Int32} {p6 : Int32} {p7 : Int32} {p8 : Int32} {S : zs_T} {Q : zs_Q} (hB : zt_B bf) (h : w_X9_varTyped_136 (zx σ n0 bf) d p0 p1 p2 p3 p4 p5 p6 p7 p8 S Q) : zs_U (zx σ n0 bf) d 8161 136 [(0, .ref p0), (1, .int p1), (2, .int p2), (3, .int p3), (4, .int p4), (5, .int p5), (6, .int p6), (7, .int p7), (8, .int p8)] [] S Q := by
  unfold w_X9_varTyped_136 at h
  refine zu_iload d_8161_136 rfl ?_
  refine zu_ifeq (t := 193) d_8161_138 rfl (fun c1 => ?_) (fun c1 => ?_)
  · have h := h.1 c1
    exact (u_X9_varTyped_193 hB h).weak ⟨rfl, rfl, rfl, rfl, rfl, rfl, rfl, rfl, trivial⟩
  · have h := h.2 c1
    refine zu_iload d_8161_141 rfl ?_
    refine zu_ifle (t := 193) d_8161_143 rfl (fun c2 => ?_) (fun c2 => ?_)
    · have h := h.1 c2
      exact (u_X9_varTyped_193 hB h).weak ⟨rfl, rfl, rfl, rfl, rfl, rfl, rfl, rfl, trivial⟩
    · have h := h.2 c2
      refine zu_iload d_8161_146 rfl ?_
      refine zu_iload d_8161_148 rfl ?_
      refine zu_cmpge (t := 193) d_8161_150 rfl (fun c3 => ?_) (fun c3 => ?_)
      · have h := h.1 c3
        exact (u_X9_varTyped_193 hB h).weak ⟨rfl, rfl, rfl, rfl, rfl, rfl, rfl, rfl, trivial⟩
      · have h := h.2 c3
        refine zu_aload_n d_8161_153 rfl (zs_ra _) ?_
        refine zu_aload_n d_8161_154 rfl (zs_ra _) ?_
        obtain ⟨k4, h⟩ := h
        refine zg_8_72 rfl d_8161_155 k4 ?_
        refine zu_iload d_8161_158 rfl ?_
        obtain ⟨b5, e6, h⟩ := h
        refine zs_stk1 (zs_rfe e6) ?_
        obtain ⟨k7, h⟩ := h
        refine zu_iald (k := 0) d_8161_160 rfl rfl k7 ?_
        refine zu_aload_n d_8161_161 rfl (zs_ra _) ?_
        refine zg_8_75 rfl d_8161_162 k4 ?_
        refine zu_iload d_8161_165 rfl ?_
        obtain ⟨b8, e9, h⟩ := h
        refine zs_stk1 (zs_rfe e9) ?_
        obtain ⟨k10, h⟩ := h
        refine zu_iald (k := 0) d_8161_167 rfl rfl k10 ?_
        refine zu_aload_n d_8161_168 rfl (zs_ra _) ?_
        refine zg_8_78 rfl d_8161_169 k4 ?_
        refine zu_iload d_8161_172 rfl ?_
        obtain ⟨b11, e12, h⟩ := h
        refine zs_stk1 (zs_rfe e12) ?_
        obtain ⟨k13, h⟩ := h
        refine zu_iald (k := 0) d_8161_174 rfl rfl k13 ?_
        refine zu_aload_n d_8161_175 rfl (zs_ra _) ?_
        refine zg_8_81 rfl d_8161_176 k4 ?_
        refine zu_iload d_8161_179 rfl ?_
        obtain ⟨b14, e15, h⟩ := h
        refine zs_stk1 (zs_rfe e15) ?_
        obtain ⟨k16, h⟩ := h
        refine zu_iald (k := 0) d_8161_181 rfl rfl k16 ?_
        refine zc_8_656 (x0 := (zs_i S b5 p8.toNatClampNeg)) (x1 := (zs_i S b8 p8.toNatClampNeg)) (x2 := (zs_i S b11 p8.toNatClampNeg)) (x3 := (zs_i S b14 p8.toNatClampNeg)) hB rfl k4 d_8161_182 (Nat.le_of_ble_eq_true rfl) h (fun v18 S17 h => ?_)
        refine zu_istore d_8161_185 (zs_lt zq_8161 rfl) ?_
        exact (u_X9_varTyped_187 hB h).weak ⟨rfl, rfl, rfl, rfl, rfl, rfl, rfl, rfl, rfl, trivial⟩
def w_X9_varTyped (X : zs_X) (d : Nat) (p0 : Nat) (p1 : Int32) (p2 : Int32) (p3 : Int32) (S : zs_T) (Q : zs_Q) : Prop :=
  (zs_K S p0 = some (.inl 8) ∧ (((zs_I S 8010 p0) ≤ 0 → (ab_n0 X.1 ≤ p0 ∧ ∀ S4, S4 = zs_sI S 8129 p0 ((zs_I S 8129 p0) - (1 : Int32)) → ∃ b7, (zs_R S4 8128 p0) = some b7 ∧ zs_A S b7 0 (zs_I S4 8129 p0) ∧ ((p2 ≤ (2 : Int32) → w_X9_varTyped_52 X d p0 p1 p2 p3 (zs_i S4 b7 (zs_I S4 8129 p0).toNatClampNeg) S4 Q) ∧ (¬ (p2 ≤ (2 : Int32)) → w_X9_varTyped_34 X d p0 p1 p2 p3 (zs_i S4 b7 (zs_I S4 8129 p0).toNatClampNeg) S4 Q)))) ∧ (¬ ((zs_I S 8010 p0) ≤ 0) → (Q (.returned none) S))))
theorem u_X9_varTyped {σ : Nat → Nat} {n0 : Nat} {bf : ab_B} {d : Nat} {p0 : Nat} {p1 : Int32} {p2 : Int32} {p3 : Int32} {S : zs_T} {Q : zs_Q} (hB : zt_B bf) (hd : 1 ≤ d) (h : w_X9_varTyped (zx σ n0 bf) (d - 1) p0 p1 p2 p3 S Q) : zs_C (zx σ n0 bf) d 8161 [.ref p0, .int p1, .int p2, .int p3] S Q := by
  have hL : lv_args 0 [.ref p0, .int p1, .int p2, .int p3] = [(0, .ref p0), (1, .int p1), (2, .int p2), (3, .int p3)] := rfl
  refine zs_C.of1 (hB.2 8161 (by decide) (by decide)) hd (by rw [hL]; exact zs_sub_self _ (by exact ⟨rfl, rfl, rfl, rfl, trivial⟩)) ?_
  rw [hL]
  clear hL
  unfold w_X9_varTyped at h
  refine zu_aload_n d_8161_0 rfl (zs_ra _) ?_
  obtain ⟨k1, h⟩ := h
  refine zg_8_444 rfl d_8161_1 k1 ?_
  refine zu_ifle (t := 8) d_8161_4 rfl (fun c2 => ?_) (fun c2 => ?_)
  · have h := h.1 c2
    refine zu_aload_n d_8161_8 rfl (zs_ra _) ?_
    refine zu_dup d_8161_9 rfl ?_
    refine zg_8_831 rfl d_8161_10 k1 ?_
    refine zu_iconst d_8161_13 zi_1 ?_
    refine zu_stk d_8161_14 rfl rfl ?_
    obtain ⟨k3, h⟩ := h
    refine zp_8_831 (v := ((zs_I S 8129 p0) - (1 : Int32))) rfl d_8161_15 k1 k3 ?_
    generalize e5 : zs_sI S 8129 p0 ((zs_I S 8129 p0) - (1 : Int32)) = S4
    have h := h S4 e5.symm
    have K6 : ∀ b, zs_K S4 b = zs_K S b := zs_Kt e5 (zs_KsI _ _ _ _) (fun _ => rfl)
    refine zu_aload_n d_8161_18 rfl (zs_ra _) ?_
    refine zg_8_278 rfl d_8161_19 ((K6 _).trans k1) ?_
    refine zu_aload_n d_8161_22 rfl (zs_ra _) ?_
    refine zg_8_831 rfl d_8161_23 ((K6 _).trans k1) ?_
    obtain ⟨b7, e8, h⟩ := h
    refine zs_stk1 (zs_rfe e8) ?_
    obtain ⟨k9, h⟩ := h
    refine zu_iald (k := 0) d_8161_26 rfl rfl (zs_Ak K6 k9) ?_
    refine zu_istore d_8161_27 (zs_lt zq_8161 rfl) ?_
    refine zu_iload_n d_8161_29 rfl ?_
    refine zu_iconst d_8161_30 zi_2 ?_
    refine zu_cmple (t := 52) d_8161_31 rfl (fun c10 => ?_) (fun c10 => ?_)
    · have h := h.1 c10
      exact (u_X9_varTyped_52 hB h).weak ⟨rfl, rfl, rfl, rfl, rfl, trivial⟩
    · have h := h.2 c10
      exact (u_X9_varTyped_34 hB h).weak ⟨rfl, rfl, rfl, rfl, rfl, trivial⟩
  · have h := h.2 c2
    exact zu_vret d_8161_7 zr_8161 h
/-! SchemaPascalModel.varsDone(III)V -/
theorem zm_8162 {σ : Nat → Nat} {n0 : Nat} {bf : ab_B} : ab_code (zx σ n0 bf).1 8162 = prog_17_method_152_code := rfl
theorem zq_8162 {σ : Nat → Nat} {n0 : Nat} {bf : ab_B} : ab_maxL (zx σ n0 bf).1 8162 = 6 := rfl
theorem zr_8162 {σ : Nat → Nat} {n0 : Nat} {bf : ab_B} : ab_ret (zx σ n0 bf).1 8162 = (Option.none : Option Jvm.ClassFile.FieldType) := rfl
theorem d_8162_0 {σ : Nat → Nat} {n0 : Nat} {bf : ab_B} : decode (ab_code (zx σ n0 bf).1 8162) 0 = .ok (.aload_n 0, 1) := zd zm_8162 (by decide +kernel)
theorem d_8162_1 {σ : Nat → Nat} {n0 : Nat} {bf : ab_B} : decode (ab_code (zx σ n0 bf).1 8162) 1 = .ok (.bipush 13, 2) := zd zm_8162 (by decide +kernel)
theorem d_8162_3 {σ : Nat → Nat} {n0 : Nat} {bf : ab_B} : decode (ab_code (zx σ n0 bf).1 8162) 3 = .ok (.invokevirtual 746, 3) := zd zm_8162 (by decide +kernel)
theorem d_8162_6 {σ : Nat → Nat} {n0 : Nat} {bf : ab_B} : decode (ab_code (zx σ n0 bf).1 8162) 6 = .ok (.iconst 0, 1) := zd zm_8162 (by decide +kernel)
theorem d_8162_7 {σ : Nat → Nat} {n0 : Nat} {bf : ab_B} : decode (ab_code (zx σ n0 bf).1 8162) 7 = .ok (.istore 4, 2) := zd zm_8162 (by decide +kernel)
theorem d_8162_9 {σ : Nat → Nat} {n0 : Nat} {bf : ab_B} : decode (ab_code (zx σ n0 bf).1 8162) 9 = .ok (.iload 4, 2) := zd zm_8162 (by decide +kernel)
theorem d_8162_11 {σ : Nat → Nat} {n0 : Nat} {bf : ab_B} : decode (ab_code (zx σ n0 bf).1 8162) 11 = .ok (.iload_n 2, 1) := zd zm_8162 (by decide +kernel)
theorem d_8162_12 {σ : Nat → Nat} {n0 : Nat} {bf : ab_B} : decode (ab_code (zx σ n0 bf).1 8162) 12 = .ok (.if_icmp .ge 52, 3) := zd zm_8162 (by decide +kernel)
theorem d_8162_15 {σ : Nat → Nat} {n0 : Nat} {bf : ab_B} : decode (ab_code (zx σ n0 bf).1 8162) 15 = .ok (.aload_n 0, 1) := zd zm_8162 (by decide +kernel)
theorem d_8162_16 {σ : Nat → Nat} {n0 : Nat} {bf : ab_B} : decode (ab_code (zx σ n0 bf).1 8162) 16 = .ok (.getfield 444, 3) := zd zm_8162 (by decide +kernel)
theorem d_8162_19 {σ : Nat → Nat} {n0 : Nat} {bf : ab_B} : decode (ab_code (zx σ n0 bf).1 8162) 19 = .ok (.ifCond .ne 45, 3) := zd zm_8162 (by decide +kernel)
theorem d_8162_22 {σ : Nat → Nat} {n0 : Nat} {bf : ab_B} : decode (ab_code (zx σ n0 bf).1 8162) 22 = .ok (.aload_n 0, 1) := zd zm_8162 (by decide +kernel)
theorem d_8162_23 {σ : Nat → Nat} {n0 : Nat} {bf : ab_B} : decode (ab_code (zx σ n0 bf).1 8162) 23 = .ok (.aload_n 0, 1) := zd zm_8162 (by decide +kernel)
theorem d_8162_24 {σ : Nat → Nat} {n0 : Nat} {bf : ab_B} : decode (ab_code (zx σ n0 bf).1 8162) 24 = .ok (.getfield 305, 3) := zd zm_8162 (by decide +kernel)
theorem d_8162_27 {σ : Nat → Nat} {n0 : Nat} {bf : ab_B} : decode (ab_code (zx σ n0 bf).1 8162) 27 = .ok (.iload 4, 2) := zd zm_8162 (by decide +kernel)
theorem d_8162_29 {σ : Nat → Nat} {n0 : Nat} {bf : ab_B} : decode (ab_code (zx σ n0 bf).1 8162) 29 = .ok (.iaload, 1) := zd zm_8162 (by decide +kernel)
theorem d_8162_30 {σ : Nat → Nat} {n0 : Nat} {bf : ab_B} : decode (ab_code (zx σ n0 bf).1 8162) 30 = .ok (.iconst 4, 1) := zd zm_8162 (by decide +kernel)
theorem d_8162_31 {σ : Nat → Nat} {n0 : Nat} {bf : ab_B} : decode (ab_code (zx σ n0 bf).1 8162) 31 = .ok (.iload_n 3, 1) := zd zm_8162 (by decide +kernel)
theorem d_8162_32 {σ : Nat → Nat} {n0 : Nat} {bf : ab_B} : decode (ab_code (zx σ n0 bf).1 8162) 32 = .ok (.aload_n 0, 1) := zd zm_8162 (by decide +kernel)
theorem d_8162_33 {σ : Nat → Nat} {n0 : Nat} {bf : ab_B} : decode (ab_code (zx σ n0 bf).1 8162) 33 = .ok (.getfield 221, 3) := zd zm_8162 (by decide +kernel)
theorem d_8162_36 {σ : Nat → Nat} {n0 : Nat} {bf : ab_B} : decode (ab_code (zx σ n0 bf).1 8162) 36 = .ok (.iload_n 1, 1) := zd zm_8162 (by decide +kernel)
theorem d_8162_37 {σ : Nat → Nat} {n0 : Nat} {bf : ab_B} : decode (ab_code (zx σ n0 bf).1 8162) 37 = .ok (.iaload, 1) := zd zm_8162 (by decide +kernel)
theorem d_8162_38 {σ : Nat → Nat} {n0 : Nat} {bf : ab_B} : decode (ab_code (zx σ n0 bf).1 8162) 38 = .ok (.ldc_w 943, 3) := zd zm_8162 (by decide +kernel)
theorem d_8162_41 {σ : Nat → Nat} {n0 : Nat} {bf : ab_B} : decode (ab_code (zx σ n0 bf).1 8162) 41 = .ok (.ior, 1) := zd zm_8162 (by decide +kernel)
theorem d_8162_42 {σ : Nat → Nat} {n0 : Nat} {bf : ab_B} : decode (ab_code (zx σ n0 bf).1 8162) 42 = .ok (.iload_n 1, 1) := zd zm_8162 (by decide +kernel)
theorem d_8162_43 {σ : Nat → Nat} {n0 : Nat} {bf : ab_B} : decode (ab_code (zx σ n0 bf).1 8162) 43 = .ok (.invokevirtual 606, 3) := zd zm_8162 (by decide +kernel)
theorem d_8162_46 {σ : Nat → Nat} {n0 : Nat} {bf : ab_B} : decode (ab_code (zx σ n0 bf).1 8162) 46 = .ok (.istore 5, 2) := zd zm_8162 (by decide +kernel)
theorem d_8162_48 {σ : Nat → Nat} {n0 : Nat} {bf : ab_B} : decode (ab_code (zx σ n0 bf).1 8162) 48 = .ok (.aload_n 0, 1) := zd zm_8162 (by decide +kernel)
theorem d_8162_49 {σ : Nat → Nat} {n0 : Nat} {bf : ab_B} : decode (ab_code (zx σ n0 bf).1 8162) 49 = .ok (.getfield 221, 3) := zd zm_8162 (by decide +kernel)
theorem d_8162_52 {σ : Nat → Nat} {n0 : Nat} {bf : ab_B} : decode (ab_code (zx σ n0 bf).1 8162) 52 = .ok (.iload_n 1, 1) := zd zm_8162 (by decide +kernel)
theorem d_8162_53 {σ : Nat → Nat} {n0 : Nat} {bf : ab_B} : decode (ab_code (zx σ n0 bf).1 8162) 53 = .ok (.dup2, 1) := zd zm_8162 (by decide +kernel)
theorem d_8162_54 {σ : Nat → Nat} {n0 : Nat} {bf : ab_B} : decode (ab_code (zx σ n0 bf).1 8162) 54 = .ok (.iaload, 1) := zd zm_8162 (by decide +kernel)
theorem d_8162_55 {σ : Nat → Nat} {n0 : Nat} {bf : ab_B} : decode (ab_code (zx σ n0 bf).1 8162) 55 = .ok (.iconst 1, 1) := zd zm_8162 (by decide +kernel)
theorem d_8162_56 {σ : Nat → Nat} {n0 : Nat} {bf : ab_B} : decode (ab_code (zx σ n0 bf).1 8162) 56 = .ok (.iadd, 1) := zd zm_8162 (by decide +kernel)
theorem d_8162_57 {σ : Nat → Nat} {n0 : Nat} {bf : ab_B} : decode (ab_code (zx σ n0 bf).1 8162) 57 = .ok (.iastore, 1) := zd zm_8162 (by decide +kernel)
theorem d_8162_58 {σ : Nat → Nat} {n0 : Nat} {bf : ab_B} : decode (ab_code (zx σ n0 bf).1 8162) 58 = .ok (.iinc 4 1, 3) := zd zm_8162 (by decide +kernel)
theorem d_8162_61 {σ : Nat → Nat} {n0 : Nat} {bf : ab_B} : decode (ab_code (zx σ n0 bf).1 8162) 61 = .ok (.goto (-52), 3) := zd zm_8162 (by decide +kernel)
theorem d_8162_64 {σ : Nat → Nat} {n0 : Nat} {bf : ab_B} : decode (ab_code (zx σ n0 bf).1 8162) 64 = .ok (.aload_n 0, 1) := zd zm_8162 (by decide +kernel)
theorem d_8162_65 {σ : Nat → Nat} {n0 : Nat} {bf : ab_B} : decode (ab_code (zx σ n0 bf).1 8162) 65 = .ok (.bipush 66, 2) := zd zm_8162 (by decide +kernel)
theorem d_8162_67 {σ : Nat → Nat} {n0 : Nat} {bf : ab_B} : decode (ab_code (zx σ n0 bf).1 8162) 67 = .ok (.iconst 0, 1) := zd zm_8162 (by decide +kernel)
theorem d_8162_68 {σ : Nat → Nat} {n0 : Nat} {bf : ab_B} : decode (ab_code (zx σ n0 bf).1 8162) 68 = .ok (.iload_n 1, 1) := zd zm_8162 (by decide +kernel)
theorem d_8162_69 {σ : Nat → Nat} {n0 : Nat} {bf : ab_B} : decode (ab_code (zx σ n0 bf).1 8162) 69 = .ok (.iconst 0, 1) := zd zm_8162 (by decide +kernel)
theorem d_8162_70 {σ : Nat → Nat} {n0 : Nat} {bf : ab_B} : decode (ab_code (zx σ n0 bf).1 8162) 70 = .ok (.invokevirtual 649, 3) := zd zm_8162 (by decide +kernel)
theorem d_8162_73 {σ : Nat → Nat} {n0 : Nat} {bf : ab_B} : decode (ab_code (zx σ n0 bf).1 8162) 73 = .ok (.return_, 1) := zd zm_8162 (by decide +kernel)
def w_X9_varsDone_64 (X : zs_X) (d : Nat) (p0 : Nat) (p1 : Int32) (S : zs_T) (Q : zs_Q) : Prop :=
  (zs_K S p0 = some (.inl 8) ∧ zs_C X d 8030 [.ref p0, .int (66 : Int32), .int (0 : Int32), .int p1, .int (0 : Int32)] S (zs_kV (fun S2 => (Q (.returned none) S2)) Q))
theorem u_X9_varsDone_64 {σ : Nat → Nat} {n0 : Nat} {bf : ab_B} {d : Nat} {p0 : Nat} {p1 : Int32} {S : zs_T} {Q : zs_Q} (hB : zt_B bf) (h : w_X9_varsDone_64 (zx σ n0 bf) d p0 p1 S Q) : zs_U (zx σ n0 bf) d 8162 64 [(0, .ref p0), (1, .int p1)] [] S Q := by
  unfold w_X9_varsDone_64 at h
  refine zu_aload_n d_8162_64 rfl (zs_ra _) ?_
  refine zu_bipush d_8162_65 zj_66 ?_
  refine zu_iconst d_8162_67 zi_0 ?_
  refine zu_iload_n d_8162_68 rfl ?_
  refine zu_iconst d_8162_69 zi_0 ?_
  obtain ⟨k1, h⟩ := h
  refine zc_8_649 (x0 := (66 : Int32)) (x1 := (0 : Int32)) (x2 := p1) (x3 := (0 : Int32)) hB rfl k1 d_8162_70 (Nat.le_of_ble_eq_true rfl) h (fun S2 h => ?_)
  exact zu_vret d_8162_73 zr_8162 h
def w_X9_varsDone_48 (X : zs_X) (d : Nat) (p0 : Nat) (p1 : Int32) (p2 : Int32) (p3 : Int32) (p4 : Int32) (S : zs_T) (Q : zs_Q) : Prop :=
  (zs_K S p0 = some (.inl 8) ∧ ∃ b2, (zs_R S 8102 p0) = some b2 ∧ zs_A S b2 0 p1 ∧ ab_n0 X.1 ≤ b2 ∧ ∀ S6, S6 = zs_si S b2 p1.toNatClampNeg ((zs_i S b2 p1.toNatClampNeg) + (1 : Int32)) → zs_U X d 8162 9 [(0, .ref p0), (1, .int p1), (2, .int p2), (3, .int p3), (4, .int (p4 + (1 : Int32)))] [] S6 Q)
theorem u_X9_varsDone_48 {σ : Nat → Nat} {n0 : Nat} {bf : ab_B} {d : Nat} {p0 : Nat} {p1 : Int32} {p2 : Int32} {p3 : Int32} {p4 : Int32} {S : zs_T} {Q : zs_Q} (hB : zt_B bf) (h : w_X9_varsDone_48 (zx σ n0 bf) d p0 p1 p2 p3 p4 S Q) : zs_U (zx σ n0 bf) d 8162 48 [(0, .ref p0), (1, .int p1), (2, .int p2), (3, .int p3), (4, .int p4)] [] S Q := by
  unfold w_X9_varsDone_48 at h
  refine zu_aload_n d_8162_48 rfl (zs_ra _) ?_
  obtain ⟨k1, h⟩ := h
  refine zg_8_221 rfl d_8162_49 k1 ?_
  refine zu_iload_n d_8162_52 rfl ?_
  refine zu_dup2 d_8162_53 rfl (zs_cat _) ?_
  obtain ⟨b2, e3, h⟩ := h
  refine zs_stk1 (zs_rfe e3) ?_
  obtain ⟨k4, h⟩ := h
  refine zu_iald (k := 0) d_8162_54 rfl rfl k4 ?_
  refine zu_iconst d_8162_55 zi_1 ?_
  refine zu_stk d_8162_56 rfl rfl ?_
  refine zs_stk2 (zs_rfe e3) ?_
  obtain ⟨k5, h⟩ := h
  refine zu_iast (k := 0) d_8162_57 rfl rfl k5 k4 ?_
  generalize e7 : zs_si S b2 p1.toNatClampNeg ((zs_i S b2 p1.toNatClampNeg) + (1 : Int32)) = S6
  have h := h S6 e7.symm
  have K8 : ∀ b, zs_K S6 b = zs_K S b := zs_Kt e7 (zs_Ksi _ _ _ _) (fun _ => rfl)
  refine zu_iinc d_8162_58 rfl zi_1 (zs_lt zq_8162 rfl) ?_
  refine zu_goto (t := 9) d_8162_61 rfl ?_
  exact h.weak ⟨rfl, rfl, rfl, rfl, rfl, trivial⟩
def w_X9_varsDone_9 (X : zs_X) (d : Nat) (p0 : Nat) (p1 : Int32) (p2 : Int32) (p3 : Int32) (p4 : Int32) (S : zs_T) (Q : zs_Q) : Prop :=
  (((p2 ≤ p4 → w_X9_varsDone_64 X d p0 p1 S Q) ∧ (¬ (p2 ≤ p4) → (zs_K S p0 = some (.inl 8) ∧ ((¬ (zs_I S 8010 p0) = 0 → w_X9_varsDone_64 X d p0 p1 S Q) ∧ (¬ (¬ (zs_I S 8010 p0) = 0) → (∃ b4, (zs_R S 8143 p0) = some b4 ∧ zs_A S b4 0 p4 ∧ ∃ b7, (zs_R S 8102 p0) = some b7 ∧ zs_A S b7 0 p1 ∧ zs_C X d 8011 [.ref p0, .int (zs_i S b4 p4.toNatClampNeg), .int (4 : Int32), .int p3, .int ((zs_i S b7 p1.toNatClampNeg) ||| (131072 : Int32)), .int p1] S (zs_kI (fun v11 S10 => (w_X9_varsDone_48 X d p0 p1 p2 p3 p4 S10 Q)) Q))))))))
theorem u_X9_varsDone_9 {σ : Nat → Nat} {n0 : Nat} {bf : ab_B} {d : Nat} {p0 : Nat} {p1 : Int32} {p2 : Int32} {p3 : Int32} {p4 : Int32} {S : zs_T} {Q : zs_Q} (hB : zt_B bf) (h : w_X9_varsDone_9 (zx σ n0 bf) d p0 p1 p2 p3 p4 S Q) : zs_U (zx σ n0 bf) d 8162 9 [(0, .ref p0), (1, .int p1), (2, .int p2), (3, .int p3), (4, .int p4)] [] S Q := by
  unfold w_X9_varsDone_9 at h
  refine zu_iload d_8162_9 rfl ?_
  refine zu_iload_n d_8162_11 rfl ?_
  refine zu_cmpge (t := 64) d_8162_12 rfl (fun c1 => ?_) (fun c1 => ?_)
  · have h := h.1 c1
    exact (u_X9_varsDone_64 hB h).weak ⟨rfl, rfl, trivial⟩
  · have h := h.2 c1
    refine zu_aload_n d_8162_15 rfl (zs_ra _) ?_
    obtain ⟨k2, h⟩ := h
    refine zg_8_444 rfl d_8162_16 k2 ?_
    refine zu_ifne (t := 64) d_8162_19 rfl (fun c3 => ?_) (fun c3 => ?_)
    · have h := h.1 c3
      exact (u_X9_varsDone_64 hB h).weak ⟨rfl, rfl, trivial⟩
    · have h := h.2 c3
      refine zu_aload_n d_8162_22 rfl (zs_ra _) ?_
      refine zu_aload_n d_8162_23 rfl (zs_ra _) ?_
      refine zg_8_305 rfl d_8162_24 k2 ?_
      refine zu_iload d_8162_27 rfl ?_
      obtain ⟨b4, e5, h⟩ := h
      refine zs_stk1 (zs_rfe e5) ?_
      obtain ⟨k6, h⟩ := h
      refine zu_iald (k := 0) d_8162_29 rfl rfl k6 ?_
      refine zu_iconst d_8162_30 zi_4 ?_
      refine zu_iload_n d_8162_31 rfl ?_
      refine zu_aload_n d_8162_32 rfl (zs_ra _) ?_
      refine zg_8_221 rfl d_8162_33 k2 ?_
      refine zu_iload_n d_8162_36 rfl ?_
      obtain ⟨b7, e8, h⟩ := h
      refine zs_stk1 (zs_rfe e8) ?_
      obtain ⟨k9, h⟩ := h
      refine zu_iald (k := 0) d_8162_37 rfl rfl k9 ?_
      refine zlw_8_943 rfl d_8162_38 ?_
      refine zu_stk d_8162_41 rfl rfl ?_
      refine zu_iload_n d_8162_42 rfl ?_
      refine zc_8_606 (x0 := (zs_i S b4 p4.toNatClampNeg)) (x1 := (4 : Int32)) (x2 := p3) (x3 := ((zs_i S b7 p1.toNatClampNeg) ||| (131072 : Int32))) (x4 := p1) hB rfl k2 d_8162_43 (Nat.le_of_ble_eq_true rfl) h (fun v11 S10 h => ?_)
      refine zu_istore d_8162_46 (zs_lt zq_8162 rfl) ?_
      exact (u_X9_varsDone_48 hB h).weak ⟨rfl, rfl, rfl, rfl, rfl, trivial⟩
def w_X9_varsDone (X : zs_X) (d : Nat) (p0 : Nat) (p1 : Int32) (p2 : Int32) (p3 : Int32) (S : zs_T) (Q : zs_Q) : Prop :=
  (zs_K S p0 = some (.inl 8) ∧ zs_C X d 8028 [.ref p0, .int (13 : Int32)] S (zs_kV (fun S2 => (zs_U X d 8162 9 [(0, .ref p0), (1, .int p1), (2, .int p2), (3, .int p3), (4, .int (0 : Int32))] [] S2 Q)) Q))
theorem u_X9_varsDone {σ : Nat → Nat} {n0 : Nat} {bf : ab_B} {d : Nat} {p0 : Nat} {p1 : Int32} {p2 : Int32} {p3 : Int32} {S : zs_T} {Q : zs_Q} (hB : zt_B bf) (hd : 1 ≤ d) (h : w_X9_varsDone (zx σ n0 bf) (d - 1) p0 p1 p2 p3 S Q) : zs_C (zx σ n0 bf) d 8162 [.ref p0, .int p1, .int p2, .int p3] S Q := by
  have hL : lv_args 0 [.ref p0, .int p1, .int p2, .int p3] = [(0, .ref p0), (1, .int p1), (2, .int p2), (3, .int p3)] := rfl
  refine zs_C.of1 (hB.2 8162 (by decide) (by decide)) hd (by rw [hL]; exact zs_sub_self _ (by exact ⟨rfl, rfl, rfl, rfl, trivial⟩)) ?_
  rw [hL]
  clear hL
  unfold w_X9_varsDone at h
  refine zu_aload_n d_8162_0 rfl (zs_ra _) ?_
  refine zu_bipush d_8162_1 zj_13 ?_
  obtain ⟨k1, h⟩ := h
  refine zc_8_746 (x0 := (13 : Int32)) hB rfl k1 d_8162_3 (Nat.le_of_ble_eq_true rfl) h (fun S2 h => ?_)
  refine zu_iconst d_8162_6 zi_0 ?_
  refine zu_istore d_8162_7 (zs_lt zq_8162 rfl) ?_
  exact h.weak ⟨rfl, rfl, rfl, rfl, rfl, trivial⟩
/-! SchemaPascalModel.valued(III)V -/
theorem zm_8163 {σ : Nat → Nat} {n0 : Nat} {bf : ab_B} : ab_code (zx σ n0 bf).1 8163 = prog_17_method_153_code := rfl
theorem zq_8163 {σ : Nat → Nat} {n0 : Nat} {bf : ab_B} : ab_maxL (zx σ n0 bf).1 8163 = 13 := rfl
theorem zr_8163 {σ : Nat → Nat} {n0 : Nat} {bf : ab_B} : ab_ret (zx σ n0 bf).1 8163 = (Option.none : Option Jvm.ClassFile.FieldType) := rfl
theorem d_8163_0 {σ : Nat → Nat} {n0 : Nat} {bf : ab_B} : decode (ab_code (zx σ n0 bf).1 8163) 0 = .ok (.aload_n 0, 1) := zd zm_8163 (by decide +kernel)
theorem d_8163_1 {σ : Nat → Nat} {n0 : Nat} {bf : ab_B} : decode (ab_code (zx σ n0 bf).1 8163) 1 = .ok (.getfield 444, 3) := zd zm_8163 (by decide +kernel)
theorem d_8163_4 {σ : Nat → Nat} {n0 : Nat} {bf : ab_B} : decode (ab_code (zx σ n0 bf).1 8163) 4 = .ok (.ifCond .le 4, 3) := zd zm_8163 (by decide +kernel)
theorem d_8163_7 {σ : Nat → Nat} {n0 : Nat} {bf : ab_B} : decode (ab_code (zx σ n0 bf).1 8163) 7 = .ok (.return_, 1) := zd zm_8163 (by decide +kernel)
theorem d_8163_8 {σ : Nat → Nat} {n0 : Nat} {bf : ab_B} : decode (ab_code (zx σ n0 bf).1 8163) 8 = .ok (.aload_n 0, 1) := zd zm_8163 (by decide +kernel)
theorem d_8163_9 {σ : Nat → Nat} {n0 : Nat} {bf : ab_B} : decode (ab_code (zx σ n0 bf).1 8163) 9 = .ok (.getfield 653, 3) := zd zm_8163 (by decide +kernel)
theorem d_8163_12 {σ : Nat → Nat} {n0 : Nat} {bf : ab_B} : decode (ab_code (zx σ n0 bf).1 8163) 12 = .ok (.iconst 1, 1) := zd zm_8163 (by decide +kernel)
theorem d_8163_13 {σ : Nat → Nat} {n0 : Nat} {bf : ab_B} : decode (ab_code (zx σ n0 bf).1 8163) 13 = .ok (.isub, 1) := zd zm_8163 (by decide +kernel)
theorem d_8163_14 {σ : Nat → Nat} {n0 : Nat} {bf : ab_B} : decode (ab_code (zx σ n0 bf).1 8163) 14 = .ok (.istore 4, 2) := zd zm_8163 (by decide +kernel)
theorem d_8163_16 {σ : Nat → Nat} {n0 : Nat} {bf : ab_B} : decode (ab_code (zx σ n0 bf).1 8163) 16 = .ok (.iconst 0, 1) := zd zm_8163 (by decide +kernel)
theorem d_8163_17 {σ : Nat → Nat} {n0 : Nat} {bf : ab_B} : decode (ab_code (zx σ n0 bf).1 8163) 17 = .ok (.istore 5, 2) := zd zm_8163 (by decide +kernel)
theorem d_8163_19 {σ : Nat → Nat} {n0 : Nat} {bf : ab_B} : decode (ab_code (zx σ n0 bf).1 8163) 19 = .ok (.iconst 0, 1) := zd zm_8163 (by decide +kernel)
theorem d_8163_20 {σ : Nat → Nat} {n0 : Nat} {bf : ab_B} : decode (ab_code (zx σ n0 bf).1 8163) 20 = .ok (.istore 6, 2) := zd zm_8163 (by decide +kernel)
theorem d_8163_22 {σ : Nat → Nat} {n0 : Nat} {bf : ab_B} : decode (ab_code (zx σ n0 bf).1 8163) 22 = .ok (.aload_n 0, 1) := zd zm_8163 (by decide +kernel)
theorem d_8163_23 {σ : Nat → Nat} {n0 : Nat} {bf : ab_B} : decode (ab_code (zx σ n0 bf).1 8163) 23 = .ok (.getfield 200, 3) := zd zm_8163 (by decide +kernel)
theorem d_8163_26 {σ : Nat → Nat} {n0 : Nat} {bf : ab_B} : decode (ab_code (zx σ n0 bf).1 8163) 26 = .ok (.iload 4, 2) := zd zm_8163 (by decide +kernel)
theorem d_8163_28 {σ : Nat → Nat} {n0 : Nat} {bf : ab_B} : decode (ab_code (zx σ n0 bf).1 8163) 28 = .ok (.iaload, 1) := zd zm_8163 (by decide +kernel)
theorem d_8163_29 {σ : Nat → Nat} {n0 : Nat} {bf : ab_B} : decode (ab_code (zx σ n0 bf).1 8163) 29 = .ok (.bipush 32, 2) := zd zm_8163 (by decide +kernel)
theorem d_8163_31 {σ : Nat → Nat} {n0 : Nat} {bf : ab_B} : decode (ab_code (zx σ n0 bf).1 8163) 31 = .ok (.iand, 1) := zd zm_8163 (by decide +kernel)
theorem d_8163_32 {σ : Nat → Nat} {n0 : Nat} {bf : ab_B} : decode (ab_code (zx σ n0 bf).1 8163) 32 = .ok (.ifCond .eq 7, 3) := zd zm_8163 (by decide +kernel)
theorem d_8163_35 {σ : Nat → Nat} {n0 : Nat} {bf : ab_B} : decode (ab_code (zx σ n0 bf).1 8163) 35 = .ok (.iconst 1, 1) := zd zm_8163 (by decide +kernel)
theorem d_8163_36 {σ : Nat → Nat} {n0 : Nat} {bf : ab_B} : decode (ab_code (zx σ n0 bf).1 8163) 36 = .ok (.goto 4, 3) := zd zm_8163 (by decide +kernel)
theorem d_8163_39 {σ : Nat → Nat} {n0 : Nat} {bf : ab_B} : decode (ab_code (zx σ n0 bf).1 8163) 39 = .ok (.iconst 0, 1) := zd zm_8163 (by decide +kernel)
theorem d_8163_40 {σ : Nat → Nat} {n0 : Nat} {bf : ab_B} : decode (ab_code (zx σ n0 bf).1 8163) 40 = .ok (.istore 7, 2) := zd zm_8163 (by decide +kernel)
theorem d_8163_42 {σ : Nat → Nat} {n0 : Nat} {bf : ab_B} : decode (ab_code (zx σ n0 bf).1 8163) 42 = .ok (.iload 7, 2) := zd zm_8163 (by decide +kernel)
theorem d_8163_44 {σ : Nat → Nat} {n0 : Nat} {bf : ab_B} : decode (ab_code (zx σ n0 bf).1 8163) 44 = .ok (.ifCond .ne 7, 3) := zd zm_8163 (by decide +kernel)
theorem d_8163_47 {σ : Nat → Nat} {n0 : Nat} {bf : ab_B} : decode (ab_code (zx σ n0 bf).1 8163) 47 = .ok (.aload_n 0, 1) := zd zm_8163 (by decide +kernel)
theorem d_8163_48 {σ : Nat → Nat} {n0 : Nat} {bf : ab_B} : decode (ab_code (zx σ n0 bf).1 8163) 48 = .ok (.invokevirtual 660, 3) := zd zm_8163 (by decide +kernel)
theorem d_8163_51 {σ : Nat → Nat} {n0 : Nat} {bf : ab_B} : decode (ab_code (zx σ n0 bf).1 8163) 51 = .ok (.aload_n 0, 1) := zd zm_8163 (by decide +kernel)
theorem d_8163_52 {σ : Nat → Nat} {n0 : Nat} {bf : ab_B} : decode (ab_code (zx σ n0 bf).1 8163) 52 = .ok (.getfield 444, 3) := zd zm_8163 (by decide +kernel)
theorem d_8163_55 {σ : Nat → Nat} {n0 : Nat} {bf : ab_B} : decode (ab_code (zx σ n0 bf).1 8163) 55 = .ok (.ifCond .le 4, 3) := zd zm_8163 (by decide +kernel)
theorem d_8163_58 {σ : Nat → Nat} {n0 : Nat} {bf : ab_B} : decode (ab_code (zx σ n0 bf).1 8163) 58 = .ok (.return_, 1) := zd zm_8163 (by decide +kernel)
theorem d_8163_59 {σ : Nat → Nat} {n0 : Nat} {bf : ab_B} : decode (ab_code (zx σ n0 bf).1 8163) 59 = .ok (.iload 7, 2) := zd zm_8163 (by decide +kernel)
theorem d_8163_61 {σ : Nat → Nat} {n0 : Nat} {bf : ab_B} : decode (ab_code (zx σ n0 bf).1 8163) 61 = .ok (.ifCond .ne 40, 3) := zd zm_8163 (by decide +kernel)
theorem d_8163_64 {σ : Nat → Nat} {n0 : Nat} {bf : ab_B} : decode (ab_code (zx σ n0 bf).1 8163) 64 = .ok (.aload_n 0, 1) := zd zm_8163 (by decide +kernel)
theorem d_8163_65 {σ : Nat → Nat} {n0 : Nat} {bf : ab_B} : decode (ab_code (zx σ n0 bf).1 8163) 65 = .ok (.getfield 197, 3) := zd zm_8163 (by decide +kernel)
theorem d_8163_68 {σ : Nat → Nat} {n0 : Nat} {bf : ab_B} : decode (ab_code (zx σ n0 bf).1 8163) 68 = .ok (.iload 4, 2) := zd zm_8163 (by decide +kernel)
theorem d_8163_70 {σ : Nat → Nat} {n0 : Nat} {bf : ab_B} : decode (ab_code (zx σ n0 bf).1 8163) 70 = .ok (.baload, 1) := zd zm_8163 (by decide +kernel)
theorem d_8163_71 {σ : Nat → Nat} {n0 : Nat} {bf : ab_B} : decode (ab_code (zx σ n0 bf).1 8163) 71 = .ok (.ifCond .eq 24, 3) := zd zm_8163 (by decide +kernel)
theorem d_8163_74 {σ : Nat → Nat} {n0 : Nat} {bf : ab_B} : decode (ab_code (zx σ n0 bf).1 8163) 74 = .ok (.aload_n 0, 1) := zd zm_8163 (by decide +kernel)
theorem d_8163_75 {σ : Nat → Nat} {n0 : Nat} {bf : ab_B} : decode (ab_code (zx σ n0 bf).1 8163) 75 = .ok (.invokevirtual 877, 3) := zd zm_8163 (by decide +kernel)
theorem d_8163_78 {σ : Nat → Nat} {n0 : Nat} {bf : ab_B} : decode (ab_code (zx σ n0 bf).1 8163) 78 = .ok (.ifCond .ne 17, 3) := zd zm_8163 (by decide +kernel)
theorem d_8163_81 {σ : Nat → Nat} {n0 : Nat} {bf : ab_B} : decode (ab_code (zx σ n0 bf).1 8163) 81 = .ok (.aload_n 0, 1) := zd zm_8163 (by decide +kernel)
theorem d_8163_82 {σ : Nat → Nat} {n0 : Nat} {bf : ab_B} : decode (ab_code (zx σ n0 bf).1 8163) 82 = .ok (.aload_n 0, 1) := zd zm_8163 (by decide +kernel)
theorem d_8163_83 {σ : Nat → Nat} {n0 : Nat} {bf : ab_B} : decode (ab_code (zx σ n0 bf).1 8163) 83 = .ok (.getfield 191, 3) := zd zm_8163 (by decide +kernel)
theorem d_8163_86 {σ : Nat → Nat} {n0 : Nat} {bf : ab_B} : decode (ab_code (zx σ n0 bf).1 8163) 86 = .ok (.iload 4, 2) := zd zm_8163 (by decide +kernel)
theorem d_8163_88 {σ : Nat → Nat} {n0 : Nat} {bf : ab_B} : decode (ab_code (zx σ n0 bf).1 8163) 88 = .ok (.iaload, 1) := zd zm_8163 (by decide +kernel)
theorem d_8163_89 {σ : Nat → Nat} {n0 : Nat} {bf : ab_B} : decode (ab_code (zx σ n0 bf).1 8163) 89 = .ok (.invokevirtual 564, 3) := zd zm_8163 (by decide +kernel)
theorem d_8163_92 {σ : Nat → Nat} {n0 : Nat} {bf : ab_B} : decode (ab_code (zx σ n0 bf).1 8163) 92 = .ok (.ifCond .ne 9, 3) := zd zm_8163 (by decide +kernel)
theorem d_8163_95 {σ : Nat → Nat} {n0 : Nat} {bf : ab_B} : decode (ab_code (zx σ n0 bf).1 8163) 95 = .ok (.aload_n 0, 1) := zd zm_8163 (by decide +kernel)
theorem d_8163_96 {σ : Nat → Nat} {n0 : Nat} {bf : ab_B} : decode (ab_code (zx σ n0 bf).1 8163) 96 = .ok (.iconst 5, 1) := zd zm_8163 (by decide +kernel)
theorem d_8163_97 {σ : Nat → Nat} {n0 : Nat} {bf : ab_B} : decode (ab_code (zx σ n0 bf).1 8163) 97 = .ok (.invokevirtual 541, 3) := zd zm_8163 (by decide +kernel)
theorem d_8163_100 {σ : Nat → Nat} {n0 : Nat} {bf : ab_B} : decode (ab_code (zx σ n0 bf).1 8163) 100 = .ok (.return_, 1) := zd zm_8163 (by decide +kernel)
theorem d_8163_101 {σ : Nat → Nat} {n0 : Nat} {bf : ab_B} : decode (ab_code (zx σ n0 bf).1 8163) 101 = .ok (.aload_n 0, 1) := zd zm_8163 (by decide +kernel)
theorem d_8163_102 {σ : Nat → Nat} {n0 : Nat} {bf : ab_B} : decode (ab_code (zx σ n0 bf).1 8163) 102 = .ok (.getfield 191, 3) := zd zm_8163 (by decide +kernel)
theorem d_8163_105 {σ : Nat → Nat} {n0 : Nat} {bf : ab_B} : decode (ab_code (zx σ n0 bf).1 8163) 105 = .ok (.iload 4, 2) := zd zm_8163 (by decide +kernel)
theorem d_8163_107 {σ : Nat → Nat} {n0 : Nat} {bf : ab_B} : decode (ab_code (zx σ n0 bf).1 8163) 107 = .ok (.iaload, 1) := zd zm_8163 (by decide +kernel)
theorem d_8163_108 {σ : Nat → Nat} {n0 : Nat} {bf : ab_B} : decode (ab_code (zx σ n0 bf).1 8163) 108 = .ok (.istore 8, 2) := zd zm_8163 (by decide +kernel)
theorem d_8163_110 {σ : Nat → Nat} {n0 : Nat} {bf : ab_B} : decode (ab_code (zx σ n0 bf).1 8163) 110 = .ok (.iload 7, 2) := zd zm_8163 (by decide +kernel)
theorem d_8163_112 {σ : Nat → Nat} {n0 : Nat} {bf : ab_B} : decode (ab_code (zx σ n0 bf).1 8163) 112 = .ok (.ifCond .eq 22, 3) := zd zm_8163 (by decide +kernel)
theorem d_8163_115 {σ : Nat → Nat} {n0 : Nat} {bf : ab_B} : decode (ab_code (zx σ n0 bf).1 8163) 115 = .ok (.aload_n 0, 1) := zd zm_8163 (by decide +kernel)
theorem d_8163_116 {σ : Nat → Nat} {n0 : Nat} {bf : ab_B} : decode (ab_code (zx σ n0 bf).1 8163) 116 = .ok (.getfield 90, 3) := zd zm_8163 (by decide +kernel)
theorem d_8163_119 {σ : Nat → Nat} {n0 : Nat} {bf : ab_B} : decode (ab_code (zx σ n0 bf).1 8163) 119 = .ok (.iload_n 3, 1) := zd zm_8163 (by decide +kernel)
theorem d_8163_120 {σ : Nat → Nat} {n0 : Nat} {bf : ab_B} : decode (ab_code (zx σ n0 bf).1 8163) 120 = .ok (.baload, 1) := zd zm_8163 (by decide +kernel)
theorem d_8163_121 {σ : Nat → Nat} {n0 : Nat} {bf : ab_B} : decode (ab_code (zx σ n0 bf).1 8163) 121 = .ok (.bipush 7, 2) := zd zm_8163 (by decide +kernel)
theorem d_8163_123 {σ : Nat → Nat} {n0 : Nat} {bf : ab_B} : decode (ab_code (zx σ n0 bf).1 8163) 123 = .ok (.if_icmp .ne 7, 3) := zd zm_8163 (by decide +kernel)
theorem d_8163_126 {σ : Nat → Nat} {n0 : Nat} {bf : ab_B} : decode (ab_code (zx σ n0 bf).1 8163) 126 = .ok (.iconst 1, 1) := zd zm_8163 (by decide +kernel)
theorem d_8163_127 {σ : Nat → Nat} {n0 : Nat} {bf : ab_B} : decode (ab_code (zx σ n0 bf).1 8163) 127 = .ok (.goto 63, 3) := zd zm_8163 (by decide +kernel)
theorem d_8163_130 {σ : Nat → Nat} {n0 : Nat} {bf : ab_B} : decode (ab_code (zx σ n0 bf).1 8163) 130 = .ok (.iconst 0, 1) := zd zm_8163 (by decide +kernel)
theorem d_8163_131 {σ : Nat → Nat} {n0 : Nat} {bf : ab_B} : decode (ab_code (zx σ n0 bf).1 8163) 131 = .ok (.goto 59, 3) := zd zm_8163 (by decide +kernel)
theorem d_8163_134 {σ : Nat → Nat} {n0 : Nat} {bf : ab_B} : decode (ab_code (zx σ n0 bf).1 8163) 134 = .ok (.aload_n 0, 1) := zd zm_8163 (by decide +kernel)
theorem d_8163_135 {σ : Nat → Nat} {n0 : Nat} {bf : ab_B} : decode (ab_code (zx σ n0 bf).1 8163) 135 = .ok (.iload_n 3, 1) := zd zm_8163 (by decide +kernel)
theorem d_8163_136 {σ : Nat → Nat} {n0 : Nat} {bf : ab_B} : decode (ab_code (zx σ n0 bf).1 8163) 136 = .ok (.invokevirtual 564, 3) := zd zm_8163 (by decide +kernel)
theorem d_8163_139 {σ : Nat → Nat} {n0 : Nat} {bf : ab_B} : decode (ab_code (zx σ n0 bf).1 8163) 139 = .ok (.ifCond .eq 25, 3) := zd zm_8163 (by decide +kernel)
theorem d_8163_142 {σ : Nat → Nat} {n0 : Nat} {bf : ab_B} : decode (ab_code (zx σ n0 bf).1 8163) 142 = .ok (.aload_n 0, 1) := zd zm_8163 (by decide +kernel)
theorem d_8163_143 {σ : Nat → Nat} {n0 : Nat} {bf : ab_B} : decode (ab_code (zx σ n0 bf).1 8163) 143 = .ok (.iload_n 3, 1) := zd zm_8163 (by decide +kernel)
theorem d_8163_144 {σ : Nat → Nat} {n0 : Nat} {bf : ab_B} : decode (ab_code (zx σ n0 bf).1 8163) 144 = .ok (.invokevirtual 561, 3) := zd zm_8163 (by decide +kernel)
theorem d_8163_147 {σ : Nat → Nat} {n0 : Nat} {bf : ab_B} : decode (ab_code (zx σ n0 bf).1 8163) 147 = .ok (.aload_n 0, 1) := zd zm_8163 (by decide +kernel)
theorem d_8163_148 {σ : Nat → Nat} {n0 : Nat} {bf : ab_B} : decode (ab_code (zx σ n0 bf).1 8163) 148 = .ok (.iload 8, 2) := zd zm_8163 (by decide +kernel)
theorem d_8163_150 {σ : Nat → Nat} {n0 : Nat} {bf : ab_B} : decode (ab_code (zx σ n0 bf).1 8163) 150 = .ok (.invokevirtual 561, 3) := zd zm_8163 (by decide +kernel)
theorem d_8163_153 {σ : Nat → Nat} {n0 : Nat} {bf : ab_B} : decode (ab_code (zx σ n0 bf).1 8163) 153 = .ok (.if_icmp .ne 7, 3) := zd zm_8163 (by decide +kernel)
theorem d_8163_156 {σ : Nat → Nat} {n0 : Nat} {bf : ab_B} : decode (ab_code (zx σ n0 bf).1 8163) 156 = .ok (.iconst 1, 1) := zd zm_8163 (by decide +kernel)
theorem d_8163_157 {σ : Nat → Nat} {n0 : Nat} {bf : ab_B} : decode (ab_code (zx σ n0 bf).1 8163) 157 = .ok (.goto 33, 3) := zd zm_8163 (by decide +kernel)
theorem d_8163_160 {σ : Nat → Nat} {n0 : Nat} {bf : ab_B} : decode (ab_code (zx σ n0 bf).1 8163) 160 = .ok (.iconst 0, 1) := zd zm_8163 (by decide +kernel)
theorem d_8163_161 {σ : Nat → Nat} {n0 : Nat} {bf : ab_B} : decode (ab_code (zx σ n0 bf).1 8163) 161 = .ok (.goto 29, 3) := zd zm_8163 (by decide +kernel)
theorem d_8163_164 {σ : Nat → Nat} {n0 : Nat} {bf : ab_B} : decode (ab_code (zx σ n0 bf).1 8163) 164 = .ok (.aload_n 0, 1) := zd zm_8163 (by decide +kernel)
theorem d_8163_165 {σ : Nat → Nat} {n0 : Nat} {bf : ab_B} : decode (ab_code (zx σ n0 bf).1 8163) 165 = .ok (.getfield 90, 3) := zd zm_8163 (by decide +kernel)
theorem d_8163_168 {σ : Nat → Nat} {n0 : Nat} {bf : ab_B} : decode (ab_code (zx σ n0 bf).1 8163) 168 = .ok (.iload_n 3, 1) := zd zm_8163 (by decide +kernel)
theorem d_8163_169 {σ : Nat → Nat} {n0 : Nat} {bf : ab_B} : decode (ab_code (zx σ n0 bf).1 8163) 169 = .ok (.baload, 1) := zd zm_8163 (by decide +kernel)
theorem d_8163_170 {σ : Nat → Nat} {n0 : Nat} {bf : ab_B} : decode (ab_code (zx σ n0 bf).1 8163) 170 = .ok (.bipush 7, 2) := zd zm_8163 (by decide +kernel)
theorem d_8163_172 {σ : Nat → Nat} {n0 : Nat} {bf : ab_B} : decode (ab_code (zx σ n0 bf).1 8163) 172 = .ok (.if_icmp .ne 17, 3) := zd zm_8163 (by decide +kernel)
theorem d_8163_175 {σ : Nat → Nat} {n0 : Nat} {bf : ab_B} : decode (ab_code (zx σ n0 bf).1 8163) 175 = .ok (.aload_n 0, 1) := zd zm_8163 (by decide +kernel)
theorem d_8163_176 {σ : Nat → Nat} {n0 : Nat} {bf : ab_B} : decode (ab_code (zx σ n0 bf).1 8163) 176 = .ok (.iload 8, 2) := zd zm_8163 (by decide +kernel)
theorem d_8163_178 {σ : Nat → Nat} {n0 : Nat} {bf : ab_B} : decode (ab_code (zx σ n0 bf).1 8163) 178 = .ok (.invokevirtual 561, 3) := zd zm_8163 (by decide +kernel)
theorem d_8163_181 {σ : Nat → Nat} {n0 : Nat} {bf : ab_B} : decode (ab_code (zx σ n0 bf).1 8163) 181 = .ok (.iconst 3, 1) := zd zm_8163 (by decide +kernel)
theorem d_8163_182 {σ : Nat → Nat} {n0 : Nat} {bf : ab_B} : decode (ab_code (zx σ n0 bf).1 8163) 182 = .ok (.if_icmp .ne 7, 3) := zd zm_8163 (by decide +kernel)
theorem d_8163_185 {σ : Nat → Nat} {n0 : Nat} {bf : ab_B} : decode (ab_code (zx σ n0 bf).1 8163) 185 = .ok (.iconst 1, 1) := zd zm_8163 (by decide +kernel)
theorem d_8163_186 {σ : Nat → Nat} {n0 : Nat} {bf : ab_B} : decode (ab_code (zx σ n0 bf).1 8163) 186 = .ok (.goto 4, 3) := zd zm_8163 (by decide +kernel)
theorem d_8163_189 {σ : Nat → Nat} {n0 : Nat} {bf : ab_B} : decode (ab_code (zx σ n0 bf).1 8163) 189 = .ok (.iconst 0, 1) := zd zm_8163 (by decide +kernel)
theorem d_8163_190 {σ : Nat → Nat} {n0 : Nat} {bf : ab_B} : decode (ab_code (zx σ n0 bf).1 8163) 190 = .ok (.istore 9, 2) := zd zm_8163 (by decide +kernel)
theorem d_8163_192 {σ : Nat → Nat} {n0 : Nat} {bf : ab_B} : decode (ab_code (zx σ n0 bf).1 8163) 192 = .ok (.iload 7, 2) := zd zm_8163 (by decide +kernel)
theorem d_8163_194 {σ : Nat → Nat} {n0 : Nat} {bf : ab_B} : decode (ab_code (zx σ n0 bf).1 8163) 194 = .ok (.ifCond .eq 53, 3) := zd zm_8163 (by decide +kernel)
theorem d_8163_197 {σ : Nat → Nat} {n0 : Nat} {bf : ab_B} : decode (ab_code (zx σ n0 bf).1 8163) 197 = .ok (.aload_n 0, 1) := zd zm_8163 (by decide +kernel)
theorem d_8163_198 {σ : Nat → Nat} {n0 : Nat} {bf : ab_B} : decode (ab_code (zx σ n0 bf).1 8163) 198 = .ok (.getfield 75, 3) := zd zm_8163 (by decide +kernel)
theorem d_8163_201 {σ : Nat → Nat} {n0 : Nat} {bf : ab_B} : decode (ab_code (zx σ n0 bf).1 8163) 201 = .ok (.aload_n 0, 1) := zd zm_8163 (by decide +kernel)
theorem d_8163_202 {σ : Nat → Nat} {n0 : Nat} {bf : ab_B} : decode (ab_code (zx σ n0 bf).1 8163) 202 = .ok (.getfield 556, 3) := zd zm_8163 (by decide +kernel)
theorem d_8163_205 {σ : Nat → Nat} {n0 : Nat} {bf : ab_B} : decode (ab_code (zx σ n0 bf).1 8163) 205 = .ok (.iconst 1, 1) := zd zm_8163 (by decide +kernel)
theorem d_8163_206 {σ : Nat → Nat} {n0 : Nat} {bf : ab_B} : decode (ab_code (zx σ n0 bf).1 8163) 206 = .ok (.isub, 1) := zd zm_8163 (by decide +kernel)
theorem d_8163_207 {σ : Nat → Nat} {n0 : Nat} {bf : ab_B} : decode (ab_code (zx σ n0 bf).1 8163) 207 = .ok (.iaload, 1) := zd zm_8163 (by decide +kernel)
theorem d_8163_208 {σ : Nat → Nat} {n0 : Nat} {bf : ab_B} : decode (ab_code (zx σ n0 bf).1 8163) 208 = .ok (.istore 5, 2) := zd zm_8163 (by decide +kernel)
theorem d_8163_210 {σ : Nat → Nat} {n0 : Nat} {bf : ab_B} : decode (ab_code (zx σ n0 bf).1 8163) 210 = .ok (.aload_n 0, 1) := zd zm_8163 (by decide +kernel)
theorem d_8163_211 {σ : Nat → Nat} {n0 : Nat} {bf : ab_B} : decode (ab_code (zx σ n0 bf).1 8163) 211 = .ok (.getfield 78, 3) := zd zm_8163 (by decide +kernel)
theorem d_8163_214 {σ : Nat → Nat} {n0 : Nat} {bf : ab_B} : decode (ab_code (zx σ n0 bf).1 8163) 214 = .ok (.aload_n 0, 1) := zd zm_8163 (by decide +kernel)
theorem d_8163_215 {σ : Nat → Nat} {n0 : Nat} {bf : ab_B} : decode (ab_code (zx σ n0 bf).1 8163) 215 = .ok (.getfield 556, 3) := zd zm_8163 (by decide +kernel)
theorem d_8163_218 {σ : Nat → Nat} {n0 : Nat} {bf : ab_B} : decode (ab_code (zx σ n0 bf).1 8163) 218 = .ok (.iconst 1, 1) := zd zm_8163 (by decide +kernel)
theorem d_8163_219 {σ : Nat → Nat} {n0 : Nat} {bf : ab_B} : decode (ab_code (zx σ n0 bf).1 8163) 219 = .ok (.isub, 1) := zd zm_8163 (by decide +kernel)
theorem d_8163_220 {σ : Nat → Nat} {n0 : Nat} {bf : ab_B} : decode (ab_code (zx σ n0 bf).1 8163) 220 = .ok (.iaload, 1) := zd zm_8163 (by decide +kernel)
theorem d_8163_221 {σ : Nat → Nat} {n0 : Nat} {bf : ab_B} : decode (ab_code (zx σ n0 bf).1 8163) 221 = .ok (.istore 6, 2) := zd zm_8163 (by decide +kernel)
theorem d_8163_223 {σ : Nat → Nat} {n0 : Nat} {bf : ab_B} : decode (ab_code (zx σ n0 bf).1 8163) 223 = .ok (.aload_n 0, 1) := zd zm_8163 (by decide +kernel)
theorem d_8163_224 {σ : Nat → Nat} {n0 : Nat} {bf : ab_B} : decode (ab_code (zx σ n0 bf).1 8163) 224 = .ok (.aload_n 0, 1) := zd zm_8163 (by decide +kernel)
theorem d_8163_225 {σ : Nat → Nat} {n0 : Nat} {bf : ab_B} : decode (ab_code (zx σ n0 bf).1 8163) 225 = .ok (.getfield 203, 3) := zd zm_8163 (by decide +kernel)
theorem d_8163_228 {σ : Nat → Nat} {n0 : Nat} {bf : ab_B} : decode (ab_code (zx σ n0 bf).1 8163) 228 = .ok (.iload 4, 2) := zd zm_8163 (by decide +kernel)
theorem d_8163_230 {σ : Nat → Nat} {n0 : Nat} {bf : ab_B} : decode (ab_code (zx σ n0 bf).1 8163) 230 = .ok (.iaload, 1) := zd zm_8163 (by decide +kernel)
theorem d_8163_231 {σ : Nat → Nat} {n0 : Nat} {bf : ab_B} : decode (ab_code (zx σ n0 bf).1 8163) 231 = .ok (.putfield 556, 3) := zd zm_8163 (by decide +kernel)
theorem d_8163_234 {σ : Nat → Nat} {n0 : Nat} {bf : ab_B} : decode (ab_code (zx σ n0 bf).1 8163) 234 = .ok (.aload_n 0, 1) := zd zm_8163 (by decide +kernel)
theorem d_8163_235 {σ : Nat → Nat} {n0 : Nat} {bf : ab_B} : decode (ab_code (zx σ n0 bf).1 8163) 235 = .ok (.dup, 1) := zd zm_8163 (by decide +kernel)
theorem d_8163_236 {σ : Nat → Nat} {n0 : Nat} {bf : ab_B} : decode (ab_code (zx σ n0 bf).1 8163) 236 = .ok (.getfield 653, 3) := zd zm_8163 (by decide +kernel)
theorem d_8163_239 {σ : Nat → Nat} {n0 : Nat} {bf : ab_B} : decode (ab_code (zx σ n0 bf).1 8163) 239 = .ok (.iconst 1, 1) := zd zm_8163 (by decide +kernel)
theorem d_8163_240 {σ : Nat → Nat} {n0 : Nat} {bf : ab_B} : decode (ab_code (zx σ n0 bf).1 8163) 240 = .ok (.isub, 1) := zd zm_8163 (by decide +kernel)
theorem d_8163_241 {σ : Nat → Nat} {n0 : Nat} {bf : ab_B} : decode (ab_code (zx σ n0 bf).1 8163) 241 = .ok (.putfield 653, 3) := zd zm_8163 (by decide +kernel)
theorem d_8163_244 {σ : Nat → Nat} {n0 : Nat} {bf : ab_B} : decode (ab_code (zx σ n0 bf).1 8163) 244 = .ok (.goto 28, 3) := zd zm_8163 (by decide +kernel)
theorem d_8163_247 {σ : Nat → Nat} {n0 : Nat} {bf : ab_B} : decode (ab_code (zx σ n0 bf).1 8163) 247 = .ok (.aload_n 0, 1) := zd zm_8163 (by decide +kernel)
theorem d_8163_248 {σ : Nat → Nat} {n0 : Nat} {bf : ab_B} : decode (ab_code (zx σ n0 bf).1 8163) 248 = .ok (.invokevirtual 880, 3) := zd zm_8163 (by decide +kernel)
theorem d_8163_251 {σ : Nat → Nat} {n0 : Nat} {bf : ab_B} : decode (ab_code (zx σ n0 bf).1 8163) 251 = .ok (.l2i, 1) := zd zm_8163 (by decide +kernel)
theorem d_8163_252 {σ : Nat → Nat} {n0 : Nat} {bf : ab_B} : decode (ab_code (zx σ n0 bf).1 8163) 252 = .ok (.istore 5, 2) := zd zm_8163 (by decide +kernel)
theorem d_8163_254 {σ : Nat → Nat} {n0 : Nat} {bf : ab_B} : decode (ab_code (zx σ n0 bf).1 8163) 254 = .ok (.aload_n 0, 1) := zd zm_8163 (by decide +kernel)
theorem d_8163_255 {σ : Nat → Nat} {n0 : Nat} {bf : ab_B} : decode (ab_code (zx σ n0 bf).1 8163) 255 = .ok (.getfield 90, 3) := zd zm_8163 (by decide +kernel)
theorem d_8163_258 {σ : Nat → Nat} {n0 : Nat} {bf : ab_B} : decode (ab_code (zx σ n0 bf).1 8163) 258 = .ok (.iload_n 3, 1) := zd zm_8163 (by decide +kernel)
theorem d_8163_259 {σ : Nat → Nat} {n0 : Nat} {bf : ab_B} : decode (ab_code (zx σ n0 bf).1 8163) 259 = .ok (.baload, 1) := zd zm_8163 (by decide +kernel)
theorem d_8163_260 {σ : Nat → Nat} {n0 : Nat} {bf : ab_B} : decode (ab_code (zx σ n0 bf).1 8163) 260 = .ok (.bipush 7, 2) := zd zm_8163 (by decide +kernel)
theorem d_8163_262 {σ : Nat → Nat} {n0 : Nat} {bf : ab_B} : decode (ab_code (zx σ n0 bf).1 8163) 262 = .ok (.if_icmp .ne 7, 3) := zd zm_8163 (by decide +kernel)
theorem d_8163_265 {σ : Nat → Nat} {n0 : Nat} {bf : ab_B} : decode (ab_code (zx σ n0 bf).1 8163) 265 = .ok (.iconst (-1), 1) := zd zm_8163 (by decide +kernel)
theorem d_8163_266 {σ : Nat → Nat} {n0 : Nat} {bf : ab_B} : decode (ab_code (zx σ n0 bf).1 8163) 266 = .ok (.goto 4, 3) := zd zm_8163 (by decide +kernel)
theorem d_8163_269 {σ : Nat → Nat} {n0 : Nat} {bf : ab_B} : decode (ab_code (zx σ n0 bf).1 8163) 269 = .ok (.iconst 0, 1) := zd zm_8163 (by decide +kernel)
theorem d_8163_270 {σ : Nat → Nat} {n0 : Nat} {bf : ab_B} : decode (ab_code (zx σ n0 bf).1 8163) 270 = .ok (.istore 6, 2) := zd zm_8163 (by decide +kernel)
theorem d_8163_272 {σ : Nat → Nat} {n0 : Nat} {bf : ab_B} : decode (ab_code (zx σ n0 bf).1 8163) 272 = .ok (.aload_n 0, 1) := zd zm_8163 (by decide +kernel)
theorem d_8163_273 {σ : Nat → Nat} {n0 : Nat} {bf : ab_B} : decode (ab_code (zx σ n0 bf).1 8163) 273 = .ok (.getfield 444, 3) := zd zm_8163 (by decide +kernel)
theorem d_8163_276 {σ : Nat → Nat} {n0 : Nat} {bf : ab_B} : decode (ab_code (zx σ n0 bf).1 8163) 276 = .ok (.ifCond .ne 13, 3) := zd zm_8163 (by decide +kernel)
theorem d_8163_279 {σ : Nat → Nat} {n0 : Nat} {bf : ab_B} : decode (ab_code (zx σ n0 bf).1 8163) 279 = .ok (.iload 9, 2) := zd zm_8163 (by decide +kernel)
theorem d_8163_281 {σ : Nat → Nat} {n0 : Nat} {bf : ab_B} : decode (ab_code (zx σ n0 bf).1 8163) 281 = .ok (.ifCond .ne 8, 3) := zd zm_8163 (by decide +kernel)
theorem d_8163_284 {σ : Nat → Nat} {n0 : Nat} {bf : ab_B} : decode (ab_code (zx σ n0 bf).1 8163) 284 = .ok (.aload_n 0, 1) := zd zm_8163 (by decide +kernel)
theorem d_8163_285 {σ : Nat → Nat} {n0 : Nat} {bf : ab_B} : decode (ab_code (zx σ n0 bf).1 8163) 285 = .ok (.iconst 5, 1) := zd zm_8163 (by decide +kernel)
theorem d_8163_286 {σ : Nat → Nat} {n0 : Nat} {bf : ab_B} : decode (ab_code (zx σ n0 bf).1 8163) 286 = .ok (.invokevirtual 541, 3) := zd zm_8163 (by decide +kernel)
theorem d_8163_289 {σ : Nat → Nat} {n0 : Nat} {bf : ab_B} : decode (ab_code (zx σ n0 bf).1 8163) 289 = .ok (.aload_n 0, 1) := zd zm_8163 (by decide +kernel)
theorem d_8163_290 {σ : Nat → Nat} {n0 : Nat} {bf : ab_B} : decode (ab_code (zx σ n0 bf).1 8163) 290 = .ok (.getfield 444, 3) := zd zm_8163 (by decide +kernel)
theorem d_8163_293 {σ : Nat → Nat} {n0 : Nat} {bf : ab_B} : decode (ab_code (zx σ n0 bf).1 8163) 293 = .ok (.ifCond .ne 62, 3) := zd zm_8163 (by decide +kernel)
theorem d_8163_296 {σ : Nat → Nat} {n0 : Nat} {bf : ab_B} : decode (ab_code (zx σ n0 bf).1 8163) 296 = .ok (.iload 6, 2) := zd zm_8163 (by decide +kernel)
theorem d_8163_298 {σ : Nat → Nat} {n0 : Nat} {bf : ab_B} : decode (ab_code (zx σ n0 bf).1 8163) 298 = .ok (.aload_n 0, 1) := zd zm_8163 (by decide +kernel)
theorem d_8163_299 {σ : Nat → Nat} {n0 : Nat} {bf : ab_B} : decode (ab_code (zx σ n0 bf).1 8163) 299 = .ok (.getfield 99, 3) := zd zm_8163 (by decide +kernel)
theorem d_8163_302 {σ : Nat → Nat} {n0 : Nat} {bf : ab_B} : decode (ab_code (zx σ n0 bf).1 8163) 302 = .ok (.iload_n 3, 1) := zd zm_8163 (by decide +kernel)
theorem d_8163_303 {σ : Nat → Nat} {n0 : Nat} {bf : ab_B} : decode (ab_code (zx σ n0 bf).1 8163) 303 = .ok (.iaload, 1) := zd zm_8163 (by decide +kernel)
theorem d_8163_304 {σ : Nat → Nat} {n0 : Nat} {bf : ab_B} : decode (ab_code (zx σ n0 bf).1 8163) 304 = .ok (.if_icmp .le 14, 3) := zd zm_8163 (by decide +kernel)
theorem d_8163_307 {σ : Nat → Nat} {n0 : Nat} {bf : ab_B} : decode (ab_code (zx σ n0 bf).1 8163) 307 = .ok (.aload_n 0, 1) := zd zm_8163 (by decide +kernel)
theorem d_8163_308 {σ : Nat → Nat} {n0 : Nat} {bf : ab_B} : decode (ab_code (zx σ n0 bf).1 8163) 308 = .ok (.getfield 90, 3) := zd zm_8163 (by decide +kernel)
theorem d_8163_311 {σ : Nat → Nat} {n0 : Nat} {bf : ab_B} : decode (ab_code (zx σ n0 bf).1 8163) 311 = .ok (.iload_n 3, 1) := zd zm_8163 (by decide +kernel)
theorem d_8163_312 {σ : Nat → Nat} {n0 : Nat} {bf : ab_B} : decode (ab_code (zx σ n0 bf).1 8163) 312 = .ok (.baload, 1) := zd zm_8163 (by decide +kernel)
theorem d_8163_313 {σ : Nat → Nat} {n0 : Nat} {bf : ab_B} : decode (ab_code (zx σ n0 bf).1 8163) 313 = .ok (.bipush 7, 2) := zd zm_8163 (by decide +kernel)
theorem d_8163_315 {σ : Nat → Nat} {n0 : Nat} {bf : ab_B} : decode (ab_code (zx σ n0 bf).1 8163) 315 = .ok (.if_icmp .eq 34, 3) := zd zm_8163 (by decide +kernel)
theorem d_8163_318 {σ : Nat → Nat} {n0 : Nat} {bf : ab_B} : decode (ab_code (zx σ n0 bf).1 8163) 318 = .ok (.aload_n 0, 1) := zd zm_8163 (by decide +kernel)
theorem d_8163_319 {σ : Nat → Nat} {n0 : Nat} {bf : ab_B} : decode (ab_code (zx σ n0 bf).1 8163) 319 = .ok (.getfield 90, 3) := zd zm_8163 (by decide +kernel)
theorem d_8163_322 {σ : Nat → Nat} {n0 : Nat} {bf : ab_B} : decode (ab_code (zx σ n0 bf).1 8163) 322 = .ok (.iload_n 3, 1) := zd zm_8163 (by decide +kernel)
theorem d_8163_323 {σ : Nat → Nat} {n0 : Nat} {bf : ab_B} : decode (ab_code (zx σ n0 bf).1 8163) 323 = .ok (.baload, 1) := zd zm_8163 (by decide +kernel)
theorem d_8163_324 {σ : Nat → Nat} {n0 : Nat} {bf : ab_B} : decode (ab_code (zx σ n0 bf).1 8163) 324 = .ok (.bipush 7, 2) := zd zm_8163 (by decide +kernel)
theorem d_8163_326 {σ : Nat → Nat} {n0 : Nat} {bf : ab_B} : decode (ab_code (zx σ n0 bf).1 8163) 326 = .ok (.if_icmp .eq 29, 3) := zd zm_8163 (by decide +kernel)
theorem d_8163_329 {σ : Nat → Nat} {n0 : Nat} {bf : ab_B} : decode (ab_code (zx σ n0 bf).1 8163) 329 = .ok (.iload 5, 2) := zd zm_8163 (by decide +kernel)
theorem d_8163_331 {σ : Nat → Nat} {n0 : Nat} {bf : ab_B} : decode (ab_code (zx σ n0 bf).1 8163) 331 = .ok (.aload_n 0, 1) := zd zm_8163 (by decide +kernel)
theorem d_8163_332 {σ : Nat → Nat} {n0 : Nat} {bf : ab_B} : decode (ab_code (zx σ n0 bf).1 8163) 332 = .ok (.iload_n 3, 1) := zd zm_8163 (by decide +kernel)
theorem d_8163_333 {σ : Nat → Nat} {n0 : Nat} {bf : ab_B} : decode (ab_code (zx σ n0 bf).1 8163) 333 = .ok (.invokevirtual 789, 3) := zd zm_8163 (by decide +kernel)
theorem d_8163_336 {σ : Nat → Nat} {n0 : Nat} {bf : ab_B} : decode (ab_code (zx σ n0 bf).1 8163) 336 = .ok (.if_icmp .lt 13, 3) := zd zm_8163 (by decide +kernel)
theorem d_8163_339 {σ : Nat → Nat} {n0 : Nat} {bf : ab_B} : decode (ab_code (zx σ n0 bf).1 8163) 339 = .ok (.iload 5, 2) := zd zm_8163 (by decide +kernel)
theorem d_8163_341 {σ : Nat → Nat} {n0 : Nat} {bf : ab_B} : decode (ab_code (zx σ n0 bf).1 8163) 341 = .ok (.aload_n 0, 1) := zd zm_8163 (by decide +kernel)
theorem d_8163_342 {σ : Nat → Nat} {n0 : Nat} {bf : ab_B} : decode (ab_code (zx σ n0 bf).1 8163) 342 = .ok (.iload_n 3, 1) := zd zm_8163 (by decide +kernel)
theorem d_8163_343 {σ : Nat → Nat} {n0 : Nat} {bf : ab_B} : decode (ab_code (zx σ n0 bf).1 8163) 343 = .ok (.invokevirtual 774, 3) := zd zm_8163 (by decide +kernel)
theorem d_8163_346 {σ : Nat → Nat} {n0 : Nat} {bf : ab_B} : decode (ab_code (zx σ n0 bf).1 8163) 346 = .ok (.if_icmp .le 9, 3) := zd zm_8163 (by decide +kernel)
theorem d_8163_349 {σ : Nat → Nat} {n0 : Nat} {bf : ab_B} : decode (ab_code (zx σ n0 bf).1 8163) 349 = .ok (.aload_n 0, 1) := zd zm_8163 (by decide +kernel)
theorem d_8163_350 {σ : Nat → Nat} {n0 : Nat} {bf : ab_B} : decode (ab_code (zx σ n0 bf).1 8163) 350 = .ok (.bipush 7, 2) := zd zm_8163 (by decide +kernel)
theorem d_8163_352 {σ : Nat → Nat} {n0 : Nat} {bf : ab_B} : decode (ab_code (zx σ n0 bf).1 8163) 352 = .ok (.invokevirtual 541, 3) := zd zm_8163 (by decide +kernel)
theorem d_8163_355 {σ : Nat → Nat} {n0 : Nat} {bf : ab_B} : decode (ab_code (zx σ n0 bf).1 8163) 355 = .ok (.aload_n 0, 1) := zd zm_8163 (by decide +kernel)
theorem d_8163_356 {σ : Nat → Nat} {n0 : Nat} {bf : ab_B} : decode (ab_code (zx σ n0 bf).1 8163) 356 = .ok (.dup, 1) := zd zm_8163 (by decide +kernel)
theorem d_8163_357 {σ : Nat → Nat} {n0 : Nat} {bf : ab_B} : decode (ab_code (zx σ n0 bf).1 8163) 357 = .ok (.getfield 556, 3) := zd zm_8163 (by decide +kernel)
theorem d_8163_360 {σ : Nat → Nat} {n0 : Nat} {bf : ab_B} : decode (ab_code (zx σ n0 bf).1 8163) 360 = .ok (.iload_n 2, 1) := zd zm_8163 (by decide +kernel)
theorem d_8163_361 {σ : Nat → Nat} {n0 : Nat} {bf : ab_B} : decode (ab_code (zx σ n0 bf).1 8163) 361 = .ok (.isub, 1) := zd zm_8163 (by decide +kernel)
theorem d_8163_362 {σ : Nat → Nat} {n0 : Nat} {bf : ab_B} : decode (ab_code (zx σ n0 bf).1 8163) 362 = .ok (.putfield 556, 3) := zd zm_8163 (by decide +kernel)
theorem d_8163_365 {σ : Nat → Nat} {n0 : Nat} {bf : ab_B} : decode (ab_code (zx σ n0 bf).1 8163) 365 = .ok (.iconst 0, 1) := zd zm_8163 (by decide +kernel)
theorem d_8163_366 {σ : Nat → Nat} {n0 : Nat} {bf : ab_B} : decode (ab_code (zx σ n0 bf).1 8163) 366 = .ok (.istore 10, 2) := zd zm_8163 (by decide +kernel)
theorem d_8163_368 {σ : Nat → Nat} {n0 : Nat} {bf : ab_B} : decode (ab_code (zx σ n0 bf).1 8163) 368 = .ok (.iload 10, 2) := zd zm_8163 (by decide +kernel)
theorem d_8163_370 {σ : Nat → Nat} {n0 : Nat} {bf : ab_B} : decode (ab_code (zx σ n0 bf).1 8163) 370 = .ok (.iload_n 2, 1) := zd zm_8163 (by decide +kernel)
theorem d_8163_371 {σ : Nat → Nat} {n0 : Nat} {bf : ab_B} : decode (ab_code (zx σ n0 bf).1 8163) 371 = .ok (.if_icmp .ge 72, 3) := zd zm_8163 (by decide +kernel)
theorem d_8163_374 {σ : Nat → Nat} {n0 : Nat} {bf : ab_B} : decode (ab_code (zx σ n0 bf).1 8163) 374 = .ok (.aload_n 0, 1) := zd zm_8163 (by decide +kernel)
theorem d_8163_375 {σ : Nat → Nat} {n0 : Nat} {bf : ab_B} : decode (ab_code (zx σ n0 bf).1 8163) 375 = .ok (.getfield 444, 3) := zd zm_8163 (by decide +kernel)
theorem d_8163_378 {σ : Nat → Nat} {n0 : Nat} {bf : ab_B} : decode (ab_code (zx σ n0 bf).1 8163) 378 = .ok (.ifCond .ne 65, 3) := zd zm_8163 (by decide +kernel)
theorem d_8163_381 {σ : Nat → Nat} {n0 : Nat} {bf : ab_B} : decode (ab_code (zx σ n0 bf).1 8163) 381 = .ok (.aload_n 0, 1) := zd zm_8163 (by decide +kernel)
theorem d_8163_382 {σ : Nat → Nat} {n0 : Nat} {bf : ab_B} : decode (ab_code (zx σ n0 bf).1 8163) 382 = .ok (.bipush 70, 2) := zd zm_8163 (by decide +kernel)
theorem d_8163_384 {σ : Nat → Nat} {n0 : Nat} {bf : ab_B} : decode (ab_code (zx σ n0 bf).1 8163) 384 = .ok (.aload_n 0, 1) := zd zm_8163 (by decide +kernel)
theorem d_8163_385 {σ : Nat → Nat} {n0 : Nat} {bf : ab_B} : decode (ab_code (zx σ n0 bf).1 8163) 385 = .ok (.getfield 221, 3) := zd zm_8163 (by decide +kernel)
theorem d_8163_388 {σ : Nat → Nat} {n0 : Nat} {bf : ab_B} : decode (ab_code (zx σ n0 bf).1 8163) 388 = .ok (.iload_n 1, 1) := zd zm_8163 (by decide +kernel)
theorem d_8163_389 {σ : Nat → Nat} {n0 : Nat} {bf : ab_B} : decode (ab_code (zx σ n0 bf).1 8163) 389 = .ok (.iaload, 1) := zd zm_8163 (by decide +kernel)
theorem d_8163_390 {σ : Nat → Nat} {n0 : Nat} {bf : ab_B} : decode (ab_code (zx σ n0 bf).1 8163) 390 = .ok (.iload 10, 2) := zd zm_8163 (by decide +kernel)
theorem d_8163_392 {σ : Nat → Nat} {n0 : Nat} {bf : ab_B} : decode (ab_code (zx σ n0 bf).1 8163) 392 = .ok (.iadd, 1) := zd zm_8163 (by decide +kernel)
theorem d_8163_393 {σ : Nat → Nat} {n0 : Nat} {bf : ab_B} : decode (ab_code (zx σ n0 bf).1 8163) 393 = .ok (.iload_n 3, 1) := zd zm_8163 (by decide +kernel)
theorem d_8163_394 {σ : Nat → Nat} {n0 : Nat} {bf : ab_B} : decode (ab_code (zx σ n0 bf).1 8163) 394 = .ok (.iconst 0, 1) := zd zm_8163 (by decide +kernel)
theorem d_8163_395 {σ : Nat → Nat} {n0 : Nat} {bf : ab_B} : decode (ab_code (zx σ n0 bf).1 8163) 395 = .ok (.invokevirtual 656, 3) := zd zm_8163 (by decide +kernel)
theorem d_8163_398 {σ : Nat → Nat} {n0 : Nat} {bf : ab_B} : decode (ab_code (zx σ n0 bf).1 8163) 398 = .ok (.istore 11, 2) := zd zm_8163 (by decide +kernel)
theorem d_8163_400 {σ : Nat → Nat} {n0 : Nat} {bf : ab_B} : decode (ab_code (zx σ n0 bf).1 8163) 400 = .ok (.aload_n 0, 1) := zd zm_8163 (by decide +kernel)
theorem d_8163_401 {σ : Nat → Nat} {n0 : Nat} {bf : ab_B} : decode (ab_code (zx σ n0 bf).1 8163) 401 = .ok (.aload_n 0, 1) := zd zm_8163 (by decide +kernel)
theorem d_8163_402 {σ : Nat → Nat} {n0 : Nat} {bf : ab_B} : decode (ab_code (zx σ n0 bf).1 8163) 402 = .ok (.getfield 90, 3) := zd zm_8163 (by decide +kernel)
theorem d_8163_405 {σ : Nat → Nat} {n0 : Nat} {bf : ab_B} : decode (ab_code (zx σ n0 bf).1 8163) 405 = .ok (.iload_n 3, 1) := zd zm_8163 (by decide +kernel)
theorem d_8163_406 {σ : Nat → Nat} {n0 : Nat} {bf : ab_B} : decode (ab_code (zx σ n0 bf).1 8163) 406 = .ok (.baload, 1) := zd zm_8163 (by decide +kernel)
theorem d_8163_407 {σ : Nat → Nat} {n0 : Nat} {bf : ab_B} : decode (ab_code (zx σ n0 bf).1 8163) 407 = .ok (.bipush 7, 2) := zd zm_8163 (by decide +kernel)
theorem d_8163_409 {σ : Nat → Nat} {n0 : Nat} {bf : ab_B} : decode (ab_code (zx σ n0 bf).1 8163) 409 = .ok (.if_icmp .ne 8, 3) := zd zm_8163 (by decide +kernel)
theorem d_8163_412 {σ : Nat → Nat} {n0 : Nat} {bf : ab_B} : decode (ab_code (zx σ n0 bf).1 8163) 412 = .ok (.bipush 72, 2) := zd zm_8163 (by decide +kernel)
theorem d_8163_414 {σ : Nat → Nat} {n0 : Nat} {bf : ab_B} : decode (ab_code (zx σ n0 bf).1 8163) 414 = .ok (.goto 5, 3) := zd zm_8163 (by decide +kernel)
theorem d_8163_417 {σ : Nat → Nat} {n0 : Nat} {bf : ab_B} : decode (ab_code (zx σ n0 bf).1 8163) 417 = .ok (.bipush 71, 2) := zd zm_8163 (by decide +kernel)
theorem d_8163_419 {σ : Nat → Nat} {n0 : Nat} {bf : ab_B} : decode (ab_code (zx σ n0 bf).1 8163) 419 = .ok (.aload_n 0, 1) := zd zm_8163 (by decide +kernel)
theorem d_8163_420 {σ : Nat → Nat} {n0 : Nat} {bf : ab_B} : decode (ab_code (zx σ n0 bf).1 8163) 420 = .ok (.getfield 221, 3) := zd zm_8163 (by decide +kernel)
theorem d_8163_423 {σ : Nat → Nat} {n0 : Nat} {bf : ab_B} : decode (ab_code (zx σ n0 bf).1 8163) 423 = .ok (.iload_n 1, 1) := zd zm_8163 (by decide +kernel)
theorem d_8163_424 {σ : Nat → Nat} {n0 : Nat} {bf : ab_B} : decode (ab_code (zx σ n0 bf).1 8163) 424 = .ok (.iaload, 1) := zd zm_8163 (by decide +kernel)
theorem d_8163_425 {σ : Nat → Nat} {n0 : Nat} {bf : ab_B} : decode (ab_code (zx σ n0 bf).1 8163) 425 = .ok (.iload 10, 2) := zd zm_8163 (by decide +kernel)
theorem d_8163_427 {σ : Nat → Nat} {n0 : Nat} {bf : ab_B} : decode (ab_code (zx σ n0 bf).1 8163) 427 = .ok (.iadd, 1) := zd zm_8163 (by decide +kernel)
theorem d_8163_428 {σ : Nat → Nat} {n0 : Nat} {bf : ab_B} : decode (ab_code (zx σ n0 bf).1 8163) 428 = .ok (.iload 5, 2) := zd zm_8163 (by decide +kernel)
theorem d_8163_430 {σ : Nat → Nat} {n0 : Nat} {bf : ab_B} : decode (ab_code (zx σ n0 bf).1 8163) 430 = .ok (.iload 6, 2) := zd zm_8163 (by decide +kernel)
theorem d_8163_432 {σ : Nat → Nat} {n0 : Nat} {bf : ab_B} : decode (ab_code (zx σ n0 bf).1 8163) 432 = .ok (.invokevirtual 656, 3) := zd zm_8163 (by decide +kernel)
theorem d_8163_435 {σ : Nat → Nat} {n0 : Nat} {bf : ab_B} : decode (ab_code (zx σ n0 bf).1 8163) 435 = .ok (.istore 12, 2) := zd zm_8163 (by decide +kernel)
theorem d_8163_437 {σ : Nat → Nat} {n0 : Nat} {bf : ab_B} : decode (ab_code (zx σ n0 bf).1 8163) 437 = .ok (.iinc 10 1, 3) := zd zm_8163 (by decide +kernel)
theorem d_8163_440 {σ : Nat → Nat} {n0 : Nat} {bf : ab_B} : decode (ab_code (zx σ n0 bf).1 8163) 440 = .ok (.goto (-72), 3) := zd zm_8163 (by decide +kernel)
theorem d_8163_443 {σ : Nat → Nat} {n0 : Nat} {bf : ab_B} : decode (ab_code (zx σ n0 bf).1 8163) 443 = .ok (.aload_n 0, 1) := zd zm_8163 (by decide +kernel)
theorem d_8163_444 {σ : Nat → Nat} {n0 : Nat} {bf : ab_B} : decode (ab_code (zx σ n0 bf).1 8163) 444 = .ok (.iload_n 1, 1) := zd zm_8163 (by decide +kernel)
theorem d_8163_445 {σ : Nat → Nat} {n0 : Nat} {bf : ab_B} : decode (ab_code (zx σ n0 bf).1 8163) 445 = .ok (.iload_n 2, 1) := zd zm_8163 (by decide +kernel)
theorem d_8163_446 {σ : Nat → Nat} {n0 : Nat} {bf : ab_B} : decode (ab_code (zx σ n0 bf).1 8163) 446 = .ok (.iload_n 3, 1) := zd zm_8163 (by decide +kernel)
theorem d_8163_447 {σ : Nat → Nat} {n0 : Nat} {bf : ab_B} : decode (ab_code (zx σ n0 bf).1 8163) 447 = .ok (.invokevirtual 940, 3) := zd zm_8163 (by decide +kernel)
theorem d_8163_450 {σ : Nat → Nat} {n0 : Nat} {bf : ab_B} : decode (ab_code (zx σ n0 bf).1 8163) 450 = .ok (.return_, 1) := zd zm_8163 (by decide +kernel)
def w_X9_valued_355 (X : zs_X) (d : Nat) (p0 : Nat) (p1 : Int32) (p2 : Int32) (p3 : Int32) (p5 : Int32) (p6 : Int32) (S : zs_T) (Q : zs_Q) : Prop :=
  (zs_K S p0 = some (.inl 8) ∧ ab_n0 X.1 ≤ p0 ∧ ∀ S3, S3 = zs_sI S 8040 p0 ((zs_I S 8040 p0) - p2) → zs_U X d 8163 368 [(0, .ref p0), (1, .int p1), (2, .int p2), (3, .int p3), (5, .int p5), (6, .int p6), (10, .int (0 : Int32))] [] S3 Q)
theorem u_X9_valued_355 {σ : Nat → Nat} {n0 : Nat} {bf : ab_B} {d : Nat} {p0 : Nat} {p1 : Int32} {p2 : Int32} {p3 : Int32} {p5 : Int32} {p6 : Int32} {S : zs_T} {Q : zs_Q} (hB : zt_B bf) (h : w_X9_valued_355 (zx σ n0 bf) d p0 p1 p2 p3 p5 p6 S Q) : zs_U (zx σ n0 bf) d 8163 355 [(0, .ref p0), (1, .int p1), (2, .int p2), (3, .int p3), (5, .int p5), (6, .int p6)] [] S Q := by
  unfold w_X9_valued_355 at h
  refine zu_aload_n d_8163_355 rfl (zs_ra _) ?_
  refine zu_dup d_8163_356 rfl ?_
  obtain ⟨k1, h⟩ := h
  refine zg_8_556 rfl d_8163_357 k1 ?_
  refine zu_iload_n d_8163_360 rfl ?_
  refine zu_stk d_8163_361 rfl rfl ?_
  obtain ⟨k2, h⟩ := h
  refine zp_8_556 (v := ((zs_I S 8040 p0) - p2)) rfl d_8163_362 k1 k2 ?_
  generalize e4 : zs_sI S 8040 p0 ((zs_I S 8040 p0) - p2) = S3
  have h := h S3 e4.symm
  have K5 : ∀ b, zs_K S3 b = zs_K S b := zs_Kt e4 (zs_KsI _ _ _ _) (fun _ => rfl)
  refine zu_iconst d_8163_365 zi_0 ?_
  refine zu_istore d_8163_366 (zs_lt zq_8163 rfl) ?_
  exact h.weak ⟨rfl, rfl, rfl, rfl, rfl, rfl, rfl, trivial⟩
def w_X9_valued_349 (X : zs_X) (d : Nat) (p0 : Nat) (p1 : Int32) (p2 : Int32) (p3 : Int32) (p5 : Int32) (p6 : Int32) (S : zs_T) (Q : zs_Q) : Prop :=
  (zs_K S p0 = some (.inl 8) ∧ zs_C X d 8027 [.ref p0, .int (7 : Int32)] S (zs_kV (fun S2 => w_X9_valued_355 X d p0 p1 p2 p3 p5 p6 S2 Q) Q))
theorem u_X9_valued_349 {σ : Nat → Nat} {n0 : Nat} {bf : ab_B} {d : Nat} {p0 : Nat} {p1 : Int32} {p2 : Int32} {p3 : Int32} {p5 : Int32} {p6 : Int32} {S : zs_T} {Q : zs_Q} (hB : zt_B bf) (h : w_X9_valued_349 (zx σ n0 bf) d p0 p1 p2 p3 p5 p6 S Q) : zs_U (zx σ n0 bf) d 8163 349 [(0, .ref p0), (1, .int p1), (2, .int p2), (3, .int p3), (5, .int p5), (6, .int p6)] [] S Q := by
  unfold w_X9_valued_349 at h
  refine zu_aload_n d_8163_349 rfl (zs_ra _) ?_
  refine zu_bipush d_8163_350 zj_7 ?_
  obtain ⟨k1, h⟩ := h
  refine zc_8_541 (x0 := (7 : Int32)) hB rfl k1 d_8163_352 (Nat.le_of_ble_eq_true rfl) h (fun S2 h => ?_)
  exact (u_X9_valued_355 hB h).weak ⟨rfl, rfl, rfl, rfl, rfl, rfl, trivial⟩
def w_X9_valued_318 (X : zs_X) (d : Nat) (p0 : Nat) (p1 : Int32) (p2 : Int32) (p3 : Int32) (p5 : Int32) (p6 : Int32) (S : zs_T) (Q : zs_Q) : Prop :=
  (zs_K S p0 = some (.inl 8) ∧ ∃ b2, (zs_R S 8044 p0) = some b2 ∧ zs_A S b2 1 p3 ∧ (((zs_i S b2 p3.toNatClampNeg) = (7 : Int32) → w_X9_valued_355 X d p0 p1 p2 p3 p5 p6 S Q) ∧ (¬ ((zs_i S b2 p3.toNatClampNeg) = (7 : Int32)) → (zs_C X d 8111 [.ref p0, .int p3] S (zs_kI (fun v7 S6 => (((p5 < v7 → w_X9_valued_349 X d p0 p1 p2 p3 p5 p6 S6 Q) ∧ (¬ (p5 < v7) → (zs_K S6 p0 = some (.inl 8) ∧ zs_C X d 8088 [.ref p0, .int p3] S6 (zs_kI (fun v11 S10 => (((p5 ≤ v11 → w_X9_valued_355 X d p0 p1 p2 p3 p5 p6 S10 Q) ∧ (¬ (p5 ≤ v11) → w_X9_valued_349 X d p0 p1 p2 p3 p5 p6 S10 Q)))) Q)))))) Q)))))
theorem u_X9_valued_318 {σ : Nat → Nat} {n0 : Nat} {bf : ab_B} {d : Nat} {p0 : Nat} {p1 : Int32} {p2 : Int32} {p3 : Int32} {p5 : Int32} {p6 : Int32} {S : zs_T} {Q : zs_Q} (hB : zt_B bf) (h : w_X9_valued_318 (zx σ n0 bf) d p0 p1 p2 p3 p5 p6 S Q) : zs_U (zx σ n0 bf) d 8163 318 [(0, .ref p0), (1, .int p1), (2, .int p2), (3, .int p3), (5, .int p5), (6, .int p6)] [] S Q := by
  unfold w_X9_valued_318 at h
  refine zu_aload_n d_8163_318 rfl (zs_ra _) ?_
  obtain ⟨k1, h⟩ := h
  refine zg_8_90 rfl d_8163_319 k1 ?_
  refine zu_iload_n d_8163_322 rfl ?_
  obtain ⟨b2, e3, h⟩ := h
  refine zs_stk1 (zs_rfe e3) ?_
  obtain ⟨k4, h⟩ := h
  refine zu_bald (k := 1) d_8163_323 rfl (Or.inl rfl) k4 ?_
  refine zu_bipush d_8163_324 zj_7 ?_
  refine zu_cmpeq (t := 355) d_8163_326 rfl (fun c5 => ?_) (fun c5 => ?_)
  · have h := h.1 c5
    exact (u_X9_valued_355 hB h).weak ⟨rfl, rfl, rfl, rfl, rfl, rfl, trivial⟩
  · have h := h.2 c5
    refine zu_iload d_8163_329 rfl ?_
    refine zu_aload_n d_8163_331 rfl (zs_ra _) ?_
    refine zu_iload_n d_8163_332 rfl ?_
    refine zc_8_789 (x0 := p3) hB rfl k1 d_8163_333 (Nat.le_of_ble_eq_true rfl) h (fun v7 S6 h => ?_)
    refine zu_cmplt (t := 349) d_8163_336 rfl (fun c8 => ?_) (fun c8 => ?_)
    · have h := h.1 c8
      exact (u_X9_valued_349 hB h).weak ⟨rfl, rfl, rfl, rfl, rfl, rfl, trivial⟩
    · have h := h.2 c8
      refine zu_iload d_8163_339 rfl ?_
      refine zu_aload_n d_8163_341 rfl (zs_ra _) ?_
      refine zu_iload_n d_8163_342 rfl ?_
      obtain ⟨k9, h⟩ := h
      refine zc_8_774 (x0 := p3) hB rfl k9 d_8163_343 (Nat.le_of_ble_eq_true rfl) h (fun v11 S10 h => ?_)
      refine zu_cmple (t := 355) d_8163_346 rfl (fun c12 => ?_) (fun c12 => ?_)
      · have h := h.1 c12
        exact (u_X9_valued_355 hB h).weak ⟨rfl, rfl, rfl, rfl, rfl, rfl, trivial⟩
      · have h := h.2 c12
        exact (u_X9_valued_349 hB h).weak ⟨rfl, rfl, rfl, rfl, rfl, rfl, trivial⟩
def w_X9_valued_289 (X : zs_X) (d : Nat) (p0 : Nat) (p1 : Int32) (p2 : Int32) (p3 : Int32) (p5 : Int32) (p6 : Int32) (S : zs_T) (Q : zs_Q) : Prop :=
  (zs_K S p0 = some (.inl 8) ∧ ((¬ (zs_I S 8010 p0) = 0 → w_X9_valued_355 X d p0 p1 p2 p3 p5 p6 S Q) ∧ (¬ (¬ (zs_I S 8010 p0) = 0) → (∃ b3, (zs_R S 8047 p0) = some b3 ∧ zs_A S b3 0 p3 ∧ ((p6 ≤ (zs_i S b3 p3.toNatClampNeg) → w_X9_valued_318 X d p0 p1 p2 p3 p5 p6 S Q) ∧ (¬ (p6 ≤ (zs_i S b3 p3.toNatClampNeg)) → (∃ b7, (zs_R S 8044 p0) = some b7 ∧ zs_A S b7 1 p3 ∧ (((zs_i S b7 p3.toNatClampNeg) = (7 : Int32) → w_X9_valued_349 X d p0 p1 p2 p3 p5 p6 S Q) ∧ (¬ ((zs_i S b7 p3.toNatClampNeg) = (7 : Int32)) → w_X9_valued_318 X d p0 p1 p2 p3 p5 p6 S Q)))))))))
theorem u_X9_valued_289 {σ : Nat → Nat} {n0 : Nat} {bf : ab_B} {d : Nat} {p0 : Nat} {p1 : Int32} {p2 : Int32} {p3 : Int32} {p5 : Int32} {p6 : Int32} {S : zs_T} {Q : zs_Q} (hB : zt_B bf) (h : w_X9_valued_289 (zx σ n0 bf) d p0 p1 p2 p3 p5 p6 S Q) : zs_U (zx σ n0 bf) d 8163 289 [(0, .ref p0), (1, .int p1), (2, .int p2), (3, .int p3), (5, .int p5), (6, .int p6)] [] S Q := by
  unfold w_X9_valued_289 at h
  refine zu_aload_n d_8163_289 rfl (zs_ra _) ?_
  obtain ⟨k1, h⟩ := h
  refine zg_8_444 rfl d_8163_290 k1 ?_
  refine zu_ifne (t := 355) d_8163_293 rfl (fun c2 => ?_) (fun c2 => ?_)
  · have h := h.1 c2
    exact (u_X9_valued_355 hB h).weak ⟨rfl, rfl, rfl, rfl, rfl, rfl, trivial⟩
  · have h := h.2 c2
    refine zu_iload d_8163_296 rfl ?_
    refine zu_aload_n d_8163_298 rfl (zs_ra _) ?_
    refine zg_8_99 rfl d_8163_299 k1 ?_
    refine zu_iload_n d_8163_302 rfl ?_
    obtain ⟨b3, e4, h⟩ := h
    refine zs_stk1 (zs_rfe e4) ?_
    obtain ⟨k5, h⟩ := h
    refine zu_iald (k := 0) d_8163_303 rfl rfl k5 ?_
    refine zu_cmple (t := 318) d_8163_304 rfl (fun c6 => ?_) (fun c6 => ?_)
    · have h := h.1 c6
      exact (u_X9_valued_318 hB h).weak ⟨rfl, rfl, rfl, rfl, rfl, rfl, trivial⟩
    · have h := h.2 c6
      refine zu_aload_n d_8163_307 rfl (zs_ra _) ?_
      refine zg_8_90 rfl d_8163_308 k1 ?_
      refine zu_iload_n d_8163_311 rfl ?_
      obtain ⟨b7, e8, h⟩ := h
      refine zs_stk1 (zs_rfe e8) ?_
      obtain ⟨k9, h⟩ := h
      refine zu_bald (k := 1) d_8163_312 rfl (Or.inl rfl) k9 ?_
      refine zu_bipush d_8163_313 zj_7 ?_
      refine zu_cmpeq (t := 349) d_8163_315 rfl (fun c10 => ?_) (fun c10 => ?_)
      · have h := h.1 c10
        exact (u_X9_valued_349 hB h).weak ⟨rfl, rfl, rfl, rfl, rfl, rfl, trivial⟩
      · have h := h.2 c10
        exact (u_X9_valued_318 hB h).weak ⟨rfl, rfl, rfl, rfl, rfl, rfl, trivial⟩
def w_X9_valued_272 (X : zs_X) (d : Nat) (p0 : Nat) (p1 : Int32) (p2 : Int32) (p3 : Int32) (p5 : Int32) (p6 : Int32) (p9 : Int32) (S : zs_T) (Q : zs_Q) : Prop :=
  (zs_K S p0 = some (.inl 8) ∧ ((¬ (zs_I S 8010 p0) = 0 → w_X9_valued_289 X d p0 p1 p2 p3 p5 p6 S Q) ∧ (¬ (¬ (zs_I S 8010 p0) = 0) → (((¬ p9 = 0 → w_X9_valued_289 X d p0 p1 p2 p3 p5 p6 S Q) ∧ (¬ (¬ p9 = 0) → (zs_C X d 8027 [.ref p0, .int (5 : Int32)] S (zs_kV (fun S4 => w_X9_valued_289 X d p0 p1 p2 p3 p5 p6 S4 Q) Q))))))))
theorem u_X9_valued_272 {σ : Nat → Nat} {n0 : Nat} {bf : ab_B} {d : Nat} {p0 : Nat} {p1 : Int32} {p2 : Int32} {p3 : Int32} {p5 : Int32} {p6 : Int32} {p9 : Int32} {S : zs_T} {Q : zs_Q} (hB : zt_B bf) (h : w_X9_valued_272 (zx σ n0 bf) d p0 p1 p2 p3 p5 p6 p9 S Q) : zs_U (zx σ n0 bf) d 8163 272 [(0, .ref p0), (1, .int p1), (2, .int p2), (3, .int p3), (5, .int p5), (6, .int p6), (9, .int p9)] [] S Q := by
  unfold w_X9_valued_272 at h
  refine zu_aload_n d_8163_272 rfl (zs_ra _) ?_
  obtain ⟨k1, h⟩ := h
  refine zg_8_444 rfl d_8163_273 k1 ?_
  refine zu_ifne (t := 289) d_8163_276 rfl (fun c2 => ?_) (fun c2 => ?_)
  · have h := h.1 c2
    exact (u_X9_valued_289 hB h).weak ⟨rfl, rfl, rfl, rfl, rfl, rfl, trivial⟩
  · have h := h.2 c2
    refine zu_iload d_8163_279 rfl ?_
    refine zu_ifne (t := 289) d_8163_281 rfl (fun c3 => ?_) (fun c3 => ?_)
    · have h := h.1 c3
      exact (u_X9_valued_289 hB h).weak ⟨rfl, rfl, rfl, rfl, rfl, rfl, trivial⟩
    · have h := h.2 c3
      refine zu_aload_n d_8163_284 rfl (zs_ra _) ?_
      refine zu_iconst d_8163_285 zi_5 ?_
      refine zc_8_541 (x0 := (5 : Int32)) hB rfl k1 d_8163_286 (Nat.le_of_ble_eq_true rfl) h (fun S4 h => ?_)
      exact (u_X9_valued_289 hB h).weak ⟨rfl, rfl, rfl, rfl, rfl, rfl, trivial⟩
def w_X9_valued_270 (X : zs_X) (d : Nat) (p0 : Nat) (p1 : Int32) (p2 : Int32) (p3 : Int32) (p5 : Int32) (p9 : Int32) (q0 : Int32) (S : zs_T) (Q : zs_Q) : Prop :=
  (w_X9_valued_272 X d p0 p1 p2 p3 p5 q0 p9 S Q)
theorem u_X9_valued_270 {σ : Nat → Nat} {n0 : Nat} {bf : ab_B} {d : Nat} {p0 : Nat} {p1 : Int32} {p2 : Int32} {p3 : Int32} {p5 : Int32} {p9 : Int32} {q0 : Int32} {S : zs_T} {Q : zs_Q} (hB : zt_B bf) (h : w_X9_valued_270 (zx σ n0 bf) d p0 p1 p2 p3 p5 p9 q0 S Q) : zs_U (zx σ n0 bf) d 8163 270 [(0, .ref p0), (1, .int p1), (2, .int p2), (3, .int p3), (5, .int p5), (9, .int p9)] [.int q0] S Q := by
  unfold w_X9_valued_270 at h
  refine zu_istore d_8163_270 (zs_lt zq_8163 rfl) ?_
  exact (u_X9_valued_272 hB h).weak ⟨rfl, rfl, rfl, rfl, rfl, rfl, rfl, trivial⟩
def w_X9_valued_223 (X : zs_X) (d : Nat) (p0 : Nat) (p1 : Int32) (p2 : Int32) (p3 : Int32) (p4 : Int32) (p5 : Int32) (p6 : Int32) (p9 : Int32) (S : zs_T) (Q : zs_Q) : Prop :=
  (zs_K S p0 = some (.inl 8) ∧ ∃ b2, (zs_R S 8095 p0) = some b2 ∧ zs_A S b2 0 p4 ∧ ab_n0 X.1 ≤ p0 ∧ ∀ S6, S6 = zs_sI S 8040 p0 (zs_i S b2 p4.toNatClampNeg) → ∀ S9, S9 = zs_sI S6 8097 p0 ((zs_I S6 8097 p0) - (1 : Int32)) → w_X9_valued_272 X d p0 p1 p2 p3 p5 p6 p9 S9 Q)
theorem u_X9_valued_223 {σ : Nat → Nat} {n0 : Nat} {bf : ab_B} {d : Nat} {p0 : Nat} {p1 : Int32} {p2 : Int32} {p3 : Int32} {p4 : Int32} {p5 : Int32} {p6 : Int32} {p9 : Int32} {S : zs_T} {Q : zs_Q} (hB : zt_B bf) (h : w_X9_valued_223 (zx σ n0 bf) d p0 p1 p2 p3 p4 p5 p6 p9 S Q) : zs_U (zx σ n0 bf) d 8163 223 [(0, .ref p0), (1, .int p1), (2, .int p2), (3, .int p3), (4, .int p4), (5, .int p5), (6, .int p6), (9, .int p9)] [] S Q := by
  unfold w_X9_valued_223 at h
  refine zu_aload_n d_8163_223 rfl (zs_ra _) ?_
  refine zu_aload_n d_8163_224 rfl (zs_ra _) ?_
  obtain ⟨k1, h⟩ := h
  refine zg_8_203 rfl d_8163_225 k1 ?_
  refine zu_iload d_8163_228 rfl ?_
  obtain ⟨b2, e3, h⟩ := h
  refine zs_stk1 (zs_rfe e3) ?_
  obtain ⟨k4, h⟩ := h
  refine zu_iald (k := 0) d_8163_230 rfl rfl k4 ?_
  obtain ⟨k5, h⟩ := h
  refine zp_8_556 (v := (zs_i S b2 p4.toNatClampNeg)) rfl d_8163_231 k1 k5 ?_
  generalize e7 : zs_sI S 8040 p0 (zs_i S b2 p4.toNatClampNeg) = S6
  have h := h S6 e7.symm
  have K8 : ∀ b, zs_K S6 b = zs_K S b := zs_Kt e7 (zs_KsI _ _ _ _) (fun _ => rfl)
  refine zu_aload_n d_8163_234 rfl (zs_ra _) ?_
  refine zu_dup d_8163_235 rfl ?_
  refine zg_8_653 rfl d_8163_236 ((K8 _).trans k1) ?_
  refine zu_iconst d_8163_239 zi_1 ?_
  refine zu_stk d_8163_240 rfl rfl ?_
  refine zp_8_653 (v := ((zs_I S6 8097 p0) - (1 : Int32))) rfl d_8163_241 ((K8 _).trans k1) k5 ?_
  generalize e10 : zs_sI S6 8097 p0 ((zs_I S6 8097 p0) - (1 : Int32)) = S9
  have h := h S9 e10.symm
  have K11 : ∀ b, zs_K S9 b = zs_K S b := zs_Kt e10 (zs_KsI _ _ _ _) K8
  refine zu_goto (t := 272) d_8163_244 rfl ?_
  exact (u_X9_valued_272 hB h).weak ⟨rfl, rfl, rfl, rfl, rfl, rfl, rfl, trivial⟩
def w_X9_valued_190 (X : zs_X) (d : Nat) (p0 : Nat) (p1 : Int32) (p2 : Int32) (p3 : Int32) (p4 : Int32) (p7 : Int32) (q0 : Int32) (S : zs_T) (Q : zs_Q) : Prop :=
  (((p7 = 0 → (zs_K S p0 = some (.inl 8) ∧ zs_C X d 8102 [.ref p0] S (zs_kJ (fun v4 S3 => (zs_K S3 p0 = some (.inl 8) ∧ ∃ b6, (zs_R S3 8044 p0) = some b6 ∧ zs_A S3 b6 1 p3 ∧ ((¬ (zs_i S3 b6 p3.toNatClampNeg) = (7 : Int32) → (w_X9_valued_270 X d p0 p1 p2 p3 ((v4).toInt32) q0 (0 : Int32) S3 Q)) ∧ (¬ (¬ (zs_i S3 b6 p3.toNatClampNeg) = (7 : Int32)) → (w_X9_valued_270 X d p0 p1 p2 p3 ((v4).toInt32) q0 (-1 : Int32) S3 Q))))) Q))) ∧ (¬ (p7 = 0) → (zs_K S p0 = some (.inl 8) ∧ ∃ b11, (zs_R S 8037 p0) = some b11 ∧ zs_A S b11 0 ((zs_I S 8040 p0) - (1 : Int32)) ∧ ∃ b14, (zs_R S 8038 p0) = some b14 ∧ zs_A S b14 0 ((zs_I S 8040 p0) - (1 : Int32)) ∧ w_X9_valued_223 X d p0 p1 p2 p3 p4 (zs_i S b11 ((zs_I S 8040 p0) - (1 : Int32)).toNatClampNeg) (zs_i S b14 ((zs_I S 8040 p0) - (1 : Int32)).toNatClampNeg) q0 S Q))))
theorem u_X9_valued_190 {σ : Nat → Nat} {n0 : Nat} {bf : ab_B} {d : Nat} {p0 : Nat} {p1 : Int32} {p2 : Int32} {p3 : Int32} {p4 : Int32} {p7 : Int32} {q0 : Int32} {S : zs_T} {Q : zs_Q} (hB : zt_B bf) (h : w_X9_valued_190 (zx σ n0 bf) d p0 p1 p2 p3 p4 p7 q0 S Q) : zs_U (zx σ n0 bf) d 8163 190 [(0, .ref p0), (1, .int p1), (2, .int p2), (3, .int p3), (4, .int p4), (7, .int p7)] [.int q0] S Q := by
  unfold w_X9_valued_190 at h
  refine zu_istore d_8163_190 (zs_lt zq_8163 rfl) ?_
  refine zu_iload d_8163_192 rfl ?_
  refine zu_ifeq (t := 247) d_8163_194 rfl (fun c1 => ?_) (fun c1 => ?_)
  · have h := h.1 c1
    refine zu_aload_n d_8163_247 rfl (zs_ra _) ?_
    obtain ⟨k2, h⟩ := h
    refine zc_8_880  hB rfl k2 d_8163_248 (Nat.le_of_ble_eq_true rfl) h (fun v4 S3 h => ?_)
    refine zu_stk d_8163_251 rfl rfl ?_
    refine zu_istore d_8163_252 (zs_lt zq_8163 rfl) ?_
    refine zu_aload_n d_8163_254 rfl (zs_ra _) ?_
    obtain ⟨k5, h⟩ := h
    refine zg_8_90 rfl d_8163_255 k5 ?_
    refine zu_iload_n d_8163_258 rfl ?_
    obtain ⟨b6, e7, h⟩ := h
    refine zs_stk1 (zs_rfe e7) ?_
    obtain ⟨k8, h⟩ := h
    refine zu_bald (k := 1) d_8163_259 rfl (Or.inl rfl) k8 ?_
    refine zu_bipush d_8163_260 zj_7 ?_
    refine zu_cmpne (t := 269) d_8163_262 rfl (fun c9 => ?_) (fun c9 => ?_)
    · have h := h.1 c9
      refine zu_iconst d_8163_269 zi_0 ?_
      exact (u_X9_valued_270 hB h).weak ⟨rfl, rfl, rfl, rfl, rfl, rfl, trivial⟩
    · have h := h.2 c9
      refine zu_iconst d_8163_265 zi_m1 ?_
      refine zu_goto (t := 270) d_8163_266 rfl ?_
      exact (u_X9_valued_270 hB h).weak ⟨rfl, rfl, rfl, rfl, rfl, rfl, trivial⟩
  · have h := h.2 c1
    refine zu_aload_n d_8163_197 rfl (zs_ra _) ?_
    obtain ⟨k10, h⟩ := h
    refine zg_8_75 rfl d_8163_198 k10 ?_
    refine zu_aload_n d_8163_201 rfl (zs_ra _) ?_
    refine zg_8_556 rfl d_8163_202 k10 ?_
    refine zu_iconst d_8163_205 zi_1 ?_
    refine zu_stk d_8163_206 rfl rfl ?_
    obtain ⟨b11, e12, h⟩ := h
    refine zs_stk1 (zs_rfe e12) ?_
    obtain ⟨k13, h⟩ := h
    refine zu_iald (k := 0) d_8163_207 rfl rfl k13 ?_
    refine zu_istore d_8163_208 (zs_lt zq_8163 rfl) ?_
    refine zu_aload_n d_8163_210 rfl (zs_ra _) ?_
    refine zg_8_78 rfl d_8163_211 k10 ?_
    refine zu_aload_n d_8163_214 rfl (zs_ra _) ?_
    refine zg_8_556 rfl d_8163_215 k10 ?_
    refine zu_iconst d_8163_218 zi_1 ?_
    refine zu_stk d_8163_219 rfl rfl ?_
    obtain ⟨b14, e15, h⟩ := h
    refine zs_stk1 (zs_rfe e15) ?_
    obtain ⟨k16, h⟩ := h
    refine zu_iald (k := 0) d_8163_220 rfl rfl k16 ?_
    refine zu_istore d_8163_221 (zs_lt zq_8163 rfl) ?_
    exact (u_X9_valued_223 hB h).weak ⟨rfl, rfl, rfl, rfl, rfl, rfl, rfl, rfl, trivial⟩
def w_X9_valued_189 (X : zs_X) (d : Nat) (p0 : Nat) (p1 : Int32) (p2 : Int32) (p3 : Int32) (p4 : Int32) (p7 : Int32) (S : zs_T) (Q : zs_Q) : Prop :=
  (w_X9_valued_190 X d p0 p1 p2 p3 p4 p7 (0 : Int32) S Q)
theorem u_X9_valued_189 {σ : Nat → Nat} {n0 : Nat} {bf : ab_B} {d : Nat} {p0 : Nat} {p1 : Int32} {p2 : Int32} {p3 : Int32} {p4 : Int32} {p7 : Int32} {S : zs_T} {Q : zs_Q} (hB : zt_B bf) (h : w_X9_valued_189 (zx σ n0 bf) d p0 p1 p2 p3 p4 p7 S Q) : zs_U (zx σ n0 bf) d 8163 189 [(0, .ref p0), (1, .int p1), (2, .int p2), (3, .int p3), (4, .int p4), (7, .int p7)] [] S Q := by
  unfold w_X9_valued_189 at h
  refine zu_iconst d_8163_189 zi_0 ?_
  exact (u_X9_valued_190 hB h).weak ⟨rfl, rfl, rfl, rfl, rfl, rfl, trivial⟩
def w_X9_valued_175 (X : zs_X) (d : Nat) (p0 : Nat) (p1 : Int32) (p2 : Int32) (p3 : Int32) (p4 : Int32) (p7 : Int32) (p8 : Int32) (S : zs_T) (Q : zs_Q) : Prop :=
  (zs_K S p0 = some (.inl 8) ∧ zs_C X d 8042 [.ref p0, .int p8] S (zs_kI (fun v3 S2 => (((¬ v3 = (3 : Int32) → w_X9_valued_189 X d p0 p1 p2 p3 p4 p7 S2 Q) ∧ (¬ (¬ v3 = (3 : Int32)) → (w_X9_valued_190 X d p0 p1 p2 p3 p4 p7 (1 : Int32) S2 Q))))) Q))
theorem u_X9_valued_175 {σ : Nat → Nat} {n0 : Nat} {bf : ab_B} {d : Nat} {p0 : Nat} {p1 : Int32} {p2 : Int32} {p3 : Int32} {p4 : Int32} {p7 : Int32} {p8 : Int32} {S : zs_T} {Q : zs_Q} (hB : zt_B bf) (h : w_X9_valued_175 (zx σ n0 bf) d p0 p1 p2 p3 p4 p7 p8 S Q) : zs_U (zx σ n0 bf) d 8163 175 [(0, .ref p0), (1, .int p1), (2, .int p2), (3, .int p3), (4, .int p4), (7, .int p7), (8, .int p8)] [] S Q := by
  unfold w_X9_valued_175 at h
  refine zu_aload_n d_8163_175 rfl (zs_ra _) ?_
  refine zu_iload d_8163_176 rfl ?_
  obtain ⟨k1, h⟩ := h
  refine zc_8_561 (x0 := p8) hB rfl k1 d_8163_178 (Nat.le_of_ble_eq_true rfl) h (fun v3 S2 h => ?_)
  refine zu_iconst d_8163_181 zi_3 ?_
  refine zu_cmpne (t := 189) d_8163_182 rfl (fun c4 => ?_) (fun c4 => ?_)
  · have h := h.1 c4
    exact (u_X9_valued_189 hB h).weak ⟨rfl, rfl, rfl, rfl, rfl, rfl, trivial⟩
  · have h := h.2 c4
    refine zu_iconst d_8163_185 zi_1 ?_
    refine zu_goto (t := 190) d_8163_186 rfl ?_
    exact (u_X9_valued_190 hB h).weak ⟨rfl, rfl, rfl, rfl, rfl, rfl, trivial⟩
def w_X9_valued_160 (X : zs_X) (d : Nat) (p0 : Nat) (p1 : Int32) (p2 : Int32) (p3 : Int32) (p4 : Int32) (p7 : Int32) (S : zs_T) (Q : zs_Q) : Prop :=
  (w_X9_valued_190 X d p0 p1 p2 p3 p4 p7 (0 : Int32) S Q)
theorem u_X9_valued_160 {σ : Nat → Nat} {n0 : Nat} {bf : ab_B} {d : Nat} {p0 : Nat} {p1 : Int32} {p2 : Int32} {p3 : Int32} {p4 : Int32} {p7 : Int32} {S : zs_T} {Q : zs_Q} (hB : zt_B bf) (h : w_X9_valued_160 (zx σ n0 bf) d p0 p1 p2 p3 p4 p7 S Q) : zs_U (zx σ n0 bf) d 8163 160 [(0, .ref p0), (1, .int p1), (2, .int p2), (3, .int p3), (4, .int p4), (7, .int p7)] [] S Q := by
  unfold w_X9_valued_160 at h
  refine zu_iconst d_8163_160 zi_0 ?_
  refine zu_goto (t := 190) d_8163_161 rfl ?_
  exact (u_X9_valued_190 hB h).weak ⟨rfl, rfl, rfl, rfl, rfl, rfl, trivial⟩
def w_X9_valued_156 (X : zs_X) (d : Nat) (p0 : Nat) (p1 : Int32) (p2 : Int32) (p3 : Int32) (p4 : Int32) (p7 : Int32) (S : zs_T) (Q : zs_Q) : Prop :=
  (w_X9_valued_190 X d p0 p1 p2 p3 p4 p7 (1 : Int32) S Q)
theorem u_X9_valued_156 {σ : Nat → Nat} {n0 : Nat} {bf : ab_B} {d : Nat} {p0 : Nat} {p1 : Int32} {p2 : Int32} {p3 : Int32} {p4 : Int32} {p7 : Int32} {S : zs_T} {Q : zs_Q} (hB : zt_B bf) (h : w_X9_valued_156 (zx σ n0 bf) d p0 p1 p2 p3 p4 p7 S Q) : zs_U (zx σ n0 bf) d 8163 156 [(0, .ref p0), (1, .int p1), (2, .int p2), (3, .int p3), (4, .int p4), (7, .int p7)] [] S Q := by
  unfold w_X9_valued_156 at h
  refine zu_iconst d_8163_156 zi_1 ?_
  refine zu_goto (t := 190) d_8163_157 rfl ?_
  exact (u_X9_valued_190 hB h).weak ⟨rfl, rfl, rfl, rfl, rfl, rfl, trivial⟩
def w_X9_valued_101 (X : zs_X) (d : Nat) (p0 : Nat) (p1 : Int32) (p2 : Int32) (p3 : Int32) (p4 : Int32) (p7 : Int32) (S : zs_T) (Q : zs_Q) : Prop :=
  (zs_K S p0 = some (.inl 8) ∧ ∃ b2, (zs_R S 8091 p0) = some b2 ∧ zs_A S b2 0 p4 ∧ ((p7 = 0 → (zs_C X d 8036 [.ref p0, .int p3] S (zs_kI (fun v7 S6 => (((v7 = 0 → (zs_K S6 p0 = some (.inl 8) ∧ ∃ b10, (zs_R S6 8044 p0) = some b10 ∧ zs_A S6 b10 1 p3 ∧ ((¬ (zs_i S6 b10 p3.toNatClampNeg) = (7 : Int32) → w_X9_valued_189 X d p0 p1 p2 p3 p4 p7 S6 Q) ∧ (¬ (¬ (zs_i S6 b10 p3.toNatClampNeg) = (7 : Int32)) → w_X9_valued_175 X d p0 p1 p2 p3 p4 p7 (zs_i S b2 p4.toNatClampNeg) S6 Q)))) ∧ (¬ (v7 = 0) → (zs_K S6 p0 = some (.inl 8) ∧ zs_C X d 8042 [.ref p0, .int p3] S6 (zs_kI (fun v16 S15 => (zs_K S15 p0 = some (.inl 8) ∧ zs_C X d 8042 [.ref p0, .int (zs_i S b2 p4.toNatClampNeg)] S15 (zs_kI (fun v19 S18 => (((¬ v16 = v19 → w_X9_valued_160 X d p0 p1 p2 p3 p4 p7 S18 Q) ∧ (¬ (¬ v16 = v19) → w_X9_valued_156 X d p0 p1 p2 p3 p4 p7 S18 Q)))) Q))) Q)))))) Q))) ∧ (¬ (p7 = 0) → (∃ b21, (zs_R S 8044 p0) = some b21 ∧ zs_A S b21 1 p3 ∧ ((¬ (zs_i S b21 p3.toNatClampNeg) = (7 : Int32) → (w_X9_valued_190 X d p0 p1 p2 p3 p4 p7 (0 : Int32) S Q)) ∧ (¬ (¬ (zs_i S b21 p3.toNatClampNeg) = (7 : Int32)) → (w_X9_valued_190 X d p0 p1 p2 p3 p4 p7 (1 : Int32) S Q)))))))
theorem u_X9_valued_101 {σ : Nat → Nat} {n0 : Nat} {bf : ab_B} {d : Nat} {p0 : Nat} {p1 : Int32} {p2 : Int32} {p3 : Int32} {p4 : Int32} {p7 : Int32} {S : zs_T} {Q : zs_Q} (hB : zt_B bf) (h : w_X9_valued_101 (zx σ n0 bf) d p0 p1 p2 p3 p4 p7 S Q) : zs_U (zx σ n0 bf) d 8163 101 [(0, .ref p0), (1, .int p1), (2, .int p2), (3, .int p3), (4, .int p4), (7, .int p7)] [] S Q := by
  unfold w_X9_valued_101 at h
  refine zu_aload_n d_8163_101 rfl (zs_ra _) ?_
  obtain ⟨k1, h⟩ := h
  refine zg_8_191 rfl d_8163_102 k1 ?_
  refine zu_iload d_8163_105 rfl ?_
  obtain ⟨b2, e3, h⟩ := h
  refine zs_stk1 (zs_rfe e3) ?_
  obtain ⟨k4, h⟩ := h
  refine zu_iald (k := 0) d_8163_107 rfl rfl k4 ?_
  refine zu_istore d_8163_108 (zs_lt zq_8163 rfl) ?_
  refine zu_iload d_8163_110 rfl ?_
  refine zu_ifeq (t := 134) d_8163_112 rfl (fun c5 => ?_) (fun c5 => ?_)
  · have h := h.1 c5
    refine zu_aload_n d_8163_134 rfl (zs_ra _) ?_
    refine zu_iload_n d_8163_135 rfl ?_
    refine zc_8_564 (x0 := p3) hB rfl k1 d_8163_136 (Nat.le_of_ble_eq_true rfl) h (fun v7 S6 h => ?_)
    refine zu_ifeq (t := 164) d_8163_139 rfl (fun c8 => ?_) (fun c8 => ?_)
    · have h := h.1 c8
      refine zu_aload_n d_8163_164 rfl (zs_ra _) ?_
      obtain ⟨k9, h⟩ := h
      refine zg_8_90 rfl d_8163_165 k9 ?_
      refine zu_iload_n d_8163_168 rfl ?_
      obtain ⟨b10, e11, h⟩ := h
      refine zs_stk1 (zs_rfe e11) ?_
      obtain ⟨k12, h⟩ := h
      refine zu_bald (k := 1) d_8163_169 rfl (Or.inl rfl) k12 ?_
      refine zu_bipush d_8163_170 zj_7 ?_
      refine zu_cmpne (t := 189) d_8163_172 rfl (fun c13 => ?_) (fun c13 => ?_)
      · have h := h.1 c13
        exact (u_X9_valued_189 hB h).weak ⟨rfl, rfl, rfl, rfl, rfl, rfl, trivial⟩
      · have h := h.2 c13
        exact (u_X9_valued_175 hB h).weak ⟨rfl, rfl, rfl, rfl, rfl, rfl, rfl, trivial⟩
    · have h := h.2 c8
      refine zu_aload_n d_8163_142 rfl (zs_ra _) ?_
      refine zu_iload_n d_8163_143 rfl ?_
      obtain ⟨k14, h⟩ := h
      refine zc_8_561 (x0 := p3) hB rfl k14 d_8163_144 (Nat.le_of_ble_eq_true rfl) h (fun v16 S15 h => ?_)
      refine zu_aload_n d_8163_147 rfl (zs_ra _) ?_
      refine zu_iload d_8163_148 rfl ?_
      obtain ⟨k17, h⟩ := h
      refine zc_8_561 (x0 := (zs_i S b2 p4.toNatClampNeg)) hB rfl k17 d_8163_150 (Nat.le_of_ble_eq_true rfl) h (fun v19 S18 h => ?_)
      refine zu_cmpne (t := 160) d_8163_153 rfl (fun c20 => ?_) (fun c20 => ?_)
      · have h := h.1 c20
        exact (u_X9_valued_160 hB h).weak ⟨rfl, rfl, rfl, rfl, rfl, rfl, trivial⟩
      · have h := h.2 c20
        exact (u_X9_valued_156 hB h).weak ⟨rfl, rfl, rfl, rfl, rfl, rfl, trivial⟩
  · have h := h.2 c5
    refine zu_aload_n d_8163_115 rfl (zs_ra _) ?_
    refine zg_8_90 rfl d_8163_116 k1 ?_
    refine zu_iload_n d_8163_119 rfl ?_
    obtain ⟨b21, e22, h⟩ := h
    refine zs_stk1 (zs_rfe e22) ?_
    obtain ⟨k23, h⟩ := h
    refine zu_bald (k := 1) d_8163_120 rfl (Or.inl rfl) k23 ?_
    refine zu_bipush d_8163_121 zj_7 ?_
    refine zu_cmpne (t := 130) d_8163_123 rfl (fun c24 => ?_) (fun c24 => ?_)
    · have h := h.1 c24
      refine zu_iconst d_8163_130 zi_0 ?_
      refine zu_goto (t := 190) d_8163_131 rfl ?_
      exact (u_X9_valued_190 hB h).weak ⟨rfl, rfl, rfl, rfl, rfl, rfl, trivial⟩
    · have h := h.2 c24
      refine zu_iconst d_8163_126 zi_1 ?_
      refine zu_goto (t := 190) d_8163_127 rfl ?_
      exact (u_X9_valued_190 hB h).weak ⟨rfl, rfl, rfl, rfl, rfl, rfl, trivial⟩
def w_X9_valued_95 (X : zs_X) (d : Nat) (p0 : Nat) (S : zs_T) (Q : zs_Q) : Prop :=
  (zs_K S p0 = some (.inl 8) ∧ zs_C X d 8027 [.ref p0, .int (5 : Int32)] S (zs_kV (fun S2 => (Q (.returned none) S2)) Q))
theorem u_X9_valued_95 {σ : Nat → Nat} {n0 : Nat} {bf : ab_B} {d : Nat} {p0 : Nat} {S : zs_T} {Q : zs_Q} (hB : zt_B bf) (h : w_X9_valued_95 (zx σ n0 bf) d p0 S Q) : zs_U (zx σ n0 bf) d 8163 95 [(0, .ref p0)] [] S Q := by
  unfold w_X9_valued_95 at h
  refine zu_aload_n d_8163_95 rfl (zs_ra _) ?_
  refine zu_iconst d_8163_96 zi_5 ?_
  obtain ⟨k1, h⟩ := h
  refine zc_8_541 (x0 := (5 : Int32)) hB rfl k1 d_8163_97 (Nat.le_of_ble_eq_true rfl) h (fun S2 h => ?_)
  exact zu_vret d_8163_100 zr_8163 h
def w_X9_valued_51 (X : zs_X) (d : Nat) (p0 : Nat) (p1 : Int32) (p2 : Int32) (p3 : Int32) (p4 : Int32) (p7 : Int32) (S : zs_T) (Q : zs_Q) : Prop :=
  (zs_K S p0 = some (.inl 8) ∧ (((zs_I S 8010 p0) ≤ 0 → (((¬ p7 = 0 → w_X9_valued_101 X d p0 p1 p2 p3 p4 p7 S Q) ∧ (¬ (¬ p7 = 0) → (∃ b4, (zs_R S 8093 p0) = some b4 ∧ zs_A S b4 2 p4 ∧ (((zs_i S b4 p4.toNatClampNeg) = 0 → w_X9_valued_95 X d p0 S Q) ∧ (¬ ((zs_i S b4 p4.toNatClampNeg) = 0) → (zs_C X d 8101 [.ref p0] S (zs_kI (fun v9 S8 => (((¬ v9 = 0 → w_X9_valued_95 X d p0 S8 Q) ∧ (¬ (¬ v9 = 0) → (zs_K S8 p0 = some (.inl 8) ∧ ∃ b12, (zs_R S8 8091 p0) = some b12 ∧ zs_A S8 b12 0 p4 ∧ zs_C X d 8036 [.ref p0, .int (zs_i S8 b12 p4.toNatClampNeg)] S8 (zs_kI (fun v16 S15 => (((¬ v16 = 0 → w_X9_valued_101 X d p0 p1 p2 p3 p4 p7 S15 Q) ∧ (¬ (¬ v16 = 0) → w_X9_valued_95 X d p0 S15 Q)))) Q)))))) Q))))))))) ∧ (¬ ((zs_I S 8010 p0) ≤ 0) → (Q (.returned none) S))))
theorem u_X9_valued_51 {σ : Nat → Nat} {n0 : Nat} {bf : ab_B} {d : Nat} {p0 : Nat} {p1 : Int32} {p2 : Int32} {p3 : Int32} {p4 : Int32} {p7 : Int32} {S : zs_T} {Q : zs_Q} (hB : zt_B bf) (h : w_X9_valued_51 (zx σ n0 bf) d p0 p1 p2 p3 p4 p7 S Q) : zs_U (zx σ n0 bf) d 8163 51 [(0, .ref p0), (1, .int p1), (2, .int p2), (3, .int p3), (4, .int p4), (7, .int p7)] [] S Q := by
  unfold w_X9_valued_51 at h
  refine zu_aload_n d_8163_51 rfl (zs_ra _) ?_
  obtain ⟨k1, h⟩ := h
  refine zg_8_444 rfl d_8163_52 k1 ?_
  refine zu_ifle (t := 59) d_8163_55 rfl (fun c2 => ?_) (fun c2 => ?_)
  · have h := h.1 c2
    refine zu_iload d_8163_59 rfl ?_
    refine zu_ifne (t := 101) d_8163_61 rfl (fun c3 => ?_) (fun c3 => ?_)
    · have h := h.1 c3
      exact (u_X9_valued_101 hB h).weak ⟨rfl, rfl, rfl, rfl, rfl, rfl, trivial⟩
    · have h := h.2 c3
      refine zu_aload_n d_8163_64 rfl (zs_ra _) ?_
      refine zg_8_197 rfl d_8163_65 k1 ?_
      refine zu_iload d_8163_68 rfl ?_
      obtain ⟨b4, e5, h⟩ := h
      refine zs_stk1 (zs_rfe e5) ?_
      obtain ⟨k6, h⟩ := h
      refine zu_bald (k := 2) d_8163_70 rfl (Or.inr rfl) k6 ?_
      refine zu_ifeq (t := 95) d_8163_71 rfl (fun c7 => ?_) (fun c7 => ?_)
      · have h := h.1 c7
        exact (u_X9_valued_95 hB h).weak ⟨rfl, trivial⟩
      · have h := h.2 c7
        refine zu_aload_n d_8163_74 rfl (zs_ra _) ?_
        refine zc_8_877  hB rfl k1 d_8163_75 (Nat.le_of_ble_eq_true rfl) h (fun v9 S8 h => ?_)
        refine zu_ifne (t := 95) d_8163_78 rfl (fun c10 => ?_) (fun c10 => ?_)
        · have h := h.1 c10
          exact (u_X9_valued_95 hB h).weak ⟨rfl, trivial⟩
        · have h := h.2 c10
          refine zu_aload_n d_8163_81 rfl (zs_ra _) ?_
          refine zu_aload_n d_8163_82 rfl (zs_ra _) ?_
          obtain ⟨k11, h⟩ := h
          refine zg_8_191 rfl d_8163_83 k11 ?_
          refine zu_iload d_8163_86 rfl ?_
          obtain ⟨b12, e13, h⟩ := h
          refine zs_stk1 (zs_rfe e13) ?_
          obtain ⟨k14, h⟩ := h
          refine zu_iald (k := 0) d_8163_88 rfl rfl k14 ?_
          refine zc_8_564 (x0 := (zs_i S8 b12 p4.toNatClampNeg)) hB rfl k11 d_8163_89 (Nat.le_of_ble_eq_true rfl) h (fun v16 S15 h => ?_)
          refine zu_ifne (t := 101) d_8163_92 rfl (fun c17 => ?_) (fun c17 => ?_)
          · have h := h.1 c17
            exact (u_X9_valued_101 hB h).weak ⟨rfl, rfl, rfl, rfl, rfl, rfl, trivial⟩
          · have h := h.2 c17
            exact (u_X9_valued_95 hB h).weak ⟨rfl, trivial⟩
  · have h := h.2 c2
    exact zu_vret d_8163_58 zr_8163 h
def w_X9_valued_40 (X : zs_X) (d : Nat) (p0 : Nat) (p1 : Int32) (p2 : Int32) (p3 : Int32) (p4 : Int32) (q0 : Int32) (S : zs_T) (Q : zs_Q) : Prop :=
  (((¬ q0 = 0 → w_X9_valued_51 X d p0 p1 p2 p3 p4 q0 S Q) ∧ (¬ (¬ q0 = 0) → (zs_K S p0 = some (.inl 8) ∧ zs_C X d 8037 [.ref p0] S (zs_kV (fun S3 => w_X9_valued_51 X d p0 p1 p2 p3 p4 q0 S3 Q) Q)))))
theorem u_X9_valued_40 {σ : Nat → Nat} {n0 : Nat} {bf : ab_B} {d : Nat} {p0 : Nat} {p1 : Int32} {p2 : Int32} {p3 : Int32} {p4 : Int32} {q0 : Int32} {S : zs_T} {Q : zs_Q} (hB : zt_B bf) (h : w_X9_valued_40 (zx σ n0 bf) d p0 p1 p2 p3 p4 q0 S Q) : zs_U (zx σ n0 bf) d 8163 40 [(0, .ref p0), (1, .int p1), (2, .int p2), (3, .int p3), (4, .int p4)] [.int q0] S Q := by
  unfold w_X9_valued_40 at h
  refine zu_istore d_8163_40 (zs_lt zq_8163 rfl) ?_
  refine zu_iload d_8163_42 rfl ?_
  refine zu_ifne (t := 51) d_8163_44 rfl (fun c1 => ?_) (fun c1 => ?_)
  · have h := h.1 c1
    exact (u_X9_valued_51 hB h).weak ⟨rfl, rfl, rfl, rfl, rfl, rfl, trivial⟩
  · have h := h.2 c1
    refine zu_aload_n d_8163_47 rfl (zs_ra _) ?_
    obtain ⟨k2, h⟩ := h
    refine zc_8_660  hB rfl k2 d_8163_48 (Nat.le_of_ble_eq_true rfl) h (fun S3 h => ?_)
    exact (u_X9_valued_51 hB h).weak ⟨rfl, rfl, rfl, rfl, rfl, rfl, trivial⟩
def w_X9_valued_35 (X : zs_X) (d : Nat) (p0 : Nat) (p1 : Int32) (p2 : Int32) (p3 : Int32) (p4 : Int32) (S : zs_T) (Q : zs_Q) : Prop :=
  (w_X9_valued_40 X d p0 p1 p2 p3 p4 (1 : Int32) S Q)
theorem u_X9_valued_35 {σ : Nat → Nat} {n0 : Nat} {bf : ab_B} {d : Nat} {p0 : Nat} {p1 : Int32} {p2 : Int32} {p3 : Int32} {p4 : Int32} {S : zs_T} {Q : zs_Q} (hB : zt_B bf) (h : w_X9_valued_35 (zx σ n0 bf) d p0 p1 p2 p3 p4 S Q) : zs_U (zx σ n0 bf) d 8163 35 [(0, .ref p0), (1, .int p1), (2, .int p2), (3, .int p3), (4, .int p4)] [] S Q := by
  unfold w_X9_valued_35 at h
  refine zu_iconst d_8163_35 zi_1 ?_
  refine zu_goto (t := 40) d_8163_36 rfl ?_
  exact (u_X9_valued_40 hB h).weak ⟨rfl, rfl, rfl, rfl, rfl, trivial⟩
def w_X9_valued_39 (X : zs_X) (d : Nat) (p0 : Nat) (p1 : Int32) (p2 : Int32) (p3 : Int32) (p4 : Int32) (S : zs_T) (Q : zs_Q) : Prop :=
  (w_X9_valued_40 X d p0 p1 p2 p3 p4 (0 : Int32) S Q)
theorem u_X9_valued_39 {σ : Nat → Nat} {n0 : Nat} {bf : ab_B} {d : Nat} {p0 : Nat} {p1 : Int32} {p2 : Int32} {p3 : Int32} {p4 : Int32} {S : zs_T} {Q : zs_Q} (hB : zt_B bf) (h : w_X9_valued_39 (zx σ n0 bf) d p0 p1 p2 p3 p4 S Q) : zs_U (zx σ n0 bf) d 8163 39 [(0, .ref p0), (1, .int p1), (2, .int p2), (3, .int p3), (4, .int p4)] [] S Q := by
  unfold w_X9_valued_39 at h
  refine zu_iconst d_8163_39 zi_0 ?_
  exact (u_X9_valued_40 hB h).weak ⟨rfl, rfl, rfl, rfl, rfl, trivial⟩
def w_X9_valued_443 (X : zs_X) (d : Nat) (p0 : Nat) (p1 : Int32) (p2 : Int32) (p3 : Int32) (S : zs_T) (Q : zs_Q) : Prop :=
  (zs_K S p0 = some (.inl 8) ∧ zs_C X d 8162 [.ref p0, .int p1, .int p2, .int p3] S (zs_kV (fun S2 => (Q (.returned none) S2)) Q))
theorem u_X9_valued_443 {σ : Nat → Nat} {n0 : Nat} {bf : ab_B} {d : Nat} {p0 : Nat} {p1 : Int32} {p2 : Int32} {p3 : Int32} {S : zs_T} {Q : zs_Q} (hB : zt_B bf) (h : w_X9_valued_443 (zx σ n0 bf) d p0 p1 p2 p3 S Q) : zs_U (zx σ n0 bf) d 8163 443 [(0, .ref p0), (1, .int p1), (2, .int p2), (3, .int p3)] [] S Q := by
  unfold w_X9_valued_443 at h
  refine zu_aload_n d_8163_443 rfl (zs_ra _) ?_
  refine zu_iload_n d_8163_444 rfl ?_
  refine zu_iload_n d_8163_445 rfl ?_
  refine zu_iload_n d_8163_446 rfl ?_
  obtain ⟨k1, h⟩ := h
  refine zc_8_940 (x0 := p1) (x1 := p2) (x2 := p3) hB rfl k1 d_8163_447 (Nat.le_of_ble_eq_true rfl) h (fun S2 h => ?_)
  exact zu_vret d_8163_450 zr_8163 h
def w_X9_valued_419 (X : zs_X) (d : Nat) (p0 : Nat) (p1 : Int32) (p2 : Int32) (p3 : Int32) (p5 : Int32) (p6 : Int32) (p10 : Int32) (q0 : Option Nat) (q1 : Int32) (S : zs_T) (Q : zs_Q) : Prop :=
  (zs_K S p0 = some (.inl 8) ∧ ∃ b2, (zs_R S 8102 p0) = some b2 ∧ zs_A S b2 0 p1 ∧ ∃ b5, q0 = some b5 ∧ zs_K S b5 = some (.inl 8) ∧ zs_C X d 8012 [.ref b5, .int q1, .int ((zs_i S b2 p1.toNatClampNeg) + p10), .int p5, .int p6] S (zs_kI (fun v9 S8 => (zs_U X d 8163 368 [(0, .ref p0), (1, .int p1), (2, .int p2), (3, .int p3), (5, .int p5), (6, .int p6), (10, .int (p10 + (1 : Int32)))] [] S8 Q)) Q))
theorem u_X9_valued_419 {σ : Nat → Nat} {n0 : Nat} {bf : ab_B} {d : Nat} {p0 : Nat} {p1 : Int32} {p2 : Int32} {p3 : Int32} {p5 : Int32} {p6 : Int32} {p10 : Int32} {q0 : Option Nat} {q1 : Int32} {S : zs_T} {Q : zs_Q} (hB : zt_B bf) (h : w_X9_valued_419 (zx σ n0 bf) d p0 p1 p2 p3 p5 p6 p10 q0 q1 S Q) : zs_U (zx σ n0 bf) d 8163 419 [(0, .ref p0), (1, .int p1), (2, .int p2), (3, .int p3), (5, .int p5), (6, .int p6), (10, .int p10)] [.int q1, va_rf q0] S Q := by
  unfold w_X9_valued_419 at h
  refine zu_aload_n d_8163_419 rfl (zs_ra _) ?_
  obtain ⟨k1, h⟩ := h
  refine zg_8_221 rfl d_8163_420 k1 ?_
  refine zu_iload_n d_8163_423 rfl ?_
  obtain ⟨b2, e3, h⟩ := h
  refine zs_stk1 (zs_rfe e3) ?_
  obtain ⟨k4, h⟩ := h
  refine zu_iald (k := 0) d_8163_424 rfl rfl k4 ?_
  refine zu_iload d_8163_425 rfl ?_
  refine zu_stk d_8163_427 rfl rfl ?_
  refine zu_iload d_8163_428 rfl ?_
  refine zu_iload d_8163_430 rfl ?_
  obtain ⟨b5, e6, h⟩ := h
  refine zs_stk4 (zs_rfe e6) ?_
  obtain ⟨k7, h⟩ := h
  refine zc_8_656 (x0 := q1) (x1 := ((zs_i S b2 p1.toNatClampNeg) + p10)) (x2 := p5) (x3 := p6) hB rfl k7 d_8163_432 (Nat.le_of_ble_eq_true rfl) h (fun v9 S8 h => ?_)
  refine zu_istore d_8163_435 (zs_lt zq_8163 rfl) ?_
  refine zu_iinc d_8163_437 rfl zi_1 (zs_lt zq_8163 rfl) ?_
  refine zu_goto (t := 368) d_8163_440 rfl ?_
  exact h.weak ⟨rfl, rfl, rfl, rfl, rfl, rfl, rfl, trivial⟩
def w_X9_valued_400 (X : zs_X) (d : Nat) (p0 : Nat) (p1 : Int32) (p2 : Int32) (p3 : Int32) (p5 : Int32) (p6 : Int32) (p10 : Int32) (S : zs_T) (Q : zs_Q) : Prop :=
  (zs_K S p0 = some (.inl 8) ∧ ∃ b2, (zs_R S 8044 p0) = some b2 ∧ zs_A S b2 1 p3 ∧ ((¬ (zs_i S b2 p3.toNatClampNeg) = (7 : Int32) → (w_X9_valued_419 X d p0 p1 p2 p3 p5 p6 p10 (some p0) (71 : Int32) S Q)) ∧ (¬ (¬ (zs_i S b2 p3.toNatClampNeg) = (7 : Int32)) → (w_X9_valued_419 X d p0 p1 p2 p3 p5 p6 p10 (some p0) (72 : Int32) S Q))))
theorem u_X9_valued_400 {σ : Nat → Nat} {n0 : Nat} {bf : ab_B} {d : Nat} {p0 : Nat} {p1 : Int32} {p2 : Int32} {p3 : Int32} {p5 : Int32} {p6 : Int32} {p10 : Int32} {S : zs_T} {Q : zs_Q} (hB : zt_B bf) (h : w_X9_valued_400 (zx σ n0 bf) d p0 p1 p2 p3 p5 p6 p10 S Q) : zs_U (zx σ n0 bf) d 8163 400 [(0, .ref p0), (1, .int p1), (2, .int p2), (3, .int p3), (5, .int p5), (6, .int p6), (10, .int p10)] [] S Q := by
  unfold w_X9_valued_400 at h
  refine zu_aload_n d_8163_400 rfl (zs_ra _) ?_
  refine zu_aload_n d_8163_401 rfl (zs_ra _) ?_
  obtain ⟨k1, h⟩ := h
  refine zg_8_90 rfl d_8163_402 k1 ?_
  refine zu_iload_n d_8163_405 rfl ?_
  obtain ⟨b2, e3, h⟩ := h
  refine zs_stk1 (zs_rfe e3) ?_
  obtain ⟨k4, h⟩ := h
  refine zu_bald (k := 1) d_8163_406 rfl (Or.inl rfl) k4 ?_
  refine zu_bipush d_8163_407 zj_7 ?_
  refine zu_cmpne (t := 417) d_8163_409 rfl (fun c5 => ?_) (fun c5 => ?_)
  · have h := h.1 c5
    refine zu_bipush d_8163_417 zj_71 ?_
    exact (u_X9_valued_419 hB h).weak ⟨rfl, rfl, rfl, rfl, rfl, rfl, rfl, trivial⟩
  · have h := h.2 c5
    refine zu_bipush d_8163_412 zj_72 ?_
    refine zu_goto (t := 419) d_8163_414 rfl ?_
    exact (u_X9_valued_419 hB h).weak ⟨rfl, rfl, rfl, rfl, rfl, rfl, rfl, trivial⟩
def w_X9_valued_368 (X : zs_X) (d : Nat) (p0 : Nat) (p1 : Int32) (p2 : Int32) (p3 : Int32) (p5 : Int32) (p6 : Int32) (p10 : Int32) (S : zs_T) (Q : zs_Q) : Prop :=
  (((p2 ≤ p10 → w_X9_valued_443 X d p0 p1 p2 p3 S Q) ∧ (¬ (p2 ≤ p10) → (zs_K S p0 = some (.inl 8) ∧ ((¬ (zs_I S 8010 p0) = 0 → w_X9_valued_443 X d p0 p1 p2 p3 S Q) ∧ (¬ (¬ (zs_I S 8010 p0) = 0) → (∃ b4, (zs_R S 8102 p0) = some b4 ∧ zs_A S b4 0 p1 ∧ zs_C X d 8012 [.ref p0, .int (70 : Int32), .int ((zs_i S b4 p1.toNatClampNeg) + p10), .int p3, .int (0 : Int32)] S (zs_kI (fun v8 S7 => (w_X9_valued_400 X d p0 p1 p2 p3 p5 p6 p10 S7 Q)) Q))))))))
theorem u_X9_valued_368 {σ : Nat → Nat} {n0 : Nat} {bf : ab_B} {d : Nat} {p0 : Nat} {p1 : Int32} {p2 : Int32} {p3 : Int32} {p5 : Int32} {p6 : Int32} {p10 : Int32} {S : zs_T} {Q : zs_Q} (hB : zt_B bf) (h : w_X9_valued_368 (zx σ n0 bf) d p0 p1 p2 p3 p5 p6 p10 S Q) : zs_U (zx σ n0 bf) d 8163 368 [(0, .ref p0), (1, .int p1), (2, .int p2), (3, .int p3), (5, .int p5), (6, .int p6), (10, .int p10)] [] S Q := by
  unfold w_X9_valued_368 at h
  refine zu_iload d_8163_368 rfl ?_
  refine zu_iload_n d_8163_370 rfl ?_
  refine zu_cmpge (t := 443) d_8163_371 rfl (fun c1 => ?_) (fun c1 => ?_)
  · have h := h.1 c1
    exact (u_X9_valued_443 hB h).weak ⟨rfl, rfl, rfl, rfl, trivial⟩
  · have h := h.2 c1
    refine zu_aload_n d_8163_374 rfl (zs_ra _) ?_
    obtain ⟨k2, h⟩ := h
    refine zg_8_444 rfl d_8163_375 k2 ?_
    refine zu_ifne (t := 443) d_8163_378 rfl (fun c3 => ?_) (fun c3 => ?_)
    · have h := h.1 c3
      exact (u_X9_valued_443 hB h).weak ⟨rfl, rfl, rfl, rfl, trivial⟩
    · have h := h.2 c3
      refine zu_aload_n d_8163_381 rfl (zs_ra _) ?_
      refine zu_bipush d_8163_382 zj_70 ?_
      refine zu_aload_n d_8163_384 rfl (zs_ra _) ?_
      refine zg_8_221 rfl d_8163_385 k2 ?_
      refine zu_iload_n d_8163_388 rfl ?_
      obtain ⟨b4, e5, h⟩ := h
      refine zs_stk1 (zs_rfe e5) ?_
      obtain ⟨k6, h⟩ := h
      refine zu_iald (k := 0) d_8163_389 rfl rfl k6 ?_
      refine zu_iload d_8163_390 rfl ?_
      refine zu_stk d_8163_392 rfl rfl ?_
      refine zu_iload_n d_8163_393 rfl ?_
      refine zu_iconst d_8163_394 zi_0 ?_
      refine zc_8_656 (x0 := (70 : Int32)) (x1 := ((zs_i S b4 p1.toNatClampNeg) + p10)) (x2 := p3) (x3 := (0 : Int32)) hB rfl k2 d_8163_395 (Nat.le_of_ble_eq_true rfl) h (fun v8 S7 h => ?_)
      refine zu_istore d_8163_398 (zs_lt zq_8163 rfl) ?_
      exact (u_X9_valued_400 hB h).weak ⟨rfl, rfl, rfl, rfl, rfl, rfl, rfl, trivial⟩
def w_X9_valued (X : zs_X) (d : Nat) (p0 : Nat) (p1 : Int32) (p2 : Int32) (p3 : Int32) (S : zs_T) (Q : zs_Q) : Prop :=
  (zs_K S p0 = some (.inl 8) ∧ (((zs_I S 8010 p0) ≤ 0 → (∃ b3, (zs_R S 8094 p0) = some b3 ∧ zs_A S b3 0 ((zs_I S 8097 p0) - (1 : Int32)) ∧ ((((zs_i S b3 ((zs_I S 8097 p0) - (1 : Int32)).toNatClampNeg) &&& (32 : Int32)) = 0 → w_X9_valued_39 X d p0 p1 p2 p3 ((zs_I S 8097 p0) - (1 : Int32)) S Q) ∧ (¬ (((zs_i S b3 ((zs_I S 8097 p0) - (1 : Int32)).toNatClampNeg) &&& (32 : Int32)) = 0) → w_X9_valued_35 X d p0 p1 p2 p3 ((zs_I S 8097 p0) - (1 : Int32)) S Q)))) ∧ (¬ ((zs_I S 8010 p0) ≤ 0) → (Q (.returned none) S))))
theorem u_X9_valued {σ : Nat → Nat} {n0 : Nat} {bf : ab_B} {d : Nat} {p0 : Nat} {p1 : Int32} {p2 : Int32} {p3 : Int32} {S : zs_T} {Q : zs_Q} (hB : zt_B bf) (hd : 1 ≤ d) (h : w_X9_valued (zx σ n0 bf) (d - 1) p0 p1 p2 p3 S Q) : zs_C (zx σ n0 bf) d 8163 [.ref p0, .int p1, .int p2, .int p3] S Q := by
  have hL : lv_args 0 [.ref p0, .int p1, .int p2, .int p3] = [(0, .ref p0), (1, .int p1), (2, .int p2), (3, .int p3)] := rfl
  refine zs_C.of1 (hB.2 8163 (by decide) (by decide)) hd (by rw [hL]; exact zs_sub_self _ (by exact ⟨rfl, rfl, rfl, rfl, trivial⟩)) ?_
  rw [hL]
  clear hL
  unfold w_X9_valued at h
  refine zu_aload_n d_8163_0 rfl (zs_ra _) ?_
  obtain ⟨k1, h⟩ := h
  refine zg_8_444 rfl d_8163_1 k1 ?_
  refine zu_ifle (t := 8) d_8163_4 rfl (fun c2 => ?_) (fun c2 => ?_)
  · have h := h.1 c2
    refine zu_aload_n d_8163_8 rfl (zs_ra _) ?_
    refine zg_8_653 rfl d_8163_9 k1 ?_
    refine zu_iconst d_8163_12 zi_1 ?_
    refine zu_stk d_8163_13 rfl rfl ?_
    refine zu_istore d_8163_14 (zs_lt zq_8163 rfl) ?_
    refine zu_iconst d_8163_16 zi_0 ?_
    refine zu_istore d_8163_17 (zs_lt zq_8163 rfl) ?_
    refine zu_iconst d_8163_19 zi_0 ?_
    refine zu_istore d_8163_20 (zs_lt zq_8163 rfl) ?_
    refine zu_aload_n d_8163_22 rfl (zs_ra _) ?_
    refine zg_8_200 rfl d_8163_23 k1 ?_
    refine zu_iload d_8163_26 rfl ?_
    obtain ⟨b3, e4, h⟩ := h
    refine zs_stk1 (zs_rfe e4) ?_
    obtain ⟨k5, h⟩ := h
    refine zu_iald (k := 0) d_8163_28 rfl rfl k5 ?_
    refine zu_bipush d_8163_29 zj_32 ?_
    refine zu_stk d_8163_31 rfl rfl ?_
    refine zu_ifeq (t := 39) d_8163_32 rfl (fun c6 => ?_) (fun c6 => ?_)
    · have h := h.1 c6
      exact (u_X9_valued_39 hB h).weak ⟨rfl, rfl, rfl, rfl, rfl, trivial⟩
    · have h := h.2 c6
      exact (u_X9_valued_35 hB h).weak ⟨rfl, rfl, rfl, rfl, rfl, trivial⟩
  · have h := h.2 c2
    exact zu_vret d_8163_7 zr_8163 h
/-! SchemaPascalModel.routined(IIZ)V -/
theorem zm_8164 {σ : Nat → Nat} {n0 : Nat} {bf : ab_B} : ab_code (zx σ n0 bf).1 8164 = prog_17_method_158_code := rfl
theorem zq_8164 {σ : Nat → Nat} {n0 : Nat} {bf : ab_B} : ab_maxL (zx σ n0 bf).1 8164 = 4 := rfl
theorem zr_8164 {σ : Nat → Nat} {n0 : Nat} {bf : ab_B} : ab_ret (zx σ n0 bf).1 8164 = (Option.none : Option Jvm.ClassFile.FieldType) := rfl
theorem d_8164_0 {σ : Nat → Nat} {n0 : Nat} {bf : ab_B} : decode (ab_code (zx σ n0 bf).1 8164) 0 = .ok (.aload_n 0, 1) := zd zm_8164 (by decide +kernel)
theorem d_8164_1 {σ : Nat → Nat} {n0 : Nat} {bf : ab_B} : decode (ab_code (zx σ n0 bf).1 8164) 1 = .ok (.bipush 13, 2) := zd zm_8164 (by decide +kernel)
theorem d_8164_3 {σ : Nat → Nat} {n0 : Nat} {bf : ab_B} : decode (ab_code (zx σ n0 bf).1 8164) 3 = .ok (.invokevirtual 746, 3) := zd zm_8164 (by decide +kernel)
theorem d_8164_6 {σ : Nat → Nat} {n0 : Nat} {bf : ab_B} : decode (ab_code (zx σ n0 bf).1 8164) 6 = .ok (.aload_n 0, 1) := zd zm_8164 (by decide +kernel)
theorem d_8164_7 {σ : Nat → Nat} {n0 : Nat} {bf : ab_B} : decode (ab_code (zx σ n0 bf).1 8164) 7 = .ok (.getfield 444, 3) := zd zm_8164 (by decide +kernel)
theorem d_8164_10 {σ : Nat → Nat} {n0 : Nat} {bf : ab_B} : decode (ab_code (zx σ n0 bf).1 8164) 10 = .ok (.ifCond .le 4, 3) := zd zm_8164 (by decide +kernel)
theorem d_8164_13 {σ : Nat → Nat} {n0 : Nat} {bf : ab_B} : decode (ab_code (zx σ n0 bf).1 8164) 13 = .ok (.return_, 1) := zd zm_8164 (by decide +kernel)
theorem d_8164_14 {σ : Nat → Nat} {n0 : Nat} {bf : ab_B} : decode (ab_code (zx σ n0 bf).1 8164) 14 = .ok (.aload_n 0, 1) := zd zm_8164 (by decide +kernel)
theorem d_8164_15 {σ : Nat → Nat} {n0 : Nat} {bf : ab_B} : decode (ab_code (zx σ n0 bf).1 8164) 15 = .ok (.invokevirtual 855, 3) := zd zm_8164 (by decide +kernel)
theorem d_8164_18 {σ : Nat → Nat} {n0 : Nat} {bf : ab_B} : decode (ab_code (zx σ n0 bf).1 8164) 18 = .ok (.iload_n 3, 1) := zd zm_8164 (by decide +kernel)
theorem d_8164_19 {σ : Nat → Nat} {n0 : Nat} {bf : ab_B} : decode (ab_code (zx σ n0 bf).1 8164) 19 = .ok (.ifCond .ne 18, 3) := zd zm_8164 (by decide +kernel)
theorem d_8164_22 {σ : Nat → Nat} {n0 : Nat} {bf : ab_B} : decode (ab_code (zx σ n0 bf).1 8164) 22 = .ok (.aload_n 0, 1) := zd zm_8164 (by decide +kernel)
theorem d_8164_23 {σ : Nat → Nat} {n0 : Nat} {bf : ab_B} : decode (ab_code (zx σ n0 bf).1 8164) 23 = .ok (.getfield 75, 3) := zd zm_8164 (by decide +kernel)
theorem d_8164_26 {σ : Nat → Nat} {n0 : Nat} {bf : ab_B} : decode (ab_code (zx σ n0 bf).1 8164) 26 = .ok (.aload_n 0, 1) := zd zm_8164 (by decide +kernel)
theorem d_8164_27 {σ : Nat → Nat} {n0 : Nat} {bf : ab_B} : decode (ab_code (zx σ n0 bf).1 8164) 27 = .ok (.getfield 308, 3) := zd zm_8164 (by decide +kernel)
theorem d_8164_30 {σ : Nat → Nat} {n0 : Nat} {bf : ab_B} : decode (ab_code (zx σ n0 bf).1 8164) 30 = .ok (.iload_n 1, 1) := zd zm_8164 (by decide +kernel)
theorem d_8164_31 {σ : Nat → Nat} {n0 : Nat} {bf : ab_B} : decode (ab_code (zx σ n0 bf).1 8164) 31 = .ok (.iaload, 1) := zd zm_8164 (by decide +kernel)
theorem d_8164_32 {σ : Nat → Nat} {n0 : Nat} {bf : ab_B} : decode (ab_code (zx σ n0 bf).1 8164) 32 = .ok (.aload_n 0, 1) := zd zm_8164 (by decide +kernel)
theorem d_8164_33 {σ : Nat → Nat} {n0 : Nat} {bf : ab_B} : decode (ab_code (zx σ n0 bf).1 8164) 33 = .ok (.getfield 556, 3) := zd zm_8164 (by decide +kernel)
theorem d_8164_36 {σ : Nat → Nat} {n0 : Nat} {bf : ab_B} : decode (ab_code (zx σ n0 bf).1 8164) 36 = .ok (.iastore, 1) := zd zm_8164 (by decide +kernel)
theorem d_8164_37 {σ : Nat → Nat} {n0 : Nat} {bf : ab_B} : decode (ab_code (zx σ n0 bf).1 8164) 37 = .ok (.aload_n 0, 1) := zd zm_8164 (by decide +kernel)
theorem d_8164_38 {σ : Nat → Nat} {n0 : Nat} {bf : ab_B} : decode (ab_code (zx σ n0 bf).1 8164) 38 = .ok (.iload_n 2, 1) := zd zm_8164 (by decide +kernel)
theorem d_8164_39 {σ : Nat → Nat} {n0 : Nat} {bf : ab_B} : decode (ab_code (zx σ n0 bf).1 8164) 39 = .ok (.putfield 722, 3) := zd zm_8164 (by decide +kernel)
theorem d_8164_42 {σ : Nat → Nat} {n0 : Nat} {bf : ab_B} : decode (ab_code (zx σ n0 bf).1 8164) 42 = .ok (.return_, 1) := zd zm_8164 (by decide +kernel)
def w_X9_routined_37 (X : zs_X) (d : Nat) (p0 : Nat) (p2 : Int32) (S : zs_T) (Q : zs_Q) : Prop :=
  (zs_K S p0 = some (.inl 8) ∧ ab_n0 X.1 ≤ p0 ∧ ∀ S3, S3 = zs_sI S 8113 p0 p2 → Q (.returned none) S3)
theorem u_X9_routined_37 {σ : Nat → Nat} {n0 : Nat} {bf : ab_B} {d : Nat} {p0 : Nat} {p2 : Int32} {S : zs_T} {Q : zs_Q} (hB : zt_B bf) (h : w_X9_routined_37 (zx σ n0 bf) d p0 p2 S Q) : zs_U (zx σ n0 bf) d 8164 37 [(0, .ref p0), (2, .int p2)] [] S Q := by
  unfold w_X9_routined_37 at h
  refine zu_aload_n d_8164_37 rfl (zs_ra _) ?_
  refine zu_iload_n d_8164_38 rfl ?_
  obtain ⟨k1, h⟩ := h
  obtain ⟨k2, h⟩ := h
  refine zp_8_722 (v := p2) rfl d_8164_39 k1 k2 ?_
  generalize e4 : zs_sI S 8113 p0 p2 = S3
  have h := h S3 e4.symm
  have K5 : ∀ b, zs_K S3 b = zs_K S b := zs_Kt e4 (zs_KsI _ _ _ _) (fun _ => rfl)
  exact zu_vret d_8164_42 zr_8164 h
def w_X9_routined (X : zs_X) (d : Nat) (p0 : Nat) (p1 : Int32) (p2 : Int32) (p3 : Int32) (S : zs_T) (Q : zs_Q) : Prop :=
  (zs_K S p0 = some (.inl 8) ∧ zs_C X d 8028 [.ref p0, .int (13 : Int32)] S (zs_kV (fun S2 => (zs_K S2 p0 = some (.inl 8) ∧ (((zs_I S2 8010 p0) ≤ 0 → (zs_C X d 8093 [.ref p0] S2 (zs_kV (fun S6 => (((¬ p3 = 0 → w_X9_routined_37 X d p0 p2 S6 Q) ∧ (¬ (¬ p3 = 0) → (zs_K S6 p0 = some (.inl 8) ∧ ∃ b10, (zs_R S6 8144 p0) = some b10 ∧ zs_A S6 b10 0 p1 ∧ ∃ b13, (zs_R S6 8037 p0) = some b13 ∧ zs_A S6 b13 0 (zs_i S6 b10 p1.toNatClampNeg) ∧ ab_n0 X.1 ≤ b13 ∧ ∀ S17, S17 = zs_si S6 b13 (zs_i S6 b10 p1.toNatClampNeg).toNatClampNeg (zs_I S6 8040 p0) → w_X9_routined_37 X d p0 p2 S17 Q))))) Q))) ∧ (¬ ((zs_I S2 8010 p0) ≤ 0) → (Q (.returned none) S2))))) Q))
theorem u_X9_routined {σ : Nat → Nat} {n0 : Nat} {bf : ab_B} {d : Nat} {p0 : Nat} {p1 : Int32} {p2 : Int32} {p3 : Int32} {S : zs_T} {Q : zs_Q} (hB : zt_B bf) (hd : 1 ≤ d) (h : w_X9_routined (zx σ n0 bf) (d - 1) p0 p1 p2 p3 S Q) : zs_C (zx σ n0 bf) d 8164 [.ref p0, .int p1, .int p2, .int p3] S Q := by
  have hL : lv_args 0 [.ref p0, .int p1, .int p2, .int p3] = [(0, .ref p0), (1, .int p1), (2, .int p2), (3, .int p3)] := rfl
  refine zs_C.of1 (hB.2 8164 (by decide) (by decide)) hd (by rw [hL]; exact zs_sub_self _ (by exact ⟨rfl, rfl, rfl, rfl, trivial⟩)) ?_
  rw [hL]
  clear hL
  unfold w_X9_routined at h
  refine zu_aload_n d_8164_0 rfl (zs_ra _) ?_
  refine zu_bipush d_8164_1 zj_13 ?_
  obtain ⟨k1, h⟩ := h
  refine zc_8_746 (x0 := (13 : Int32)) hB rfl k1 d_8164_3 (Nat.le_of_ble_eq_true rfl) h (fun S2 h => ?_)
  refine zu_aload_n d_8164_6 rfl (zs_ra _) ?_
  obtain ⟨k4, h⟩ := h
  refine zg_8_444 rfl d_8164_7 k4 ?_
  refine zu_ifle (t := 14) d_8164_10 rfl (fun c5 => ?_) (fun c5 => ?_)
  · have h := h.1 c5
    refine zu_aload_n d_8164_14 rfl (zs_ra _) ?_
    refine zc_8_855  hB rfl k4 d_8164_15 (Nat.le_of_ble_eq_true rfl) h (fun S6 h => ?_)
    refine zu_iload_n d_8164_18 rfl ?_
    refine zu_ifne (t := 37) d_8164_19 rfl (fun c8 => ?_) (fun c8 => ?_)
    · have h := h.1 c8
      exact (u_X9_routined_37 hB h).weak ⟨rfl, rfl, trivial⟩
    · have h := h.2 c8
      refine zu_aload_n d_8164_22 rfl (zs_ra _) ?_
      obtain ⟨k9, h⟩ := h
      refine zg_8_75 rfl d_8164_23 k9 ?_
      refine zu_aload_n d_8164_26 rfl (zs_ra _) ?_
      refine zg_8_308 rfl d_8164_27 k9 ?_
      refine zu_iload_n d_8164_30 rfl ?_
      obtain ⟨b10, e11, h⟩ := h
      refine zs_stk1 (zs_rfe e11) ?_
      obtain ⟨k12, h⟩ := h
      refine zu_iald (k := 0) d_8164_31 rfl rfl k12 ?_
      refine zu_aload_n d_8164_32 rfl (zs_ra _) ?_
      refine zg_8_556 rfl d_8164_33 k9 ?_
      obtain ⟨b13, e14, h⟩ := h
      refine zs_stk2 (zs_rfe e14) ?_
      obtain ⟨k15, h⟩ := h
      obtain ⟨k16, h⟩ := h
      refine zu_iast (k := 0) d_8164_36 rfl rfl k16 k15 ?_
      generalize e18 : zs_si S6 b13 (zs_i S6 b10 p1.toNatClampNeg).toNatClampNeg (zs_I S6 8040 p0) = S17
      have h := h S17 e18.symm
      have K19 : ∀ b, zs_K S17 b = zs_K S6 b := zs_Kt e18 (zs_Ksi _ _ _ _) (fun _ => rfl)
      exact (u_X9_routined_37 hB h).weak ⟨rfl, rfl, trivial⟩
  · have h := h.2 c5
    exact zu_vret d_8164_13 zr_8164 h
/-! SchemaPascalModel.body(I)V -/
theorem zm_8165 {σ : Nat → Nat} {n0 : Nat} {bf : ab_B} : ab_code (zx σ n0 bf).1 8165 = prog_17_method_160_code := rfl
theorem zq_8165 {σ : Nat → Nat} {n0 : Nat} {bf : ab_B} : ab_maxL (zx σ n0 bf).1 8165 = 3 := rfl
theorem zr_8165 {σ : Nat → Nat} {n0 : Nat} {bf : ab_B} : ab_ret (zx σ n0 bf).1 8165 = (Option.none : Option Jvm.ClassFile.FieldType) := rfl
theorem d_8165_0 {σ : Nat → Nat} {n0 : Nat} {bf : ab_B} : decode (ab_code (zx σ n0 bf).1 8165) 0 = .ok (.aload_n 0, 1) := zd zm_8165 (by decide +kernel)
theorem d_8165_1 {σ : Nat → Nat} {n0 : Nat} {bf : ab_B} : decode (ab_code (zx σ n0 bf).1 8165) 1 = .ok (.bipush 9, 2) := zd zm_8165 (by decide +kernel)
theorem d_8165_3 {σ : Nat → Nat} {n0 : Nat} {bf : ab_B} : decode (ab_code (zx σ n0 bf).1 8165) 3 = .ok (.invokevirtual 846, 3) := zd zm_8165 (by decide +kernel)
theorem d_8165_6 {σ : Nat → Nat} {n0 : Nat} {bf : ab_B} : decode (ab_code (zx σ n0 bf).1 8165) 6 = .ok (.aload_n 0, 1) := zd zm_8165 (by decide +kernel)
theorem d_8165_7 {σ : Nat → Nat} {n0 : Nat} {bf : ab_B} : decode (ab_code (zx σ n0 bf).1 8165) 7 = .ok (.bipush 74, 2) := zd zm_8165 (by decide +kernel)
theorem d_8165_9 {σ : Nat → Nat} {n0 : Nat} {bf : ab_B} : decode (ab_code (zx σ n0 bf).1 8165) 9 = .ok (.iload_n 1, 1) := zd zm_8165 (by decide +kernel)
theorem d_8165_10 {σ : Nat → Nat} {n0 : Nat} {bf : ab_B} : decode (ab_code (zx σ n0 bf).1 8165) 10 = .ok (.iconst 0, 1) := zd zm_8165 (by decide +kernel)
theorem d_8165_11 {σ : Nat → Nat} {n0 : Nat} {bf : ab_B} : decode (ab_code (zx σ n0 bf).1 8165) 11 = .ok (.iconst 0, 1) := zd zm_8165 (by decide +kernel)
theorem d_8165_12 {σ : Nat → Nat} {n0 : Nat} {bf : ab_B} : decode (ab_code (zx σ n0 bf).1 8165) 12 = .ok (.invokevirtual 656, 3) := zd zm_8165 (by decide +kernel)
theorem d_8165_15 {σ : Nat → Nat} {n0 : Nat} {bf : ab_B} : decode (ab_code (zx σ n0 bf).1 8165) 15 = .ok (.istore_n 2, 1) := zd zm_8165 (by decide +kernel)
theorem d_8165_16 {σ : Nat → Nat} {n0 : Nat} {bf : ab_B} : decode (ab_code (zx σ n0 bf).1 8165) 16 = .ok (.return_, 1) := zd zm_8165 (by decide +kernel)
def w_X9_body (X : zs_X) (d : Nat) (p0 : Nat) (p1 : Int32) (S : zs_T) (Q : zs_Q) : Prop :=
  (zs_K S p0 = some (.inl 8) ∧ zs_C X d 8025 [.ref p0, .int (9 : Int32)] S (zs_kV (fun S2 => (zs_K S2 p0 = some (.inl 8) ∧ zs_C X d 8012 [.ref p0, .int (74 : Int32), .int p1, .int (0 : Int32), .int (0 : Int32)] S2 (zs_kI (fun v6 S5 => (Q (.returned none) S5)) Q))) Q))
theorem u_X9_body {σ : Nat → Nat} {n0 : Nat} {bf : ab_B} {d : Nat} {p0 : Nat} {p1 : Int32} {S : zs_T} {Q : zs_Q} (hB : zt_B bf) (hd : 1 ≤ d) (h : w_X9_body (zx σ n0 bf) (d - 1) p0 p1 S Q) : zs_C (zx σ n0 bf) d 8165 [.ref p0, .int p1] S Q := by
  have hL : lv_args 0 [.ref p0, .int p1] = [(0, .ref p0), (1, .int p1)] := rfl
  refine zs_C.of1 (hB.2 8165 (by decide) (by decide)) hd (by rw [hL]; exact zs_sub_self _ (by exact ⟨rfl, rfl, trivial⟩)) ?_
  rw [hL]
  clear hL
  unfold w_X9_body at h
  refine zu_aload_n d_8165_0 rfl (zs_ra _) ?_
  refine zu_bipush d_8165_1 zj_9 ?_
  obtain ⟨k1, h⟩ := h
  refine zc_8_846 (x0 := (9 : Int32)) hB rfl k1 d_8165_3 (Nat.le_of_ble_eq_true rfl) h (fun S2 h => ?_)
  refine zu_aload_n d_8165_6 rfl (zs_ra _) ?_
  refine zu_bipush d_8165_7 zj_74 ?_
  refine zu_iload_n d_8165_9 rfl ?_
  refine zu_iconst d_8165_10 zi_0 ?_
  refine zu_iconst d_8165_11 zi_0 ?_
  obtain ⟨k4, h⟩ := h
  refine zc_8_656 (x0 := (74 : Int32)) (x1 := p1) (x2 := (0 : Int32)) (x3 := (0 : Int32)) hB rfl k4 d_8165_12 (Nat.le_of_ble_eq_true rfl) h (fun v6 S5 h => ?_)
  refine zu_istore_n d_8165_15 (zs_lt zq_8165 rfl) ?_
  exact zu_vret d_8165_16 zr_8165 h
/-! SchemaPascalModel.doGoal(IIII)V -/
theorem zm_8166 {σ : Nat → Nat} {n0 : Nat} {bf : ab_B} : ab_code (zx σ n0 bf).1 8166 = prog_17_method_199_code := rfl
theorem zq_8166 {σ : Nat → Nat} {n0 : Nat} {bf : ab_B} : ab_maxL (zx σ n0 bf).1 8166 = 5 := rfl
theorem zr_8166 {σ : Nat → Nat} {n0 : Nat} {bf : ab_B} : ab_ret (zx σ n0 bf).1 8166 = (Option.none : Option Jvm.ClassFile.FieldType) := rfl
theorem d_8166_0 {σ : Nat → Nat} {n0 : Nat} {bf : ab_B} : decode (ab_code (zx σ n0 bf).1 8166) 0 = .ok (.iload_n 1, 1) := zd zm_8166 (by decide +kernel)
theorem d_8166_1 {σ : Nat → Nat} {n0 : Nat} {bf : ab_B} : decode (ab_code (zx σ n0 bf).1 8166) 1 = .ok (.tableswitch 228 100 113 #[71, 92, 126, 133, 140, 148, 157, 166, 173, 181, 194, 203, 212, 220], 71) := zd zm_8166 (by decide +kernel)
theorem d_8166_72 {σ : Nat → Nat} {n0 : Nat} {bf : ab_B} : decode (ab_code (zx σ n0 bf).1 8166) 72 = .ok (.aload_n 0, 1) := zd zm_8166 (by decide +kernel)
theorem d_8166_73 {σ : Nat → Nat} {n0 : Nat} {bf : ab_B} : decode (ab_code (zx σ n0 bf).1 8166) 73 = .ok (.bipush 101, 2) := zd zm_8166 (by decide +kernel)
theorem d_8166_75 {σ : Nat → Nat} {n0 : Nat} {bf : ab_B} : decode (ab_code (zx σ n0 bf).1 8166) 75 = .ok (.iconst 0, 1) := zd zm_8166 (by decide +kernel)
theorem d_8166_76 {σ : Nat → Nat} {n0 : Nat} {bf : ab_B} : decode (ab_code (zx σ n0 bf).1 8166) 76 = .ok (.iconst 0, 1) := zd zm_8166 (by decide +kernel)
theorem d_8166_77 {σ : Nat → Nat} {n0 : Nat} {bf : ab_B} : decode (ab_code (zx σ n0 bf).1 8166) 77 = .ok (.iconst 0, 1) := zd zm_8166 (by decide +kernel)
theorem d_8166_78 {σ : Nat → Nat} {n0 : Nat} {bf : ab_B} : decode (ab_code (zx σ n0 bf).1 8166) 78 = .ok (.invokevirtual 649, 3) := zd zm_8166 (by decide +kernel)
theorem d_8166_81 {σ : Nat → Nat} {n0 : Nat} {bf : ab_B} : decode (ab_code (zx σ n0 bf).1 8166) 81 = .ok (.aload_n 0, 1) := zd zm_8166 (by decide +kernel)
theorem d_8166_82 {σ : Nat → Nat} {n0 : Nat} {bf : ab_B} : decode (ab_code (zx σ n0 bf).1 8166) 82 = .ok (.bipush 102, 2) := zd zm_8166 (by decide +kernel)
theorem d_8166_84 {σ : Nat → Nat} {n0 : Nat} {bf : ab_B} : decode (ab_code (zx σ n0 bf).1 8166) 84 = .ok (.iconst 0, 1) := zd zm_8166 (by decide +kernel)
theorem d_8166_85 {σ : Nat → Nat} {n0 : Nat} {bf : ab_B} : decode (ab_code (zx σ n0 bf).1 8166) 85 = .ok (.iconst 0, 1) := zd zm_8166 (by decide +kernel)
theorem d_8166_86 {σ : Nat → Nat} {n0 : Nat} {bf : ab_B} : decode (ab_code (zx σ n0 bf).1 8166) 86 = .ok (.iconst 0, 1) := zd zm_8166 (by decide +kernel)
theorem d_8166_87 {σ : Nat → Nat} {n0 : Nat} {bf : ab_B} : decode (ab_code (zx σ n0 bf).1 8166) 87 = .ok (.invokevirtual 649, 3) := zd zm_8166 (by decide +kernel)
theorem d_8166_90 {σ : Nat → Nat} {n0 : Nat} {bf : ab_B} : decode (ab_code (zx σ n0 bf).1 8166) 90 = .ok (.goto 148, 3) := zd zm_8166 (by decide +kernel)
theorem d_8166_93 {σ : Nat → Nat} {n0 : Nat} {bf : ab_B} : decode (ab_code (zx σ n0 bf).1 8166) 93 = .ok (.aload_n 0, 1) := zd zm_8166 (by decide +kernel)
theorem d_8166_94 {σ : Nat → Nat} {n0 : Nat} {bf : ab_B} : decode (ab_code (zx σ n0 bf).1 8166) 94 = .ok (.bipush 13, 2) := zd zm_8166 (by decide +kernel)
theorem d_8166_96 {σ : Nat → Nat} {n0 : Nat} {bf : ab_B} : decode (ab_code (zx σ n0 bf).1 8166) 96 = .ok (.invokevirtual 535, 3) := zd zm_8166 (by decide +kernel)
theorem d_8166_99 {σ : Nat → Nat} {n0 : Nat} {bf : ab_B} : decode (ab_code (zx σ n0 bf).1 8166) 99 = .ok (.ifCond .eq 139, 3) := zd zm_8166 (by decide +kernel)
theorem d_8166_102 {σ : Nat → Nat} {n0 : Nat} {bf : ab_B} : decode (ab_code (zx σ n0 bf).1 8166) 102 = .ok (.aload_n 0, 1) := zd zm_8166 (by decide +kernel)
theorem d_8166_103 {σ : Nat → Nat} {n0 : Nat} {bf : ab_B} : decode (ab_code (zx σ n0 bf).1 8166) 103 = .ok (.invokevirtual 538, 3) := zd zm_8166 (by decide +kernel)
theorem d_8166_106 {σ : Nat → Nat} {n0 : Nat} {bf : ab_B} : decode (ab_code (zx σ n0 bf).1 8166) 106 = .ok (.aload_n 0, 1) := zd zm_8166 (by decide +kernel)
theorem d_8166_107 {σ : Nat → Nat} {n0 : Nat} {bf : ab_B} : decode (ab_code (zx σ n0 bf).1 8166) 107 = .ok (.bipush 101, 2) := zd zm_8166 (by decide +kernel)
theorem d_8166_109 {σ : Nat → Nat} {n0 : Nat} {bf : ab_B} : decode (ab_code (zx σ n0 bf).1 8166) 109 = .ok (.iconst 0, 1) := zd zm_8166 (by decide +kernel)
theorem d_8166_110 {σ : Nat → Nat} {n0 : Nat} {bf : ab_B} : decode (ab_code (zx σ n0 bf).1 8166) 110 = .ok (.iconst 0, 1) := zd zm_8166 (by decide +kernel)
theorem d_8166_111 {σ : Nat → Nat} {n0 : Nat} {bf : ab_B} : decode (ab_code (zx σ n0 bf).1 8166) 111 = .ok (.iconst 0, 1) := zd zm_8166 (by decide +kernel)
theorem d_8166_112 {σ : Nat → Nat} {n0 : Nat} {bf : ab_B} : decode (ab_code (zx σ n0 bf).1 8166) 112 = .ok (.invokevirtual 649, 3) := zd zm_8166 (by decide +kernel)
theorem d_8166_115 {σ : Nat → Nat} {n0 : Nat} {bf : ab_B} : decode (ab_code (zx σ n0 bf).1 8166) 115 = .ok (.aload_n 0, 1) := zd zm_8166 (by decide +kernel)
theorem d_8166_116 {σ : Nat → Nat} {n0 : Nat} {bf : ab_B} : decode (ab_code (zx σ n0 bf).1 8166) 116 = .ok (.bipush 102, 2) := zd zm_8166 (by decide +kernel)
theorem d_8166_118 {σ : Nat → Nat} {n0 : Nat} {bf : ab_B} : decode (ab_code (zx σ n0 bf).1 8166) 118 = .ok (.iconst 0, 1) := zd zm_8166 (by decide +kernel)
theorem d_8166_119 {σ : Nat → Nat} {n0 : Nat} {bf : ab_B} : decode (ab_code (zx σ n0 bf).1 8166) 119 = .ok (.iconst 0, 1) := zd zm_8166 (by decide +kernel)
theorem d_8166_120 {σ : Nat → Nat} {n0 : Nat} {bf : ab_B} : decode (ab_code (zx σ n0 bf).1 8166) 120 = .ok (.iconst 0, 1) := zd zm_8166 (by decide +kernel)
theorem d_8166_121 {σ : Nat → Nat} {n0 : Nat} {bf : ab_B} : decode (ab_code (zx σ n0 bf).1 8166) 121 = .ok (.invokevirtual 649, 3) := zd zm_8166 (by decide +kernel)
theorem d_8166_124 {σ : Nat → Nat} {n0 : Nat} {bf : ab_B} : decode (ab_code (zx σ n0 bf).1 8166) 124 = .ok (.goto 114, 3) := zd zm_8166 (by decide +kernel)
theorem d_8166_127 {σ : Nat → Nat} {n0 : Nat} {bf : ab_B} : decode (ab_code (zx σ n0 bf).1 8166) 127 = .ok (.aload_n 0, 1) := zd zm_8166 (by decide +kernel)
theorem d_8166_128 {σ : Nat → Nat} {n0 : Nat} {bf : ab_B} : decode (ab_code (zx σ n0 bf).1 8166) 128 = .ok (.invokevirtual 1130, 3) := zd zm_8166 (by decide +kernel)
theorem d_8166_131 {σ : Nat → Nat} {n0 : Nat} {bf : ab_B} : decode (ab_code (zx σ n0 bf).1 8166) 131 = .ok (.goto 107, 3) := zd zm_8166 (by decide +kernel)
theorem d_8166_134 {σ : Nat → Nat} {n0 : Nat} {bf : ab_B} : decode (ab_code (zx σ n0 bf).1 8166) 134 = .ok (.aload_n 0, 1) := zd zm_8166 (by decide +kernel)
theorem d_8166_135 {σ : Nat → Nat} {n0 : Nat} {bf : ab_B} : decode (ab_code (zx σ n0 bf).1 8166) 135 = .ok (.invokevirtual 1133, 3) := zd zm_8166 (by decide +kernel)
theorem d_8166_138 {σ : Nat → Nat} {n0 : Nat} {bf : ab_B} : decode (ab_code (zx σ n0 bf).1 8166) 138 = .ok (.goto 100, 3) := zd zm_8166 (by decide +kernel)
theorem d_8166_141 {σ : Nat → Nat} {n0 : Nat} {bf : ab_B} : decode (ab_code (zx σ n0 bf).1 8166) 141 = .ok (.aload_n 0, 1) := zd zm_8166 (by decide +kernel)
theorem d_8166_142 {σ : Nat → Nat} {n0 : Nat} {bf : ab_B} : decode (ab_code (zx σ n0 bf).1 8166) 142 = .ok (.iload_n 2, 1) := zd zm_8166 (by decide +kernel)
theorem d_8166_143 {σ : Nat → Nat} {n0 : Nat} {bf : ab_B} : decode (ab_code (zx σ n0 bf).1 8166) 143 = .ok (.invokevirtual 1136, 3) := zd zm_8166 (by decide +kernel)
theorem d_8166_146 {σ : Nat → Nat} {n0 : Nat} {bf : ab_B} : decode (ab_code (zx σ n0 bf).1 8166) 146 = .ok (.goto 92, 3) := zd zm_8166 (by decide +kernel)
theorem d_8166_149 {σ : Nat → Nat} {n0 : Nat} {bf : ab_B} : decode (ab_code (zx σ n0 bf).1 8166) 149 = .ok (.aload_n 0, 1) := zd zm_8166 (by decide +kernel)
theorem d_8166_150 {σ : Nat → Nat} {n0 : Nat} {bf : ab_B} : decode (ab_code (zx σ n0 bf).1 8166) 150 = .ok (.iload_n 2, 1) := zd zm_8166 (by decide +kernel)
theorem d_8166_151 {σ : Nat → Nat} {n0 : Nat} {bf : ab_B} : decode (ab_code (zx σ n0 bf).1 8166) 151 = .ok (.iload_n 3, 1) := zd zm_8166 (by decide +kernel)
theorem d_8166_152 {σ : Nat → Nat} {n0 : Nat} {bf : ab_B} : decode (ab_code (zx σ n0 bf).1 8166) 152 = .ok (.invokevirtual 1139, 3) := zd zm_8166 (by decide +kernel)
theorem d_8166_155 {σ : Nat → Nat} {n0 : Nat} {bf : ab_B} : decode (ab_code (zx σ n0 bf).1 8166) 155 = .ok (.goto 83, 3) := zd zm_8166 (by decide +kernel)
theorem d_8166_158 {σ : Nat → Nat} {n0 : Nat} {bf : ab_B} : decode (ab_code (zx σ n0 bf).1 8166) 158 = .ok (.aload_n 0, 1) := zd zm_8166 (by decide +kernel)
theorem d_8166_159 {σ : Nat → Nat} {n0 : Nat} {bf : ab_B} : decode (ab_code (zx σ n0 bf).1 8166) 159 = .ok (.bipush 9, 2) := zd zm_8166 (by decide +kernel)
theorem d_8166_161 {σ : Nat → Nat} {n0 : Nat} {bf : ab_B} : decode (ab_code (zx σ n0 bf).1 8166) 161 = .ok (.invokevirtual 846, 3) := zd zm_8166 (by decide +kernel)
theorem d_8166_164 {σ : Nat → Nat} {n0 : Nat} {bf : ab_B} : decode (ab_code (zx σ n0 bf).1 8166) 164 = .ok (.goto 74, 3) := zd zm_8166 (by decide +kernel)
theorem d_8166_167 {σ : Nat → Nat} {n0 : Nat} {bf : ab_B} : decode (ab_code (zx σ n0 bf).1 8166) 167 = .ok (.aload_n 0, 1) := zd zm_8166 (by decide +kernel)
theorem d_8166_168 {σ : Nat → Nat} {n0 : Nat} {bf : ab_B} : decode (ab_code (zx σ n0 bf).1 8166) 168 = .ok (.invokevirtual 1142, 3) := zd zm_8166 (by decide +kernel)
theorem d_8166_171 {σ : Nat → Nat} {n0 : Nat} {bf : ab_B} : decode (ab_code (zx σ n0 bf).1 8166) 171 = .ok (.goto 67, 3) := zd zm_8166 (by decide +kernel)
theorem d_8166_174 {σ : Nat → Nat} {n0 : Nat} {bf : ab_B} : decode (ab_code (zx σ n0 bf).1 8166) 174 = .ok (.aload_n 0, 1) := zd zm_8166 (by decide +kernel)
theorem d_8166_175 {σ : Nat → Nat} {n0 : Nat} {bf : ab_B} : decode (ab_code (zx σ n0 bf).1 8166) 175 = .ok (.iload_n 2, 1) := zd zm_8166 (by decide +kernel)
theorem d_8166_176 {σ : Nat → Nat} {n0 : Nat} {bf : ab_B} : decode (ab_code (zx σ n0 bf).1 8166) 176 = .ok (.invokevirtual 1145, 3) := zd zm_8166 (by decide +kernel)
theorem d_8166_179 {σ : Nat → Nat} {n0 : Nat} {bf : ab_B} : decode (ab_code (zx σ n0 bf).1 8166) 179 = .ok (.goto 59, 3) := zd zm_8166 (by decide +kernel)
theorem d_8166_182 {σ : Nat → Nat} {n0 : Nat} {bf : ab_B} : decode (ab_code (zx σ n0 bf).1 8166) 182 = .ok (.aload_n 0, 1) := zd zm_8166 (by decide +kernel)
theorem d_8166_183 {σ : Nat → Nat} {n0 : Nat} {bf : ab_B} : decode (ab_code (zx σ n0 bf).1 8166) 183 = .ok (.getfield 75, 3) := zd zm_8166 (by decide +kernel)
theorem d_8166_186 {σ : Nat → Nat} {n0 : Nat} {bf : ab_B} : decode (ab_code (zx σ n0 bf).1 8166) 186 = .ok (.iload_n 2, 1) := zd zm_8166 (by decide +kernel)
theorem d_8166_187 {σ : Nat → Nat} {n0 : Nat} {bf : ab_B} : decode (ab_code (zx σ n0 bf).1 8166) 187 = .ok (.aload_n 0, 1) := zd zm_8166 (by decide +kernel)
theorem d_8166_188 {σ : Nat → Nat} {n0 : Nat} {bf : ab_B} : decode (ab_code (zx σ n0 bf).1 8166) 188 = .ok (.getfield 556, 3) := zd zm_8166 (by decide +kernel)
theorem d_8166_191 {σ : Nat → Nat} {n0 : Nat} {bf : ab_B} : decode (ab_code (zx σ n0 bf).1 8166) 191 = .ok (.iastore, 1) := zd zm_8166 (by decide +kernel)
theorem d_8166_192 {σ : Nat → Nat} {n0 : Nat} {bf : ab_B} : decode (ab_code (zx σ n0 bf).1 8166) 192 = .ok (.goto 46, 3) := zd zm_8166 (by decide +kernel)
theorem d_8166_195 {σ : Nat → Nat} {n0 : Nat} {bf : ab_B} : decode (ab_code (zx σ n0 bf).1 8166) 195 = .ok (.aload_n 0, 1) := zd zm_8166 (by decide +kernel)
theorem d_8166_196 {σ : Nat → Nat} {n0 : Nat} {bf : ab_B} : decode (ab_code (zx σ n0 bf).1 8166) 196 = .ok (.iload_n 2, 1) := zd zm_8166 (by decide +kernel)
theorem d_8166_197 {σ : Nat → Nat} {n0 : Nat} {bf : ab_B} : decode (ab_code (zx σ n0 bf).1 8166) 197 = .ok (.iload_n 3, 1) := zd zm_8166 (by decide +kernel)
theorem d_8166_198 {σ : Nat → Nat} {n0 : Nat} {bf : ab_B} : decode (ab_code (zx σ n0 bf).1 8166) 198 = .ok (.invokevirtual 1148, 3) := zd zm_8166 (by decide +kernel)
theorem d_8166_201 {σ : Nat → Nat} {n0 : Nat} {bf : ab_B} : decode (ab_code (zx σ n0 bf).1 8166) 201 = .ok (.goto 37, 3) := zd zm_8166 (by decide +kernel)
theorem d_8166_204 {σ : Nat → Nat} {n0 : Nat} {bf : ab_B} : decode (ab_code (zx σ n0 bf).1 8166) 204 = .ok (.aload_n 0, 1) := zd zm_8166 (by decide +kernel)
theorem d_8166_205 {σ : Nat → Nat} {n0 : Nat} {bf : ab_B} : decode (ab_code (zx σ n0 bf).1 8166) 205 = .ok (.iload_n 2, 1) := zd zm_8166 (by decide +kernel)
theorem d_8166_206 {σ : Nat → Nat} {n0 : Nat} {bf : ab_B} : decode (ab_code (zx σ n0 bf).1 8166) 206 = .ok (.iload_n 3, 1) := zd zm_8166 (by decide +kernel)
theorem d_8166_207 {σ : Nat → Nat} {n0 : Nat} {bf : ab_B} : decode (ab_code (zx σ n0 bf).1 8166) 207 = .ok (.invokevirtual 1151, 3) := zd zm_8166 (by decide +kernel)
theorem d_8166_210 {σ : Nat → Nat} {n0 : Nat} {bf : ab_B} : decode (ab_code (zx σ n0 bf).1 8166) 210 = .ok (.goto 28, 3) := zd zm_8166 (by decide +kernel)
theorem d_8166_213 {σ : Nat → Nat} {n0 : Nat} {bf : ab_B} : decode (ab_code (zx σ n0 bf).1 8166) 213 = .ok (.aload_n 0, 1) := zd zm_8166 (by decide +kernel)
theorem d_8166_214 {σ : Nat → Nat} {n0 : Nat} {bf : ab_B} : decode (ab_code (zx σ n0 bf).1 8166) 214 = .ok (.iload_n 2, 1) := zd zm_8166 (by decide +kernel)
theorem d_8166_215 {σ : Nat → Nat} {n0 : Nat} {bf : ab_B} : decode (ab_code (zx σ n0 bf).1 8166) 215 = .ok (.invokevirtual 1154, 3) := zd zm_8166 (by decide +kernel)
theorem d_8166_218 {σ : Nat → Nat} {n0 : Nat} {bf : ab_B} : decode (ab_code (zx σ n0 bf).1 8166) 218 = .ok (.goto 20, 3) := zd zm_8166 (by decide +kernel)
theorem d_8166_221 {σ : Nat → Nat} {n0 : Nat} {bf : ab_B} : decode (ab_code (zx σ n0 bf).1 8166) 221 = .ok (.aload_n 0, 1) := zd zm_8166 (by decide +kernel)
theorem d_8166_222 {σ : Nat → Nat} {n0 : Nat} {bf : ab_B} : decode (ab_code (zx σ n0 bf).1 8166) 222 = .ok (.iload_n 2, 1) := zd zm_8166 (by decide +kernel)
theorem d_8166_223 {σ : Nat → Nat} {n0 : Nat} {bf : ab_B} : decode (ab_code (zx σ n0 bf).1 8166) 223 = .ok (.invokevirtual 1157, 3) := zd zm_8166 (by decide +kernel)
theorem d_8166_226 {σ : Nat → Nat} {n0 : Nat} {bf : ab_B} : decode (ab_code (zx σ n0 bf).1 8166) 226 = .ok (.goto 12, 3) := zd zm_8166 (by decide +kernel)
theorem d_8166_229 {σ : Nat → Nat} {n0 : Nat} {bf : ab_B} : decode (ab_code (zx σ n0 bf).1 8166) 229 = .ok (.aload_n 0, 1) := zd zm_8166 (by decide +kernel)
theorem d_8166_230 {σ : Nat → Nat} {n0 : Nat} {bf : ab_B} : decode (ab_code (zx σ n0 bf).1 8166) 230 = .ok (.iload_n 1, 1) := zd zm_8166 (by decide +kernel)
theorem d_8166_231 {σ : Nat → Nat} {n0 : Nat} {bf : ab_B} : decode (ab_code (zx σ n0 bf).1 8166) 231 = .ok (.iload_n 2, 1) := zd zm_8166 (by decide +kernel)
theorem d_8166_232 {σ : Nat → Nat} {n0 : Nat} {bf : ab_B} : decode (ab_code (zx σ n0 bf).1 8166) 232 = .ok (.iload_n 3, 1) := zd zm_8166 (by decide +kernel)
theorem d_8166_233 {σ : Nat → Nat} {n0 : Nat} {bf : ab_B} : decode (ab_code (zx σ n0 bf).1 8166) 233 = .ok (.iload 4, 2) := zd zm_8166 (by decide +kernel)
theorem d_8166_235 {σ : Nat → Nat} {n0 : Nat} {bf : ab_B} : decode (ab_code (zx σ n0 bf).1 8166) 235 = .ok (.invokevirtual 1160, 3) := zd zm_8166 (by decide +kernel)
theorem d_8166_238 {σ : Nat → Nat} {n0 : Nat} {bf : ab_B} : decode (ab_code (zx σ n0 bf).1 8166) 238 = .ok (.return_, 1) := zd zm_8166 (by decide +kernel)
def w_X9_doGoal_124 (X : zs_X) (d : Nat)  (S : zs_T) (Q : zs_Q) : Prop :=
  (Q (.returned none) S)
theorem u_X9_doGoal_124 {σ : Nat → Nat} {n0 : Nat} {bf : ab_B} {d : Nat}  {S : zs_T} {Q : zs_Q} (hB : zt_B bf) (h : w_X9_doGoal_124 (zx σ n0 bf) d  S Q) : zs_U (zx σ n0 bf) d 8166 124 [] [] S Q := by
  unfold w_X9_doGoal_124 at h
  refine zu_goto (t := 238) d_8166_124 rfl ?_
  exact zu_vret d_8166_238 zr_8166 h
def w_X9_doGoal (X : zs_X) (d : Nat) (p0 : Nat) (p1 : Int32) (p2 : Int32) (p3 : Int32) (p4 : Int32) (S : zs_T) (Q : zs_Q) : Prop :=
  (((p1.toInt < 100 ∨ 113 < p1.toInt → (zs_K S p0 = some (.inl 8) ∧ zs_C X d 8184 [.ref p0, .int p1, .int p2, .int p3, .int p4] S (zs_kV (fun S3 => (Q (.returned none) S3)) Q))) ∧ (p1.toInt = 100 → (zs_K S p0 = some (.inl 8) ∧ zs_C X d 8030 [.ref p0, .int (101 : Int32), .int (0 : Int32), .int (0 : Int32), .int (0 : Int32)] S (zs_kV (fun S6 => (zs_K S6 p0 = some (.inl 8) ∧ zs_C X d 8030 [.ref p0, .int (102 : Int32), .int (0 : Int32), .int (0 : Int32), .int (0 : Int32)] S6 (zs_kV (fun S9 => (Q (.returned none) S9)) Q))) Q))) ∧ (p1.toInt = 101 → (zs_K S p0 = some (.inl 8) ∧ zs_C X d 8029 [.ref p0, .int (13 : Int32)] S (zs_kI (fun v13 S12 => (((v13 = 0 → (Q (.returned none) S12)) ∧ (¬ (v13 = 0) → (zs_K S12 p0 = some (.inl 8) ∧ zs_C X d 8014 [.ref p0] S12 (zs_kV (fun S16 => (zs_K S16 p0 = some (.inl 8) ∧ zs_C X d 8030 [.ref p0, .int (101 : Int32), .int (0 : Int32), .int (0 : Int32), .int (0 : Int32)] S16 (zs_kV (fun S19 => (zs_K S19 p0 = some (.inl 8) ∧ zs_C X d 8030 [.ref p0, .int (102 : Int32), .int (0 : Int32), .int (0 : Int32), .int (0 : Int32)] S19 (zs_kV (fun S22 => w_X9_doGoal_124 X d  S22 Q) Q))) Q))) Q)))))) Q))) ∧ (p1.toInt = 102 → (zs_K S p0 = some (.inl 8) ∧ zs_C X d 8167 [.ref p0] S (zs_kV (fun S25 => (Q (.returned none) S25)) Q))) ∧ (p1.toInt = 103 → (zs_K S p0 = some (.inl 8) ∧ zs_C X d 8173 [.ref p0] S (zs_kV (fun S28 => (Q (.returned none) S28)) Q))) ∧ (p1.toInt = 104 → (zs_K S p0 = some (.inl 8) ∧ zs_C X d 8174 [.ref p0, .int p2] S (zs_kV (fun S31 => (Q (.returned none) S31)) Q))) ∧ (p1.toInt = 105 → (zs_K S p0 = some (.inl 8) ∧ zs_C X d 8176 [.ref p0, .int p2, .int p3] S (zs_kV (fun S34 => (Q (.returned none) S34)) Q))) ∧ (p1.toInt = 106 → (zs_K S p0 = some (.inl 8) ∧ zs_C X d 8025 [.ref p0, .int (9 : Int32)] S (zs_kV (fun S37 => (Q (.returned none) S37)) Q))) ∧ (p1.toInt = 107 → (zs_K S p0 = some (.inl 8) ∧ zs_C X d 8177 [.ref p0] S (zs_kV (fun S40 => (Q (.returned none) S40)) Q))) ∧ (p1.toInt = 108 → (zs_K S p0 = some (.inl 8) ∧ zs_C X d 8179 [.ref p0, .int p2] S (zs_kV (fun S43 => (Q (.returned none) S43)) Q))) ∧ (p1.toInt = 109 → (zs_K S p0 = some (.inl 8) ∧ ∃ b46, (zs_R S 8037 p0) = some b46 ∧ zs_A S b46 0 p2 ∧ ab_n0 X.1 ≤ b46 ∧ ∀ S50, S50 = zs_si S b46 p2.toNatClampNeg (zs_I S 8040 p0) → Q (.returned none) S50)) ∧ (p1.toInt = 110 → (zs_K S p0 = some (.inl 8) ∧ zs_C X d 8180 [.ref p0, .int p2, .int p3] S (zs_kV (fun S54 => (Q (.returned none) S54)) Q))) ∧ (p1.toInt = 111 → (zs_K S p0 = some (.inl 8) ∧ zs_C X d 8181 [.ref p0, .int p2, .int p3] S (zs_kV (fun S57 => (Q (.returned none) S57)) Q))) ∧ (p1.toInt = 112 → (zs_K S p0 = some (.inl 8) ∧ zs_C X d 8182 [.ref p0, .int p2] S (zs_kV (fun S60 => (Q (.returned none) S60)) Q))) ∧ (p1.toInt = 113 → (zs_K S p0 = some (.inl 8) ∧ zs_C X d 8183 [.ref p0, .int p2] S (zs_kV (fun S63 => (Q (.returned none) S63)) Q)))))
theorem u_X9_doGoal {σ : Nat → Nat} {n0 : Nat} {bf : ab_B} {d : Nat} {p0 : Nat} {p1 : Int32} {p2 : Int32} {p3 : Int32} {p4 : Int32} {S : zs_T} {Q : zs_Q} (hB : zt_B bf) (hd : 1 ≤ d) (h : w_X9_doGoal (zx σ n0 bf) (d - 1) p0 p1 p2 p3 p4 S Q) : zs_C (zx σ n0 bf) d 8166 [.ref p0, .int p1, .int p2, .int p3, .int p4] S Q := by
  have hL : lv_args 0 [.ref p0, .int p1, .int p2, .int p3, .int p4] = [(0, .ref p0), (1, .int p1), (2, .int p2), (3, .int p3), (4, .int p4)] := rfl
  refine zs_C.of1 (hB.2 8166 (by decide) (by decide)) hd (by rw [hL]; exact zs_sub_self _ (by exact ⟨rfl, rfl, rfl, rfl, rfl, trivial⟩)) ?_
  rw [hL]
  clear hL
  unfold w_X9_doGoal at h
  refine zu_iload_n d_8166_0 rfl ?_
  refine zu_tsw (td := 229) d_8166_1 (by decide) rfl (fun c1 => ?_) ⟨fun c1 => ⟨by decide, ?_⟩, fun c1 => ⟨by decide, ?_⟩, fun c1 => ⟨by decide, ?_⟩, fun c1 => ⟨by decide, ?_⟩, fun c1 => ⟨by decide, ?_⟩, fun c1 => ⟨by decide, ?_⟩, fun c1 => ⟨by decide, ?_⟩, fun c1 => ⟨by decide, ?_⟩, fun c1 => ⟨by decide, ?_⟩, fun c1 => ⟨by decide, ?_⟩, fun c1 => ⟨by decide, ?_⟩, fun c1 => ⟨by decide, ?_⟩, fun c1 => ⟨by decide, ?_⟩, fun c1 => ⟨by decide, ?_⟩, trivial⟩
  · have h := h.1 c1
    refine zu_aload_n d_8166_229 rfl (zs_ra _) ?_
    refine zu_iload_n d_8166_230 rfl ?_
    refine zu_iload_n d_8166_231 rfl ?_
    refine zu_iload_n d_8166_232 rfl ?_
    refine zu_iload d_8166_233 rfl ?_
    obtain ⟨k2, h⟩ := h
    refine zc_8_1160 (x0 := p1) (x1 := p2) (x2 := p3) (x3 := p4) hB rfl k2 d_8166_235 (Nat.le_of_ble_eq_true rfl) h (fun S3 h => ?_)
    exact zu_vret d_8166_238 zr_8166 h
  · have h := h.2.1 c1
    show zs_U _ _ _ 72 _ _ _ _
    refine zu_aload_n d_8166_72 rfl (zs_ra _) ?_
    refine zu_bipush d_8166_73 zj_101 ?_
    refine zu_iconst d_8166_75 zi_0 ?_
    refine zu_iconst d_8166_76 zi_0 ?_
    refine zu_iconst d_8166_77 zi_0 ?_
    obtain ⟨k5, h⟩ := h
    refine zc_8_649 (x0 := (101 : Int32)) (x1 := (0 : Int32)) (x2 := (0 : Int32)) (x3 := (0 : Int32)) hB rfl k5 d_8166_78 (Nat.le_of_ble_eq_true rfl) h (fun S6 h => ?_)
    refine zu_aload_n d_8166_81 rfl (zs_ra _) ?_
    refine zu_bipush d_8166_82 zj_102 ?_
    refine zu_iconst d_8166_84 zi_0 ?_
    refine zu_iconst d_8166_85 zi_0 ?_
    refine zu_iconst d_8166_86 zi_0 ?_
    obtain ⟨k8, h⟩ := h
    refine zc_8_649 (x0 := (102 : Int32)) (x1 := (0 : Int32)) (x2 := (0 : Int32)) (x3 := (0 : Int32)) hB rfl k8 d_8166_87 (Nat.le_of_ble_eq_true rfl) h (fun S9 h => ?_)
    refine zu_goto (t := 238) d_8166_90 rfl ?_
    exact zu_vret d_8166_238 zr_8166 h
  · have h := h.2.2.1 c1
    show zs_U _ _ _ 93 _ _ _ _
    refine zu_aload_n d_8166_93 rfl (zs_ra _) ?_
    refine zu_bipush d_8166_94 zj_13 ?_
    obtain ⟨k11, h⟩ := h
    refine zc_8_535 (x0 := (13 : Int32)) hB rfl k11 d_8166_96 (Nat.le_of_ble_eq_true rfl) h (fun v13 S12 h => ?_)
    refine zu_ifeq (t := 238) d_8166_99 rfl (fun c14 => ?_) (fun c14 => ?_)
    · have h := h.1 c14
      exact zu_vret d_8166_238 zr_8166 h
    · have h := h.2 c14
      refine zu_aload_n d_8166_102 rfl (zs_ra _) ?_
      obtain ⟨k15, h⟩ := h
      refine zc_8_538  hB rfl k15 d_8166_103 (Nat.le_of_ble_eq_true rfl) h (fun S16 h => ?_)
      refine zu_aload_n d_8166_106 rfl (zs_ra _) ?_
      refine zu_bipush d_8166_107 zj_101 ?_
      refine zu_iconst d_8166_109 zi_0 ?_
      refine zu_iconst d_8166_110 zi_0 ?_
      refine zu_iconst d_8166_111 zi_0 ?_
      obtain ⟨k18, h⟩ := h
      refine zc_8_649 (x0 := (101 : Int32)) (x1 := (0 : Int32)) (x2 := (0 : Int32)) (x3 := (0 : Int32)) hB rfl k18 d_8166_112 (Nat.le_of_ble_eq_true rfl) h (fun S19 h => ?_)
      refine zu_aload_n d_8166_115 rfl (zs_ra _) ?_
      refine zu_bipush d_8166_116 zj_102 ?_
      refine zu_iconst d_8166_118 zi_0 ?_
      refine zu_iconst d_8166_119 zi_0 ?_
      refine zu_iconst d_8166_120 zi_0 ?_
      obtain ⟨k21, h⟩ := h
      refine zc_8_649 (x0 := (102 : Int32)) (x1 := (0 : Int32)) (x2 := (0 : Int32)) (x3 := (0 : Int32)) hB rfl k21 d_8166_121 (Nat.le_of_ble_eq_true rfl) h (fun S22 h => ?_)
      exact (u_X9_doGoal_124 hB h).weak trivial
  · have h := h.2.2.2.1 c1
    show zs_U _ _ _ 127 _ _ _ _
    refine zu_aload_n d_8166_127 rfl (zs_ra _) ?_
    obtain ⟨k24, h⟩ := h
    refine zc_8_1130  hB rfl k24 d_8166_128 (Nat.le_of_ble_eq_true rfl) h (fun S25 h => ?_)
    refine zu_goto (t := 238) d_8166_131 rfl ?_
    exact zu_vret d_8166_238 zr_8166 h
  · have h := h.2.2.2.2.1 c1
    show zs_U _ _ _ 134 _ _ _ _
    refine zu_aload_n d_8166_134 rfl (zs_ra _) ?_
    obtain ⟨k27, h⟩ := h
    refine zc_8_1133  hB rfl k27 d_8166_135 (Nat.le_of_ble_eq_true rfl) h (fun S28 h => ?_)
    refine zu_goto (t := 238) d_8166_138 rfl ?_
    exact zu_vret d_8166_238 zr_8166 h
  · have h := h.2.2.2.2.2.1 c1
    show zs_U _ _ _ 141 _ _ _ _
    refine zu_aload_n d_8166_141 rfl (zs_ra _) ?_
    refine zu_iload_n d_8166_142 rfl ?_
    obtain ⟨k30, h⟩ := h
    refine zc_8_1136 (x0 := p2) hB rfl k30 d_8166_143 (Nat.le_of_ble_eq_true rfl) h (fun S31 h => ?_)
    refine zu_goto (t := 238) d_8166_146 rfl ?_
    exact zu_vret d_8166_238 zr_8166 h
  · have h := h.2.2.2.2.2.2.1 c1
    show zs_U _ _ _ 149 _ _ _ _
    refine zu_aload_n d_8166_149 rfl (zs_ra _) ?_
    refine zu_iload_n d_8166_150 rfl ?_
    refine zu_iload_n d_8166_151 rfl ?_
    obtain ⟨k33, h⟩ := h
    refine zc_8_1139 (x0 := p2) (x1 := p3) hB rfl k33 d_8166_152 (Nat.le_of_ble_eq_true rfl) h (fun S34 h => ?_)
    refine zu_goto (t := 238) d_8166_155 rfl ?_
    exact zu_vret d_8166_238 zr_8166 h
  · have h := h.2.2.2.2.2.2.2.1 c1
    show zs_U _ _ _ 158 _ _ _ _
    refine zu_aload_n d_8166_158 rfl (zs_ra _) ?_
    refine zu_bipush d_8166_159 zj_9 ?_
    obtain ⟨k36, h⟩ := h
    refine zc_8_846 (x0 := (9 : Int32)) hB rfl k36 d_8166_161 (Nat.le_of_ble_eq_true rfl) h (fun S37 h => ?_)
    refine zu_goto (t := 238) d_8166_164 rfl ?_
    exact zu_vret d_8166_238 zr_8166 h
  · have h := h.2.2.2.2.2.2.2.2.1 c1
    show zs_U _ _ _ 167 _ _ _ _
    refine zu_aload_n d_8166_167 rfl (zs_ra _) ?_
    obtain ⟨k39, h⟩ := h
    refine zc_8_1142  hB rfl k39 d_8166_168 (Nat.le_of_ble_eq_true rfl) h (fun S40 h => ?_)
    refine zu_goto (t := 238) d_8166_171 rfl ?_
    exact zu_vret d_8166_238 zr_8166 h
  · have h := h.2.2.2.2.2.2.2.2.2.1 c1
    show zs_U _ _ _ 174 _ _ _ _
    refine zu_aload_n d_8166_174 rfl (zs_ra _) ?_
    refine zu_iload_n d_8166_175 rfl ?_
    obtain ⟨k42, h⟩ := h
    refine zc_8_1145 (x0 := p2) hB rfl k42 d_8166_176 (Nat.le_of_ble_eq_true rfl) h (fun S43 h => ?_)
    refine zu_goto (t := 238) d_8166_179 rfl ?_
    exact zu_vret d_8166_238 zr_8166 h
  · have h := h.2.2.2.2.2.2.2.2.2.2.1 c1
    show zs_U _ _ _ 182 _ _ _ _
    refine zu_aload_n d_8166_182 rfl (zs_ra _) ?_
    obtain ⟨k45, h⟩ := h
    refine zg_8_75 rfl d_8166_183 k45 ?_
    refine zu_iload_n d_8166_186 rfl ?_
    refine zu_aload_n d_8166_187 rfl (zs_ra _) ?_
    refine zg_8_556 rfl d_8166_188 k45 ?_
    obtain ⟨b46, e47, h⟩ := h
    refine zs_stk2 (zs_rfe e47) ?_
    obtain ⟨k48, h⟩ := h
    obtain ⟨k49, h⟩ := h
    refine zu_iast (k := 0) d_8166_191 rfl rfl k49 k48 ?_
    generalize e51 : zs_si S b46 p2.toNatClampNeg (zs_I S 8040 p0) = S50
    have h := h S50 e51.symm
    have K52 : ∀ b, zs_K S50 b = zs_K S b := zs_Kt e51 (zs_Ksi _ _ _ _) (fun _ => rfl)
    refine zu_goto (t := 238) d_8166_192 rfl ?_
    exact zu_vret d_8166_238 zr_8166 h
  · have h := h.2.2.2.2.2.2.2.2.2.2.2.1 c1
    show zs_U _ _ _ 195 _ _ _ _
    refine zu_aload_n d_8166_195 rfl (zs_ra _) ?_
    refine zu_iload_n d_8166_196 rfl ?_
    refine zu_iload_n d_8166_197 rfl ?_
    obtain ⟨k53, h⟩ := h
    refine zc_8_1148 (x0 := p2) (x1 := p3) hB rfl k53 d_8166_198 (Nat.le_of_ble_eq_true rfl) h (fun S54 h => ?_)
    refine zu_goto (t := 238) d_8166_201 rfl ?_
    exact zu_vret d_8166_238 zr_8166 h
  · have h := h.2.2.2.2.2.2.2.2.2.2.2.2.1 c1
    show zs_U _ _ _ 204 _ _ _ _
    refine zu_aload_n d_8166_204 rfl (zs_ra _) ?_
    refine zu_iload_n d_8166_205 rfl ?_
    refine zu_iload_n d_8166_206 rfl ?_
    obtain ⟨k56, h⟩ := h
    refine zc_8_1151 (x0 := p2) (x1 := p3) hB rfl k56 d_8166_207 (Nat.le_of_ble_eq_true rfl) h (fun S57 h => ?_)
    refine zu_goto (t := 238) d_8166_210 rfl ?_
    exact zu_vret d_8166_238 zr_8166 h
  · have h := h.2.2.2.2.2.2.2.2.2.2.2.2.2.1 c1
    show zs_U _ _ _ 213 _ _ _ _
    refine zu_aload_n d_8166_213 rfl (zs_ra _) ?_
    refine zu_iload_n d_8166_214 rfl ?_
    obtain ⟨k59, h⟩ := h
    refine zc_8_1154 (x0 := p2) hB rfl k59 d_8166_215 (Nat.le_of_ble_eq_true rfl) h (fun S60 h => ?_)
    refine zu_goto (t := 238) d_8166_218 rfl ?_
    exact zu_vret d_8166_238 zr_8166 h
  · have h := h.2.2.2.2.2.2.2.2.2.2.2.2.2.2 c1
    show zs_U _ _ _ 221 _ _ _ _
    refine zu_aload_n d_8166_221 rfl (zs_ra _) ?_
    refine zu_iload_n d_8166_222 rfl ?_
    obtain ⟨k62, h⟩ := h
    refine zc_8_1157 (x0 := p2) hB rfl k62 d_8166_223 (Nat.le_of_ble_eq_true rfl) h (fun S63 h => ?_)
    refine zu_goto (t := 238) d_8166_226 rfl ?_
    exact zu_vret d_8166_238 zr_8166 h
/-! SchemaPascalModel.statement()V -/
theorem zm_8167 {σ : Nat → Nat} {n0 : Nat} {bf : ab_B} : ab_code (zx σ n0 bf).1 8167 = prog_17_method_161_code := rfl
theorem zq_8167 {σ : Nat → Nat} {n0 : Nat} {bf : ab_B} : ab_maxL (zx σ n0 bf).1 8167 = 2 := rfl
theorem zr_8167 {σ : Nat → Nat} {n0 : Nat} {bf : ab_B} : ab_ret (zx σ n0 bf).1 8167 = (Option.none : Option Jvm.ClassFile.FieldType) := rfl
theorem d_8167_0 {σ : Nat → Nat} {n0 : Nat} {bf : ab_B} : decode (ab_code (zx σ n0 bf).1 8167) 0 = .ok (.aload_n 0, 1) := zd zm_8167 (by decide +kernel)
theorem d_8167_1 {σ : Nat → Nat} {n0 : Nat} {bf : ab_B} : decode (ab_code (zx σ n0 bf).1 8167) 1 = .ok (.getfield 444, 3) := zd zm_8167 (by decide +kernel)
theorem d_8167_4 {σ : Nat → Nat} {n0 : Nat} {bf : ab_B} : decode (ab_code (zx σ n0 bf).1 8167) 4 = .ok (.ifCond .le 4, 3) := zd zm_8167 (by decide +kernel)
theorem d_8167_7 {σ : Nat → Nat} {n0 : Nat} {bf : ab_B} : decode (ab_code (zx σ n0 bf).1 8167) 7 = .ok (.return_, 1) := zd zm_8167 (by decide +kernel)
theorem d_8167_8 {σ : Nat → Nat} {n0 : Nat} {bf : ab_B} : decode (ab_code (zx σ n0 bf).1 8167) 8 = .ok (.aload_n 0, 1) := zd zm_8167 (by decide +kernel)
theorem d_8167_9 {σ : Nat → Nat} {n0 : Nat} {bf : ab_B} : decode (ab_code (zx σ n0 bf).1 8167) 9 = .ok (.invokevirtual 706, 3) := zd zm_8167 (by decide +kernel)
theorem d_8167_12 {σ : Nat → Nat} {n0 : Nat} {bf : ab_B} : decode (ab_code (zx σ n0 bf).1 8167) 12 = .ok (.aload_n 0, 1) := zd zm_8167 (by decide +kernel)
theorem d_8167_13 {σ : Nat → Nat} {n0 : Nat} {bf : ab_B} : decode (ab_code (zx σ n0 bf).1 8167) 13 = .ok (.getfield 450, 3) := zd zm_8167 (by decide +kernel)
theorem d_8167_16 {σ : Nat → Nat} {n0 : Nat} {bf : ab_B} : decode (ab_code (zx σ n0 bf).1 8167) 16 = .ok (.istore_n 1, 1) := zd zm_8167 (by decide +kernel)
theorem d_8167_17 {σ : Nat → Nat} {n0 : Nat} {bf : ab_B} : decode (ab_code (zx σ n0 bf).1 8167) 17 = .ok (.aload_n 0, 1) := zd zm_8167 (by decide +kernel)
theorem d_8167_18 {σ : Nat → Nat} {n0 : Nat} {bf : ab_B} : decode (ab_code (zx σ n0 bf).1 8167) 18 = .ok (.getfield 444, 3) := zd zm_8167 (by decide +kernel)
theorem d_8167_21 {σ : Nat → Nat} {n0 : Nat} {bf : ab_B} : decode (ab_code (zx σ n0 bf).1 8167) 21 = .ok (.ifCond .gt 18, 3) := zd zm_8167 (by decide +kernel)
theorem d_8167_24 {σ : Nat → Nat} {n0 : Nat} {bf : ab_B} : decode (ab_code (zx σ n0 bf).1 8167) 24 = .ok (.aload_n 0, 1) := zd zm_8167 (by decide +kernel)
theorem d_8167_25 {σ : Nat → Nat} {n0 : Nat} {bf : ab_B} : decode (ab_code (zx σ n0 bf).1 8167) 25 = .ok (.getfield 484, 3) := zd zm_8167 (by decide +kernel)
theorem d_8167_28 {σ : Nat → Nat} {n0 : Nat} {bf : ab_B} : decode (ab_code (zx σ n0 bf).1 8167) 28 = .ok (.iconst 5, 1) := zd zm_8167 (by decide +kernel)
theorem d_8167_29 {σ : Nat → Nat} {n0 : Nat} {bf : ab_B} : decode (ab_code (zx σ n0 bf).1 8167) 29 = .ok (.if_icmp .eq 10, 3) := zd zm_8167 (by decide +kernel)
theorem d_8167_32 {σ : Nat → Nat} {n0 : Nat} {bf : ab_B} : decode (ab_code (zx σ n0 bf).1 8167) 32 = .ok (.aload_n 0, 1) := zd zm_8167 (by decide +kernel)
theorem d_8167_33 {σ : Nat → Nat} {n0 : Nat} {bf : ab_B} : decode (ab_code (zx σ n0 bf).1 8167) 33 = .ok (.getfield 484, 3) := zd zm_8167 (by decide +kernel)
theorem d_8167_36 {σ : Nat → Nat} {n0 : Nat} {bf : ab_B} : decode (ab_code (zx σ n0 bf).1 8167) 36 = .ok (.ifCond .ne 4, 3) := zd zm_8167 (by decide +kernel)
theorem d_8167_39 {σ : Nat → Nat} {n0 : Nat} {bf : ab_B} : decode (ab_code (zx σ n0 bf).1 8167) 39 = .ok (.return_, 1) := zd zm_8167 (by decide +kernel)
theorem d_8167_40 {σ : Nat → Nat} {n0 : Nat} {bf : ab_B} : decode (ab_code (zx σ n0 bf).1 8167) 40 = .ok (.aload_n 0, 1) := zd zm_8167 (by decide +kernel)
theorem d_8167_41 {σ : Nat → Nat} {n0 : Nat} {bf : ab_B} : decode (ab_code (zx σ n0 bf).1 8167) 41 = .ok (.getfield 484, 3) := zd zm_8167 (by decide +kernel)
theorem d_8167_44 {σ : Nat → Nat} {n0 : Nat} {bf : ab_B} : decode (ab_code (zx σ n0 bf).1 8167) 44 = .ok (.iconst 1, 1) := zd zm_8167 (by decide +kernel)
theorem d_8167_45 {σ : Nat → Nat} {n0 : Nat} {bf : ab_B} : decode (ab_code (zx σ n0 bf).1 8167) 45 = .ok (.if_icmp .ne 14, 3) := zd zm_8167 (by decide +kernel)
theorem d_8167_48 {σ : Nat → Nat} {n0 : Nat} {bf : ab_B} : decode (ab_code (zx σ n0 bf).1 8167) 48 = .ok (.aload_n 0, 1) := zd zm_8167 (by decide +kernel)
theorem d_8167_49 {σ : Nat → Nat} {n0 : Nat} {bf : ab_B} : decode (ab_code (zx σ n0 bf).1 8167) 49 = .ok (.iload_n 1, 1) := zd zm_8167 (by decide +kernel)
theorem d_8167_50 {σ : Nat → Nat} {n0 : Nat} {bf : ab_B} : decode (ab_code (zx σ n0 bf).1 8167) 50 = .ok (.invokevirtual 959, 3) := zd zm_8167 (by decide +kernel)
theorem d_8167_53 {σ : Nat → Nat} {n0 : Nat} {bf : ab_B} : decode (ab_code (zx σ n0 bf).1 8167) 53 = .ok (.aload_n 0, 1) := zd zm_8167 (by decide +kernel)
theorem d_8167_54 {σ : Nat → Nat} {n0 : Nat} {bf : ab_B} : decode (ab_code (zx σ n0 bf).1 8167) 54 = .ok (.iload_n 1, 1) := zd zm_8167 (by decide +kernel)
theorem d_8167_55 {σ : Nat → Nat} {n0 : Nat} {bf : ab_B} : decode (ab_code (zx σ n0 bf).1 8167) 55 = .ok (.invokevirtual 962, 3) := zd zm_8167 (by decide +kernel)
theorem d_8167_58 {σ : Nat → Nat} {n0 : Nat} {bf : ab_B} : decode (ab_code (zx σ n0 bf).1 8167) 58 = .ok (.return_, 1) := zd zm_8167 (by decide +kernel)
theorem d_8167_59 {σ : Nat → Nat} {n0 : Nat} {bf : ab_B} : decode (ab_code (zx σ n0 bf).1 8167) 59 = .ok (.aload_n 0, 1) := zd zm_8167 (by decide +kernel)
theorem d_8167_60 {σ : Nat → Nat} {n0 : Nat} {bf : ab_B} : decode (ab_code (zx σ n0 bf).1 8167) 60 = .ok (.getfield 484, 3) := zd zm_8167 (by decide +kernel)
theorem d_8167_63 {σ : Nat → Nat} {n0 : Nat} {bf : ab_B} : decode (ab_code (zx σ n0 bf).1 8167) 63 = .ok (.iconst 2, 1) := zd zm_8167 (by decide +kernel)
theorem d_8167_64 {σ : Nat → Nat} {n0 : Nat} {bf : ab_B} : decode (ab_code (zx σ n0 bf).1 8167) 64 = .ok (.if_icmp .eq 9, 3) := zd zm_8167 (by decide +kernel)
theorem d_8167_67 {σ : Nat → Nat} {n0 : Nat} {bf : ab_B} : decode (ab_code (zx σ n0 bf).1 8167) 67 = .ok (.aload_n 0, 1) := zd zm_8167 (by decide +kernel)
theorem d_8167_68 {σ : Nat → Nat} {n0 : Nat} {bf : ab_B} : decode (ab_code (zx σ n0 bf).1 8167) 68 = .ok (.iconst 2, 1) := zd zm_8167 (by decide +kernel)
theorem d_8167_69 {σ : Nat → Nat} {n0 : Nat} {bf : ab_B} : decode (ab_code (zx σ n0 bf).1 8167) 69 = .ok (.invokevirtual 541, 3) := zd zm_8167 (by decide +kernel)
theorem d_8167_72 {σ : Nat → Nat} {n0 : Nat} {bf : ab_B} : decode (ab_code (zx σ n0 bf).1 8167) 72 = .ok (.return_, 1) := zd zm_8167 (by decide +kernel)
theorem d_8167_73 {σ : Nat → Nat} {n0 : Nat} {bf : ab_B} : decode (ab_code (zx σ n0 bf).1 8167) 73 = .ok (.aload_n 0, 1) := zd zm_8167 (by decide +kernel)
theorem d_8167_74 {σ : Nat → Nat} {n0 : Nat} {bf : ab_B} : decode (ab_code (zx σ n0 bf).1 8167) 74 = .ok (.getfield 494, 3) := zd zm_8167 (by decide +kernel)
theorem d_8167_77 {σ : Nat → Nat} {n0 : Nat} {bf : ab_B} : decode (ab_code (zx σ n0 bf).1 8167) 77 = .ok (.tableswitch 273 8 23 #[79, 273, 104, 273, 273, 133, 273, 165, 273, 203, 273, 273, 220, 273, 273, 249], 79) := zd zm_8167 (by decide +kernel)
theorem d_8167_156 {σ : Nat → Nat} {n0 : Nat} {bf : ab_B} : decode (ab_code (zx σ n0 bf).1 8167) 156 = .ok (.aload_n 0, 1) := zd zm_8167 (by decide +kernel)
theorem d_8167_157 {σ : Nat → Nat} {n0 : Nat} {bf : ab_B} : decode (ab_code (zx σ n0 bf).1 8167) 157 = .ok (.invokevirtual 538, 3) := zd zm_8167 (by decide +kernel)
theorem d_8167_160 {σ : Nat → Nat} {n0 : Nat} {bf : ab_B} : decode (ab_code (zx σ n0 bf).1 8167) 160 = .ok (.aload_n 0, 1) := zd zm_8167 (by decide +kernel)
theorem d_8167_161 {σ : Nat → Nat} {n0 : Nat} {bf : ab_B} : decode (ab_code (zx σ n0 bf).1 8167) 161 = .ok (.bipush 106, 2) := zd zm_8167 (by decide +kernel)
theorem d_8167_163 {σ : Nat → Nat} {n0 : Nat} {bf : ab_B} : decode (ab_code (zx σ n0 bf).1 8167) 163 = .ok (.iconst 0, 1) := zd zm_8167 (by decide +kernel)
theorem d_8167_164 {σ : Nat → Nat} {n0 : Nat} {bf : ab_B} : decode (ab_code (zx σ n0 bf).1 8167) 164 = .ok (.iconst 0, 1) := zd zm_8167 (by decide +kernel)
theorem d_8167_165 {σ : Nat → Nat} {n0 : Nat} {bf : ab_B} : decode (ab_code (zx σ n0 bf).1 8167) 165 = .ok (.iconst 0, 1) := zd zm_8167 (by decide +kernel)
theorem d_8167_166 {σ : Nat → Nat} {n0 : Nat} {bf : ab_B} : decode (ab_code (zx σ n0 bf).1 8167) 166 = .ok (.invokevirtual 649, 3) := zd zm_8167 (by decide +kernel)
theorem d_8167_169 {σ : Nat → Nat} {n0 : Nat} {bf : ab_B} : decode (ab_code (zx σ n0 bf).1 8167) 169 = .ok (.aload_n 0, 1) := zd zm_8167 (by decide +kernel)
theorem d_8167_170 {σ : Nat → Nat} {n0 : Nat} {bf : ab_B} : decode (ab_code (zx σ n0 bf).1 8167) 170 = .ok (.bipush 100, 2) := zd zm_8167 (by decide +kernel)
theorem d_8167_172 {σ : Nat → Nat} {n0 : Nat} {bf : ab_B} : decode (ab_code (zx σ n0 bf).1 8167) 172 = .ok (.iconst 0, 1) := zd zm_8167 (by decide +kernel)
theorem d_8167_173 {σ : Nat → Nat} {n0 : Nat} {bf : ab_B} : decode (ab_code (zx σ n0 bf).1 8167) 173 = .ok (.iconst 0, 1) := zd zm_8167 (by decide +kernel)
theorem d_8167_174 {σ : Nat → Nat} {n0 : Nat} {bf : ab_B} : decode (ab_code (zx σ n0 bf).1 8167) 174 = .ok (.iconst 0, 1) := zd zm_8167 (by decide +kernel)
theorem d_8167_175 {σ : Nat → Nat} {n0 : Nat} {bf : ab_B} : decode (ab_code (zx σ n0 bf).1 8167) 175 = .ok (.invokevirtual 649, 3) := zd zm_8167 (by decide +kernel)
theorem d_8167_178 {σ : Nat → Nat} {n0 : Nat} {bf : ab_B} : decode (ab_code (zx σ n0 bf).1 8167) 178 = .ok (.goto 172, 3) := zd zm_8167 (by decide +kernel)
theorem d_8167_181 {σ : Nat → Nat} {n0 : Nat} {bf : ab_B} : decode (ab_code (zx σ n0 bf).1 8167) 181 = .ok (.aload_n 0, 1) := zd zm_8167 (by decide +kernel)
theorem d_8167_182 {σ : Nat → Nat} {n0 : Nat} {bf : ab_B} : decode (ab_code (zx σ n0 bf).1 8167) 182 = .ok (.iload_n 1, 1) := zd zm_8167 (by decide +kernel)
theorem d_8167_183 {σ : Nat → Nat} {n0 : Nat} {bf : ab_B} : decode (ab_code (zx σ n0 bf).1 8167) 183 = .ok (.invokevirtual 959, 3) := zd zm_8167 (by decide +kernel)
theorem d_8167_186 {σ : Nat → Nat} {n0 : Nat} {bf : ab_B} : decode (ab_code (zx σ n0 bf).1 8167) 186 = .ok (.aload_n 0, 1) := zd zm_8167 (by decide +kernel)
theorem d_8167_187 {σ : Nat → Nat} {n0 : Nat} {bf : ab_B} : decode (ab_code (zx σ n0 bf).1 8167) 187 = .ok (.invokevirtual 538, 3) := zd zm_8167 (by decide +kernel)
theorem d_8167_190 {σ : Nat → Nat} {n0 : Nat} {bf : ab_B} : decode (ab_code (zx σ n0 bf).1 8167) 190 = .ok (.aload_n 0, 1) := zd zm_8167 (by decide +kernel)
theorem d_8167_191 {σ : Nat → Nat} {n0 : Nat} {bf : ab_B} : decode (ab_code (zx σ n0 bf).1 8167) 191 = .ok (.bipush 107, 2) := zd zm_8167 (by decide +kernel)
theorem d_8167_193 {σ : Nat → Nat} {n0 : Nat} {bf : ab_B} : decode (ab_code (zx σ n0 bf).1 8167) 193 = .ok (.iconst 0, 1) := zd zm_8167 (by decide +kernel)
theorem d_8167_194 {σ : Nat → Nat} {n0 : Nat} {bf : ab_B} : decode (ab_code (zx σ n0 bf).1 8167) 194 = .ok (.iconst 0, 1) := zd zm_8167 (by decide +kernel)
theorem d_8167_195 {σ : Nat → Nat} {n0 : Nat} {bf : ab_B} : decode (ab_code (zx σ n0 bf).1 8167) 195 = .ok (.iconst 0, 1) := zd zm_8167 (by decide +kernel)
theorem d_8167_196 {σ : Nat → Nat} {n0 : Nat} {bf : ab_B} : decode (ab_code (zx σ n0 bf).1 8167) 196 = .ok (.invokevirtual 649, 3) := zd zm_8167 (by decide +kernel)
theorem d_8167_199 {σ : Nat → Nat} {n0 : Nat} {bf : ab_B} : decode (ab_code (zx σ n0 bf).1 8167) 199 = .ok (.aload_n 0, 1) := zd zm_8167 (by decide +kernel)
theorem d_8167_200 {σ : Nat → Nat} {n0 : Nat} {bf : ab_B} : decode (ab_code (zx σ n0 bf).1 8167) 200 = .ok (.iconst 2, 1) := zd zm_8167 (by decide +kernel)
theorem d_8167_201 {σ : Nat → Nat} {n0 : Nat} {bf : ab_B} : decode (ab_code (zx σ n0 bf).1 8167) 201 = .ok (.iconst 0, 1) := zd zm_8167 (by decide +kernel)
theorem d_8167_202 {σ : Nat → Nat} {n0 : Nat} {bf : ab_B} : decode (ab_code (zx σ n0 bf).1 8167) 202 = .ok (.iconst 0, 1) := zd zm_8167 (by decide +kernel)
theorem d_8167_203 {σ : Nat → Nat} {n0 : Nat} {bf : ab_B} : decode (ab_code (zx σ n0 bf).1 8167) 203 = .ok (.iconst 0, 1) := zd zm_8167 (by decide +kernel)
theorem d_8167_204 {σ : Nat → Nat} {n0 : Nat} {bf : ab_B} : decode (ab_code (zx σ n0 bf).1 8167) 204 = .ok (.invokevirtual 649, 3) := zd zm_8167 (by decide +kernel)
theorem d_8167_207 {σ : Nat → Nat} {n0 : Nat} {bf : ab_B} : decode (ab_code (zx σ n0 bf).1 8167) 207 = .ok (.goto 143, 3) := zd zm_8167 (by decide +kernel)
theorem d_8167_210 {σ : Nat → Nat} {n0 : Nat} {bf : ab_B} : decode (ab_code (zx σ n0 bf).1 8167) 210 = .ok (.aload_n 0, 1) := zd zm_8167 (by decide +kernel)
theorem d_8167_211 {σ : Nat → Nat} {n0 : Nat} {bf : ab_B} : decode (ab_code (zx σ n0 bf).1 8167) 211 = .ok (.iload_n 1, 1) := zd zm_8167 (by decide +kernel)
theorem d_8167_212 {σ : Nat → Nat} {n0 : Nat} {bf : ab_B} : decode (ab_code (zx σ n0 bf).1 8167) 212 = .ok (.invokevirtual 959, 3) := zd zm_8167 (by decide +kernel)
theorem d_8167_215 {σ : Nat → Nat} {n0 : Nat} {bf : ab_B} : decode (ab_code (zx σ n0 bf).1 8167) 215 = .ok (.aload_n 0, 1) := zd zm_8167 (by decide +kernel)
theorem d_8167_216 {σ : Nat → Nat} {n0 : Nat} {bf : ab_B} : decode (ab_code (zx σ n0 bf).1 8167) 216 = .ok (.invokevirtual 538, 3) := zd zm_8167 (by decide +kernel)
theorem d_8167_219 {σ : Nat → Nat} {n0 : Nat} {bf : ab_B} : decode (ab_code (zx σ n0 bf).1 8167) 219 = .ok (.aload_n 0, 1) := zd zm_8167 (by decide +kernel)
theorem d_8167_220 {σ : Nat → Nat} {n0 : Nat} {bf : ab_B} : decode (ab_code (zx σ n0 bf).1 8167) 220 = .ok (.bipush 110, 2) := zd zm_8167 (by decide +kernel)
theorem d_8167_222 {σ : Nat → Nat} {n0 : Nat} {bf : ab_B} : decode (ab_code (zx σ n0 bf).1 8167) 222 = .ok (.aload_n 0, 1) := zd zm_8167 (by decide +kernel)
theorem d_8167_223 {σ : Nat → Nat} {n0 : Nat} {bf : ab_B} : decode (ab_code (zx σ n0 bf).1 8167) 223 = .ok (.getfield 556, 3) := zd zm_8167 (by decide +kernel)
theorem d_8167_226 {σ : Nat → Nat} {n0 : Nat} {bf : ab_B} : decode (ab_code (zx σ n0 bf).1 8167) 226 = .ok (.iload_n 1, 1) := zd zm_8167 (by decide +kernel)
theorem d_8167_227 {σ : Nat → Nat} {n0 : Nat} {bf : ab_B} : decode (ab_code (zx σ n0 bf).1 8167) 227 = .ok (.iconst 0, 1) := zd zm_8167 (by decide +kernel)
theorem d_8167_228 {σ : Nat → Nat} {n0 : Nat} {bf : ab_B} : decode (ab_code (zx σ n0 bf).1 8167) 228 = .ok (.invokevirtual 649, 3) := zd zm_8167 (by decide +kernel)
theorem d_8167_231 {σ : Nat → Nat} {n0 : Nat} {bf : ab_B} : decode (ab_code (zx σ n0 bf).1 8167) 231 = .ok (.aload_n 0, 1) := zd zm_8167 (by decide +kernel)
theorem d_8167_232 {σ : Nat → Nat} {n0 : Nat} {bf : ab_B} : decode (ab_code (zx σ n0 bf).1 8167) 232 = .ok (.iconst 2, 1) := zd zm_8167 (by decide +kernel)
theorem d_8167_233 {σ : Nat → Nat} {n0 : Nat} {bf : ab_B} : decode (ab_code (zx σ n0 bf).1 8167) 233 = .ok (.iconst 0, 1) := zd zm_8167 (by decide +kernel)
theorem d_8167_234 {σ : Nat → Nat} {n0 : Nat} {bf : ab_B} : decode (ab_code (zx σ n0 bf).1 8167) 234 = .ok (.iconst 0, 1) := zd zm_8167 (by decide +kernel)
theorem d_8167_235 {σ : Nat → Nat} {n0 : Nat} {bf : ab_B} : decode (ab_code (zx σ n0 bf).1 8167) 235 = .ok (.iconst 0, 1) := zd zm_8167 (by decide +kernel)
theorem d_8167_236 {σ : Nat → Nat} {n0 : Nat} {bf : ab_B} : decode (ab_code (zx σ n0 bf).1 8167) 236 = .ok (.invokevirtual 649, 3) := zd zm_8167 (by decide +kernel)
theorem d_8167_239 {σ : Nat → Nat} {n0 : Nat} {bf : ab_B} : decode (ab_code (zx σ n0 bf).1 8167) 239 = .ok (.goto 111, 3) := zd zm_8167 (by decide +kernel)
theorem d_8167_242 {σ : Nat → Nat} {n0 : Nat} {bf : ab_B} : decode (ab_code (zx σ n0 bf).1 8167) 242 = .ok (.aload_n 0, 1) := zd zm_8167 (by decide +kernel)
theorem d_8167_243 {σ : Nat → Nat} {n0 : Nat} {bf : ab_B} : decode (ab_code (zx σ n0 bf).1 8167) 243 = .ok (.iload_n 1, 1) := zd zm_8167 (by decide +kernel)
theorem d_8167_244 {σ : Nat → Nat} {n0 : Nat} {bf : ab_B} : decode (ab_code (zx σ n0 bf).1 8167) 244 = .ok (.invokevirtual 959, 3) := zd zm_8167 (by decide +kernel)
theorem d_8167_247 {σ : Nat → Nat} {n0 : Nat} {bf : ab_B} : decode (ab_code (zx σ n0 bf).1 8167) 247 = .ok (.aload_n 0, 1) := zd zm_8167 (by decide +kernel)
theorem d_8167_248 {σ : Nat → Nat} {n0 : Nat} {bf : ab_B} : decode (ab_code (zx σ n0 bf).1 8167) 248 = .ok (.bipush 112, 2) := zd zm_8167 (by decide +kernel)
theorem d_8167_250 {σ : Nat → Nat} {n0 : Nat} {bf : ab_B} : decode (ab_code (zx σ n0 bf).1 8167) 250 = .ok (.aload_n 0, 1) := zd zm_8167 (by decide +kernel)
theorem d_8167_251 {σ : Nat → Nat} {n0 : Nat} {bf : ab_B} : decode (ab_code (zx σ n0 bf).1 8167) 251 = .ok (.getfield 556, 3) := zd zm_8167 (by decide +kernel)
theorem d_8167_254 {σ : Nat → Nat} {n0 : Nat} {bf : ab_B} : decode (ab_code (zx σ n0 bf).1 8167) 254 = .ok (.iconst 0, 1) := zd zm_8167 (by decide +kernel)
theorem d_8167_255 {σ : Nat → Nat} {n0 : Nat} {bf : ab_B} : decode (ab_code (zx σ n0 bf).1 8167) 255 = .ok (.iconst 0, 1) := zd zm_8167 (by decide +kernel)
theorem d_8167_256 {σ : Nat → Nat} {n0 : Nat} {bf : ab_B} : decode (ab_code (zx σ n0 bf).1 8167) 256 = .ok (.invokevirtual 649, 3) := zd zm_8167 (by decide +kernel)
theorem d_8167_259 {σ : Nat → Nat} {n0 : Nat} {bf : ab_B} : decode (ab_code (zx σ n0 bf).1 8167) 259 = .ok (.aload_n 0, 1) := zd zm_8167 (by decide +kernel)
theorem d_8167_260 {σ : Nat → Nat} {n0 : Nat} {bf : ab_B} : decode (ab_code (zx σ n0 bf).1 8167) 260 = .ok (.iload_n 1, 1) := zd zm_8167 (by decide +kernel)
theorem d_8167_261 {σ : Nat → Nat} {n0 : Nat} {bf : ab_B} : decode (ab_code (zx σ n0 bf).1 8167) 261 = .ok (.invokevirtual 959, 3) := zd zm_8167 (by decide +kernel)
theorem d_8167_264 {σ : Nat → Nat} {n0 : Nat} {bf : ab_B} : decode (ab_code (zx σ n0 bf).1 8167) 264 = .ok (.aload_n 0, 1) := zd zm_8167 (by decide +kernel)
theorem d_8167_265 {σ : Nat → Nat} {n0 : Nat} {bf : ab_B} : decode (ab_code (zx σ n0 bf).1 8167) 265 = .ok (.invokevirtual 538, 3) := zd zm_8167 (by decide +kernel)
theorem d_8167_268 {σ : Nat → Nat} {n0 : Nat} {bf : ab_B} : decode (ab_code (zx σ n0 bf).1 8167) 268 = .ok (.aload_n 0, 1) := zd zm_8167 (by decide +kernel)
theorem d_8167_269 {σ : Nat → Nat} {n0 : Nat} {bf : ab_B} : decode (ab_code (zx σ n0 bf).1 8167) 269 = .ok (.bipush 100, 2) := zd zm_8167 (by decide +kernel)
theorem d_8167_271 {σ : Nat → Nat} {n0 : Nat} {bf : ab_B} : decode (ab_code (zx σ n0 bf).1 8167) 271 = .ok (.iconst 0, 1) := zd zm_8167 (by decide +kernel)
theorem d_8167_272 {σ : Nat → Nat} {n0 : Nat} {bf : ab_B} : decode (ab_code (zx σ n0 bf).1 8167) 272 = .ok (.iconst 0, 1) := zd zm_8167 (by decide +kernel)
theorem d_8167_273 {σ : Nat → Nat} {n0 : Nat} {bf : ab_B} : decode (ab_code (zx σ n0 bf).1 8167) 273 = .ok (.iconst 0, 1) := zd zm_8167 (by decide +kernel)
theorem d_8167_274 {σ : Nat → Nat} {n0 : Nat} {bf : ab_B} : decode (ab_code (zx σ n0 bf).1 8167) 274 = .ok (.invokevirtual 649, 3) := zd zm_8167 (by decide +kernel)
theorem d_8167_277 {σ : Nat → Nat} {n0 : Nat} {bf : ab_B} : decode (ab_code (zx σ n0 bf).1 8167) 277 = .ok (.goto 73, 3) := zd zm_8167 (by decide +kernel)
theorem d_8167_280 {σ : Nat → Nat} {n0 : Nat} {bf : ab_B} : decode (ab_code (zx σ n0 bf).1 8167) 280 = .ok (.aload_n 0, 1) := zd zm_8167 (by decide +kernel)
theorem d_8167_281 {σ : Nat → Nat} {n0 : Nat} {bf : ab_B} : decode (ab_code (zx σ n0 bf).1 8167) 281 = .ok (.iload_n 1, 1) := zd zm_8167 (by decide +kernel)
theorem d_8167_282 {σ : Nat → Nat} {n0 : Nat} {bf : ab_B} : decode (ab_code (zx σ n0 bf).1 8167) 282 = .ok (.invokevirtual 959, 3) := zd zm_8167 (by decide +kernel)
theorem d_8167_285 {σ : Nat → Nat} {n0 : Nat} {bf : ab_B} : decode (ab_code (zx σ n0 bf).1 8167) 285 = .ok (.aload_n 0, 1) := zd zm_8167 (by decide +kernel)
theorem d_8167_286 {σ : Nat → Nat} {n0 : Nat} {bf : ab_B} : decode (ab_code (zx σ n0 bf).1 8167) 286 = .ok (.invokevirtual 538, 3) := zd zm_8167 (by decide +kernel)
theorem d_8167_289 {σ : Nat → Nat} {n0 : Nat} {bf : ab_B} : decode (ab_code (zx σ n0 bf).1 8167) 289 = .ok (.aload_n 0, 1) := zd zm_8167 (by decide +kernel)
theorem d_8167_290 {σ : Nat → Nat} {n0 : Nat} {bf : ab_B} : decode (ab_code (zx σ n0 bf).1 8167) 290 = .ok (.iload_n 1, 1) := zd zm_8167 (by decide +kernel)
theorem d_8167_291 {σ : Nat → Nat} {n0 : Nat} {bf : ab_B} : decode (ab_code (zx σ n0 bf).1 8167) 291 = .ok (.invokevirtual 965, 3) := zd zm_8167 (by decide +kernel)
theorem d_8167_294 {σ : Nat → Nat} {n0 : Nat} {bf : ab_B} : decode (ab_code (zx σ n0 bf).1 8167) 294 = .ok (.goto 56, 3) := zd zm_8167 (by decide +kernel)
theorem d_8167_297 {σ : Nat → Nat} {n0 : Nat} {bf : ab_B} : decode (ab_code (zx σ n0 bf).1 8167) 297 = .ok (.aload_n 0, 1) := zd zm_8167 (by decide +kernel)
theorem d_8167_298 {σ : Nat → Nat} {n0 : Nat} {bf : ab_B} : decode (ab_code (zx σ n0 bf).1 8167) 298 = .ok (.iload_n 1, 1) := zd zm_8167 (by decide +kernel)
theorem d_8167_299 {σ : Nat → Nat} {n0 : Nat} {bf : ab_B} : decode (ab_code (zx σ n0 bf).1 8167) 299 = .ok (.invokevirtual 959, 3) := zd zm_8167 (by decide +kernel)
theorem d_8167_302 {σ : Nat → Nat} {n0 : Nat} {bf : ab_B} : decode (ab_code (zx σ n0 bf).1 8167) 302 = .ok (.aload_n 0, 1) := zd zm_8167 (by decide +kernel)
theorem d_8167_303 {σ : Nat → Nat} {n0 : Nat} {bf : ab_B} : decode (ab_code (zx σ n0 bf).1 8167) 303 = .ok (.invokevirtual 538, 3) := zd zm_8167 (by decide +kernel)
theorem d_8167_306 {σ : Nat → Nat} {n0 : Nat} {bf : ab_B} : decode (ab_code (zx σ n0 bf).1 8167) 306 = .ok (.aload_n 0, 1) := zd zm_8167 (by decide +kernel)
theorem d_8167_307 {σ : Nat → Nat} {n0 : Nat} {bf : ab_B} : decode (ab_code (zx σ n0 bf).1 8167) 307 = .ok (.bipush 117, 2) := zd zm_8167 (by decide +kernel)
theorem d_8167_309 {σ : Nat → Nat} {n0 : Nat} {bf : ab_B} : decode (ab_code (zx σ n0 bf).1 8167) 309 = .ok (.iload_n 1, 1) := zd zm_8167 (by decide +kernel)
theorem d_8167_310 {σ : Nat → Nat} {n0 : Nat} {bf : ab_B} : decode (ab_code (zx σ n0 bf).1 8167) 310 = .ok (.iconst 0, 1) := zd zm_8167 (by decide +kernel)
theorem d_8167_311 {σ : Nat → Nat} {n0 : Nat} {bf : ab_B} : decode (ab_code (zx σ n0 bf).1 8167) 311 = .ok (.iconst 0, 1) := zd zm_8167 (by decide +kernel)
theorem d_8167_312 {σ : Nat → Nat} {n0 : Nat} {bf : ab_B} : decode (ab_code (zx σ n0 bf).1 8167) 312 = .ok (.invokevirtual 649, 3) := zd zm_8167 (by decide +kernel)
theorem d_8167_315 {σ : Nat → Nat} {n0 : Nat} {bf : ab_B} : decode (ab_code (zx σ n0 bf).1 8167) 315 = .ok (.aload_n 0, 1) := zd zm_8167 (by decide +kernel)
theorem d_8167_316 {σ : Nat → Nat} {n0 : Nat} {bf : ab_B} : decode (ab_code (zx σ n0 bf).1 8167) 316 = .ok (.iconst 2, 1) := zd zm_8167 (by decide +kernel)
theorem d_8167_317 {σ : Nat → Nat} {n0 : Nat} {bf : ab_B} : decode (ab_code (zx σ n0 bf).1 8167) 317 = .ok (.iconst 0, 1) := zd zm_8167 (by decide +kernel)
theorem d_8167_318 {σ : Nat → Nat} {n0 : Nat} {bf : ab_B} : decode (ab_code (zx σ n0 bf).1 8167) 318 = .ok (.iconst 0, 1) := zd zm_8167 (by decide +kernel)
theorem d_8167_319 {σ : Nat → Nat} {n0 : Nat} {bf : ab_B} : decode (ab_code (zx σ n0 bf).1 8167) 319 = .ok (.iconst 0, 1) := zd zm_8167 (by decide +kernel)
theorem d_8167_320 {σ : Nat → Nat} {n0 : Nat} {bf : ab_B} : decode (ab_code (zx σ n0 bf).1 8167) 320 = .ok (.invokevirtual 649, 3) := zd zm_8167 (by decide +kernel)
theorem d_8167_323 {σ : Nat → Nat} {n0 : Nat} {bf : ab_B} : decode (ab_code (zx σ n0 bf).1 8167) 323 = .ok (.goto 27, 3) := zd zm_8167 (by decide +kernel)
theorem d_8167_326 {σ : Nat → Nat} {n0 : Nat} {bf : ab_B} : decode (ab_code (zx σ n0 bf).1 8167) 326 = .ok (.aload_n 0, 1) := zd zm_8167 (by decide +kernel)
theorem d_8167_327 {σ : Nat → Nat} {n0 : Nat} {bf : ab_B} : decode (ab_code (zx σ n0 bf).1 8167) 327 = .ok (.invokevirtual 538, 3) := zd zm_8167 (by decide +kernel)
theorem d_8167_330 {σ : Nat → Nat} {n0 : Nat} {bf : ab_B} : decode (ab_code (zx σ n0 bf).1 8167) 330 = .ok (.aload_n 0, 1) := zd zm_8167 (by decide +kernel)
theorem d_8167_331 {σ : Nat → Nat} {n0 : Nat} {bf : ab_B} : decode (ab_code (zx σ n0 bf).1 8167) 331 = .ok (.invokevirtual 706, 3) := zd zm_8167 (by decide +kernel)
theorem d_8167_334 {σ : Nat → Nat} {n0 : Nat} {bf : ab_B} : decode (ab_code (zx σ n0 bf).1 8167) 334 = .ok (.aload_n 0, 1) := zd zm_8167 (by decide +kernel)
theorem d_8167_335 {σ : Nat → Nat} {n0 : Nat} {bf : ab_B} : decode (ab_code (zx σ n0 bf).1 8167) 335 = .ok (.bipush 122, 2) := zd zm_8167 (by decide +kernel)
theorem d_8167_337 {σ : Nat → Nat} {n0 : Nat} {bf : ab_B} : decode (ab_code (zx σ n0 bf).1 8167) 337 = .ok (.iconst 1, 1) := zd zm_8167 (by decide +kernel)
theorem d_8167_338 {σ : Nat → Nat} {n0 : Nat} {bf : ab_B} : decode (ab_code (zx σ n0 bf).1 8167) 338 = .ok (.iconst 0, 1) := zd zm_8167 (by decide +kernel)
theorem d_8167_339 {σ : Nat → Nat} {n0 : Nat} {bf : ab_B} : decode (ab_code (zx σ n0 bf).1 8167) 339 = .ok (.iconst 0, 1) := zd zm_8167 (by decide +kernel)
theorem d_8167_340 {σ : Nat → Nat} {n0 : Nat} {bf : ab_B} : decode (ab_code (zx σ n0 bf).1 8167) 340 = .ok (.invokevirtual 649, 3) := zd zm_8167 (by decide +kernel)
theorem d_8167_343 {σ : Nat → Nat} {n0 : Nat} {bf : ab_B} : decode (ab_code (zx σ n0 bf).1 8167) 343 = .ok (.aload_n 0, 1) := zd zm_8167 (by decide +kernel)
theorem d_8167_344 {σ : Nat → Nat} {n0 : Nat} {bf : ab_B} : decode (ab_code (zx σ n0 bf).1 8167) 344 = .ok (.invokevirtual 968, 3) := zd zm_8167 (by decide +kernel)
theorem d_8167_347 {σ : Nat → Nat} {n0 : Nat} {bf : ab_B} : decode (ab_code (zx σ n0 bf).1 8167) 347 = .ok (.goto 3, 3) := zd zm_8167 (by decide +kernel)
theorem d_8167_350 {σ : Nat → Nat} {n0 : Nat} {bf : ab_B} : decode (ab_code (zx σ n0 bf).1 8167) 350 = .ok (.return_, 1) := zd zm_8167 (by decide +kernel)
def w_X9_statement_39 (X : zs_X) (d : Nat)  (S : zs_T) (Q : zs_Q) : Prop :=
  (Q (.returned none) S)
theorem u_X9_statement_39 {σ : Nat → Nat} {n0 : Nat} {bf : ab_B} {d : Nat}  {S : zs_T} {Q : zs_Q} (hB : zt_B bf) (h : w_X9_statement_39 (zx σ n0 bf) d  S Q) : zs_U (zx σ n0 bf) d 8167 39 [] [] S Q := by
  unfold w_X9_statement_39 at h
  exact zu_vret d_8167_39 zr_8167 h
def w_X9_statement_169 (X : zs_X) (d : Nat) (p0 : Nat) (S : zs_T) (Q : zs_Q) : Prop :=
  (zs_K S p0 = some (.inl 8) ∧ zs_C X d 8030 [.ref p0, .int (100 : Int32), .int (0 : Int32), .int (0 : Int32), .int (0 : Int32)] S (zs_kV (fun S2 => (Q (.returned none) S2)) Q))
theorem u_X9_statement_169 {σ : Nat → Nat} {n0 : Nat} {bf : ab_B} {d : Nat} {p0 : Nat} {S : zs_T} {Q : zs_Q} (hB : zt_B bf) (h : w_X9_statement_169 (zx σ n0 bf) d p0 S Q) : zs_U (zx σ n0 bf) d 8167 169 [(0, .ref p0)] [] S Q := by
  unfold w_X9_statement_169 at h
  refine zu_aload_n d_8167_169 rfl (zs_ra _) ?_
  refine zu_bipush d_8167_170 zj_100 ?_
  refine zu_iconst d_8167_172 zi_0 ?_
  refine zu_iconst d_8167_173 zi_0 ?_
  refine zu_iconst d_8167_174 zi_0 ?_
  obtain ⟨k1, h⟩ := h
  refine zc_8_649 (x0 := (100 : Int32)) (x1 := (0 : Int32)) (x2 := (0 : Int32)) (x3 := (0 : Int32)) hB rfl k1 d_8167_175 (Nat.le_of_ble_eq_true rfl) h (fun S2 h => ?_)
  refine zu_goto (t := 350) d_8167_178 rfl ?_
  exact zu_vret d_8167_350 zr_8167 h
def w_X9_statement_190 (X : zs_X) (d : Nat) (p0 : Nat) (S : zs_T) (Q : zs_Q) : Prop :=
  (zs_K S p0 = some (.inl 8) ∧ zs_C X d 8030 [.ref p0, .int (107 : Int32), .int (0 : Int32), .int (0 : Int32), .int (0 : Int32)] S (zs_kV (fun S2 => (zs_K S2 p0 = some (.inl 8) ∧ zs_C X d 8030 [.ref p0, .int (2 : Int32), .int (0 : Int32), .int (0 : Int32), .int (0 : Int32)] S2 (zs_kV (fun S5 => (Q (.returned none) S5)) Q))) Q))
theorem u_X9_statement_190 {σ : Nat → Nat} {n0 : Nat} {bf : ab_B} {d : Nat} {p0 : Nat} {S : zs_T} {Q : zs_Q} (hB : zt_B bf) (h : w_X9_statement_190 (zx σ n0 bf) d p0 S Q) : zs_U (zx σ n0 bf) d 8167 190 [(0, .ref p0)] [] S Q := by
  unfold w_X9_statement_190 at h
  refine zu_aload_n d_8167_190 rfl (zs_ra _) ?_
  refine zu_bipush d_8167_191 zj_107 ?_
  refine zu_iconst d_8167_193 zi_0 ?_
  refine zu_iconst d_8167_194 zi_0 ?_
  refine zu_iconst d_8167_195 zi_0 ?_
  obtain ⟨k1, h⟩ := h
  refine zc_8_649 (x0 := (107 : Int32)) (x1 := (0 : Int32)) (x2 := (0 : Int32)) (x3 := (0 : Int32)) hB rfl k1 d_8167_196 (Nat.le_of_ble_eq_true rfl) h (fun S2 h => ?_)
  refine zu_aload_n d_8167_199 rfl (zs_ra _) ?_
  refine zu_iconst d_8167_200 zi_2 ?_
  refine zu_iconst d_8167_201 zi_0 ?_
  refine zu_iconst d_8167_202 zi_0 ?_
  refine zu_iconst d_8167_203 zi_0 ?_
  obtain ⟨k4, h⟩ := h
  refine zc_8_649 (x0 := (2 : Int32)) (x1 := (0 : Int32)) (x2 := (0 : Int32)) (x3 := (0 : Int32)) hB rfl k4 d_8167_204 (Nat.le_of_ble_eq_true rfl) h (fun S5 h => ?_)
  refine zu_goto (t := 350) d_8167_207 rfl ?_
  exact zu_vret d_8167_350 zr_8167 h
def w_X9_statement_219 (X : zs_X) (d : Nat) (p0 : Nat) (p1 : Int32) (S : zs_T) (Q : zs_Q) : Prop :=
  (zs_K S p0 = some (.inl 8) ∧ zs_C X d 8030 [.ref p0, .int (110 : Int32), .int (zs_I S 8040 p0), .int p1, .int (0 : Int32)] S (zs_kV (fun S2 => (zs_K S2 p0 = some (.inl 8) ∧ zs_C X d 8030 [.ref p0, .int (2 : Int32), .int (0 : Int32), .int (0 : Int32), .int (0 : Int32)] S2 (zs_kV (fun S5 => (Q (.returned none) S5)) Q))) Q))
theorem u_X9_statement_219 {σ : Nat → Nat} {n0 : Nat} {bf : ab_B} {d : Nat} {p0 : Nat} {p1 : Int32} {S : zs_T} {Q : zs_Q} (hB : zt_B bf) (h : w_X9_statement_219 (zx σ n0 bf) d p0 p1 S Q) : zs_U (zx σ n0 bf) d 8167 219 [(0, .ref p0), (1, .int p1)] [] S Q := by
  unfold w_X9_statement_219 at h
  refine zu_aload_n d_8167_219 rfl (zs_ra _) ?_
  refine zu_bipush d_8167_220 zj_110 ?_
  refine zu_aload_n d_8167_222 rfl (zs_ra _) ?_
  obtain ⟨k1, h⟩ := h
  refine zg_8_556 rfl d_8167_223 k1 ?_
  refine zu_iload_n d_8167_226 rfl ?_
  refine zu_iconst d_8167_227 zi_0 ?_
  refine zc_8_649 (x0 := (110 : Int32)) (x1 := (zs_I S 8040 p0)) (x2 := p1) (x3 := (0 : Int32)) hB rfl k1 d_8167_228 (Nat.le_of_ble_eq_true rfl) h (fun S2 h => ?_)
  refine zu_aload_n d_8167_231 rfl (zs_ra _) ?_
  refine zu_iconst d_8167_232 zi_2 ?_
  refine zu_iconst d_8167_233 zi_0 ?_
  refine zu_iconst d_8167_234 zi_0 ?_
  refine zu_iconst d_8167_235 zi_0 ?_
  obtain ⟨k4, h⟩ := h
  refine zc_8_649 (x0 := (2 : Int32)) (x1 := (0 : Int32)) (x2 := (0 : Int32)) (x3 := (0 : Int32)) hB rfl k4 d_8167_236 (Nat.le_of_ble_eq_true rfl) h (fun S5 h => ?_)
  refine zu_goto (t := 350) d_8167_239 rfl ?_
  exact zu_vret d_8167_350 zr_8167 h
def w_X9_statement_259 (X : zs_X) (d : Nat) (p0 : Nat) (p1 : Int32) (S : zs_T) (Q : zs_Q) : Prop :=
  (zs_K S p0 = some (.inl 8) ∧ zs_C X d 8168 [.ref p0, .int p1] S (zs_kV (fun S2 => (zs_K S2 p0 = some (.inl 8) ∧ zs_C X d 8014 [.ref p0] S2 (zs_kV (fun S5 => (zs_K S5 p0 = some (.inl 8) ∧ zs_C X d 8030 [.ref p0, .int (100 : Int32), .int (0 : Int32), .int (0 : Int32), .int (0 : Int32)] S5 (zs_kV (fun S8 => (Q (.returned none) S8)) Q))) Q))) Q))
theorem u_X9_statement_259 {σ : Nat → Nat} {n0 : Nat} {bf : ab_B} {d : Nat} {p0 : Nat} {p1 : Int32} {S : zs_T} {Q : zs_Q} (hB : zt_B bf) (h : w_X9_statement_259 (zx σ n0 bf) d p0 p1 S Q) : zs_U (zx σ n0 bf) d 8167 259 [(0, .ref p0), (1, .int p1)] [] S Q := by
  unfold w_X9_statement_259 at h
  refine zu_aload_n d_8167_259 rfl (zs_ra _) ?_
  refine zu_iload_n d_8167_260 rfl ?_
  obtain ⟨k1, h⟩ := h
  refine zc_8_959 (x0 := p1) hB rfl k1 d_8167_261 (Nat.le_of_ble_eq_true rfl) h (fun S2 h => ?_)
  refine zu_aload_n d_8167_264 rfl (zs_ra _) ?_
  obtain ⟨k4, h⟩ := h
  refine zc_8_538  hB rfl k4 d_8167_265 (Nat.le_of_ble_eq_true rfl) h (fun S5 h => ?_)
  refine zu_aload_n d_8167_268 rfl (zs_ra _) ?_
  refine zu_bipush d_8167_269 zj_100 ?_
  refine zu_iconst d_8167_271 zi_0 ?_
  refine zu_iconst d_8167_272 zi_0 ?_
  refine zu_iconst d_8167_273 zi_0 ?_
  obtain ⟨k7, h⟩ := h
  refine zc_8_649 (x0 := (100 : Int32)) (x1 := (0 : Int32)) (x2 := (0 : Int32)) (x3 := (0 : Int32)) hB rfl k7 d_8167_274 (Nat.le_of_ble_eq_true rfl) h (fun S8 h => ?_)
  refine zu_goto (t := 350) d_8167_277 rfl ?_
  exact zu_vret d_8167_350 zr_8167 h
def w_X9_statement_289 (X : zs_X) (d : Nat) (p0 : Nat) (p1 : Int32) (S : zs_T) (Q : zs_Q) : Prop :=
  (zs_K S p0 = some (.inl 8) ∧ zs_C X d 8172 [.ref p0, .int p1] S (zs_kV (fun S2 => (Q (.returned none) S2)) Q))
theorem u_X9_statement_289 {σ : Nat → Nat} {n0 : Nat} {bf : ab_B} {d : Nat} {p0 : Nat} {p1 : Int32} {S : zs_T} {Q : zs_Q} (hB : zt_B bf) (h : w_X9_statement_289 (zx σ n0 bf) d p0 p1 S Q) : zs_U (zx σ n0 bf) d 8167 289 [(0, .ref p0), (1, .int p1)] [] S Q := by
  unfold w_X9_statement_289 at h
  refine zu_aload_n d_8167_289 rfl (zs_ra _) ?_
  refine zu_iload_n d_8167_290 rfl ?_
  obtain ⟨k1, h⟩ := h
  refine zc_8_965 (x0 := p1) hB rfl k1 d_8167_291 (Nat.le_of_ble_eq_true rfl) h (fun S2 h => ?_)
  refine zu_goto (t := 350) d_8167_294 rfl ?_
  exact zu_vret d_8167_350 zr_8167 h
def w_X9_statement_306 (X : zs_X) (d : Nat) (p0 : Nat) (p1 : Int32) (S : zs_T) (Q : zs_Q) : Prop :=
  (zs_K S p0 = some (.inl 8) ∧ zs_C X d 8030 [.ref p0, .int (117 : Int32), .int p1, .int (0 : Int32), .int (0 : Int32)] S (zs_kV (fun S2 => (zs_K S2 p0 = some (.inl 8) ∧ zs_C X d 8030 [.ref p0, .int (2 : Int32), .int (0 : Int32), .int (0 : Int32), .int (0 : Int32)] S2 (zs_kV (fun S5 => (Q (.returned none) S5)) Q))) Q))
theorem u_X9_statement_306 {σ : Nat → Nat} {n0 : Nat} {bf : ab_B} {d : Nat} {p0 : Nat} {p1 : Int32} {S : zs_T} {Q : zs_Q} (hB : zt_B bf) (h : w_X9_statement_306 (zx σ n0 bf) d p0 p1 S Q) : zs_U (zx σ n0 bf) d 8167 306 [(0, .ref p0), (1, .int p1)] [] S Q := by
  unfold w_X9_statement_306 at h
  refine zu_aload_n d_8167_306 rfl (zs_ra _) ?_
  refine zu_bipush d_8167_307 zj_117 ?_
  refine zu_iload_n d_8167_309 rfl ?_
  refine zu_iconst d_8167_310 zi_0 ?_
  refine zu_iconst d_8167_311 zi_0 ?_
  obtain ⟨k1, h⟩ := h
  refine zc_8_649 (x0 := (117 : Int32)) (x1 := p1) (x2 := (0 : Int32)) (x3 := (0 : Int32)) hB rfl k1 d_8167_312 (Nat.le_of_ble_eq_true rfl) h (fun S2 h => ?_)
  refine zu_aload_n d_8167_315 rfl (zs_ra _) ?_
  refine zu_iconst d_8167_316 zi_2 ?_
  refine zu_iconst d_8167_317 zi_0 ?_
  refine zu_iconst d_8167_318 zi_0 ?_
  refine zu_iconst d_8167_319 zi_0 ?_
  obtain ⟨k4, h⟩ := h
  refine zc_8_649 (x0 := (2 : Int32)) (x1 := (0 : Int32)) (x2 := (0 : Int32)) (x3 := (0 : Int32)) hB rfl k4 d_8167_320 (Nat.le_of_ble_eq_true rfl) h (fun S5 h => ?_)
  refine zu_goto (t := 350) d_8167_323 rfl ?_
  exact zu_vret d_8167_350 zr_8167 h
def w_X9_statement_343 (X : zs_X) (d : Nat) (p0 : Nat) (S : zs_T) (Q : zs_Q) : Prop :=
  (zs_K S p0 = some (.inl 8) ∧ zs_C X d 8171 [.ref p0] S (zs_kV (fun S2 => (Q (.returned none) S2)) Q))
theorem u_X9_statement_343 {σ : Nat → Nat} {n0 : Nat} {bf : ab_B} {d : Nat} {p0 : Nat} {S : zs_T} {Q : zs_Q} (hB : zt_B bf) (h : w_X9_statement_343 (zx σ n0 bf) d p0 S Q) : zs_U (zx σ n0 bf) d 8167 343 [(0, .ref p0)] [] S Q := by
  unfold w_X9_statement_343 at h
  refine zu_aload_n d_8167_343 rfl (zs_ra _) ?_
  obtain ⟨k1, h⟩ := h
  refine zc_8_968  hB rfl k1 d_8167_344 (Nat.le_of_ble_eq_true rfl) h (fun S2 h => ?_)
  refine zu_goto (t := 350) d_8167_347 rfl ?_
  exact zu_vret d_8167_350 zr_8167 h
def w_X9_statement_40 (X : zs_X) (d : Nat) (p0 : Nat) (p1 : Int32) (S : zs_T) (Q : zs_Q) : Prop :=
  (zs_K S p0 = some (.inl 8) ∧ ((¬ (zs_I S 8006 p0) = (1 : Int32) → ((((zs_I S 8006 p0) = (2 : Int32) → ((((zs_I S 8009 p0).toInt < 8 ∨ 23 < (zs_I S 8009 p0).toInt → (Q (.returned none) S)) ∧ ((zs_I S 8009 p0).toInt = 8 → (zs_C X d 8014 [.ref p0] S (zs_kV (fun S5 => (zs_K S5 p0 = some (.inl 8) ∧ zs_C X d 8030 [.ref p0, .int (106 : Int32), .int (0 : Int32), .int (0 : Int32), .int (0 : Int32)] S5 (zs_kV (fun S8 => w_X9_statement_169 X d p0 S8 Q) Q))) Q))) ∧ ((zs_I S 8009 p0).toInt = 9 → (Q (.returned none) S)) ∧ ((zs_I S 8009 p0).toInt = 10 → (zs_C X d 8168 [.ref p0, .int p1] S (zs_kV (fun S10 => (zs_K S10 p0 = some (.inl 8) ∧ zs_C X d 8014 [.ref p0] S10 (zs_kV (fun S13 => w_X9_statement_190 X d p0 S13 Q) Q))) Q))) ∧ ((zs_I S 8009 p0).toInt = 11 → (Q (.returned none) S)) ∧ ((zs_I S 8009 p0).toInt = 12 → (Q (.returned none) S)) ∧ ((zs_I S 8009 p0).toInt = 13 → (zs_C X d 8168 [.ref p0, .int p1] S (zs_kV (fun S15 => (zs_K S15 p0 = some (.inl 8) ∧ zs_C X d 8014 [.ref p0] S15 (zs_kV (fun S18 => w_X9_statement_219 X d p0 p1 S18 Q) Q))) Q))) ∧ ((zs_I S 8009 p0).toInt = 14 → (Q (.returned none) S)) ∧ ((zs_I S 8009 p0).toInt = 15 → (zs_C X d 8168 [.ref p0, .int p1] S (zs_kV (fun S20 => (zs_K S20 p0 = some (.inl 8) ∧ zs_C X d 8030 [.ref p0, .int (112 : Int32), .int (zs_I S20 8040 p0), .int (0 : Int32), .int (0 : Int32)] S20 (zs_kV (fun S23 => w_X9_statement_259 X d p0 p1 S23 Q) Q))) Q))) ∧ ((zs_I S 8009 p0).toInt = 16 → (Q (.returned none) S)) ∧ ((zs_I S 8009 p0).toInt = 17 → (zs_C X d 8168 [.ref p0, .int p1] S (zs_kV (fun S25 => (zs_K S25 p0 = some (.inl 8) ∧ zs_C X d 8014 [.ref p0] S25 (zs_kV (fun S28 => w_X9_statement_289 X d p0 p1 S28 Q) Q))) Q))) ∧ ((zs_I S 8009 p0).toInt = 18 → (Q (.returned none) S)) ∧ ((zs_I S 8009 p0).toInt = 19 → (Q (.returned none) S)) ∧ ((zs_I S 8009 p0).toInt = 20 → (zs_C X d 8168 [.ref p0, .int p1] S (zs_kV (fun S30 => (zs_K S30 p0 = some (.inl 8) ∧ zs_C X d 8014 [.ref p0] S30 (zs_kV (fun S33 => w_X9_statement_306 X d p0 p1 S33 Q) Q))) Q))) ∧ ((zs_I S 8009 p0).toInt = 21 → (Q (.returned none) S)) ∧ ((zs_I S 8009 p0).toInt = 22 → (Q (.returned none) S)) ∧ ((zs_I S 8009 p0).toInt = 23 → (zs_C X d 8014 [.ref p0] S (zs_kV (fun S35 => (zs_K S35 p0 = some (.inl 8) ∧ zs_C X d 8060 [.ref p0] S35 (zs_kV (fun S38 => (zs_K S38 p0 = some (.inl 8) ∧ zs_C X d 8030 [.ref p0, .int (122 : Int32), .int (1 : Int32), .int (0 : Int32), .int (0 : Int32)] S38 (zs_kV (fun S41 => w_X9_statement_343 X d p0 S41 Q) Q))) Q))) Q)))))) ∧ (¬ ((zs_I S 8006 p0) = (2 : Int32)) → (zs_C X d 8027 [.ref p0, .int (2 : Int32)] S (zs_kV (fun S43 => (Q (.returned none) S43)) Q)))))) ∧ (¬ (¬ (zs_I S 8006 p0) = (1 : Int32)) → (zs_C X d 8168 [.ref p0, .int p1] S (zs_kV (fun S45 => (zs_K S45 p0 = some (.inl 8) ∧ zs_C X d 8169 [.ref p0, .int p1] S45 (zs_kV (fun S48 => (Q (.returned none) S48)) Q))) Q)))))
theorem u_X9_statement_40 {σ : Nat → Nat} {n0 : Nat} {bf : ab_B} {d : Nat} {p0 : Nat} {p1 : Int32} {S : zs_T} {Q : zs_Q} (hB : zt_B bf) (h : w_X9_statement_40 (zx σ n0 bf) d p0 p1 S Q) : zs_U (zx σ n0 bf) d 8167 40 [(0, .ref p0), (1, .int p1)] [] S Q := by
  unfold w_X9_statement_40 at h
  refine zu_aload_n d_8167_40 rfl (zs_ra _) ?_
  obtain ⟨k1, h⟩ := h
  refine zg_8_484 rfl d_8167_41 k1 ?_
  refine zu_iconst d_8167_44 zi_1 ?_
  refine zu_cmpne (t := 59) d_8167_45 rfl (fun c2 => ?_) (fun c2 => ?_)
  · have h := h.1 c2
    refine zu_aload_n d_8167_59 rfl (zs_ra _) ?_
    refine zg_8_484 rfl d_8167_60 k1 ?_
    refine zu_iconst d_8167_63 zi_2 ?_
    refine zu_cmpeq (t := 73) d_8167_64 rfl (fun c3 => ?_) (fun c3 => ?_)
    · have h := h.1 c3
      refine zu_aload_n d_8167_73 rfl (zs_ra _) ?_
      refine zg_8_494 rfl d_8167_74 k1 ?_
      refine zu_tsw (td := 350) d_8167_77 (by decide) rfl (fun c4 => ?_) ⟨fun c4 => ⟨by decide, ?_⟩, fun c4 => ⟨by decide, ?_⟩, fun c4 => ⟨by decide, ?_⟩, fun c4 => ⟨by decide, ?_⟩, fun c4 => ⟨by decide, ?_⟩, fun c4 => ⟨by decide, ?_⟩, fun c4 => ⟨by decide, ?_⟩, fun c4 => ⟨by decide, ?_⟩, fun c4 => ⟨by decide, ?_⟩, fun c4 => ⟨by decide, ?_⟩, fun c4 => ⟨by decide, ?_⟩, fun c4 => ⟨by decide, ?_⟩, fun c4 => ⟨by decide, ?_⟩, fun c4 => ⟨by decide, ?_⟩, fun c4 => ⟨by decide, ?_⟩, fun c4 => ⟨by decide, ?_⟩, trivial⟩
      · have h := h.1 c4
        exact zu_vret d_8167_350 zr_8167 h
      · have h := h.2.1 c4
        show zs_U _ _ _ 156 _ _ _ _
        refine zu_aload_n d_8167_156 rfl (zs_ra _) ?_
        refine zc_8_538  hB rfl k1 d_8167_157 (Nat.le_of_ble_eq_true rfl) h (fun S5 h => ?_)
        refine zu_aload_n d_8167_160 rfl (zs_ra _) ?_
        refine zu_bipush d_8167_161 zj_106 ?_
        refine zu_iconst d_8167_163 zi_0 ?_
        refine zu_iconst d_8167_164 zi_0 ?_
        refine zu_iconst d_8167_165 zi_0 ?_
        obtain ⟨k7, h⟩ := h
        refine zc_8_649 (x0 := (106 : Int32)) (x1 := (0 : Int32)) (x2 := (0 : Int32)) (x3 := (0 : Int32)) hB rfl k7 d_8167_166 (Nat.le_of_ble_eq_true rfl) h (fun S8 h => ?_)
        exact (u_X9_statement_169 hB h).weak ⟨rfl, trivial⟩
      · have h := h.2.2.1 c4
        show zs_U _ _ _ 350 _ _ _ _
        exact zu_vret d_8167_350 zr_8167 h
      · have h := h.2.2.2.1 c4
        show zs_U _ _ _ 181 _ _ _ _
        refine zu_aload_n d_8167_181 rfl (zs_ra _) ?_
        refine zu_iload_n d_8167_182 rfl ?_
        refine zc_8_959 (x0 := p1) hB rfl k1 d_8167_183 (Nat.le_of_ble_eq_true rfl) h (fun S10 h => ?_)
        refine zu_aload_n d_8167_186 rfl (zs_ra _) ?_
        obtain ⟨k12, h⟩ := h
        refine zc_8_538  hB rfl k12 d_8167_187 (Nat.le_of_ble_eq_true rfl) h (fun S13 h => ?_)
        exact (u_X9_statement_190 hB h).weak ⟨rfl, trivial⟩
      · have h := h.2.2.2.2.1 c4
        show zs_U _ _ _ 350 _ _ _ _
        exact zu_vret d_8167_350 zr_8167 h
      · have h := h.2.2.2.2.2.1 c4
        show zs_U _ _ _ 350 _ _ _ _
        exact zu_vret d_8167_350 zr_8167 h
      · have h := h.2.2.2.2.2.2.1 c4
        show zs_U _ _ _ 210 _ _ _ _
        refine zu_aload_n d_8167_210 rfl (zs_ra _) ?_
        refine zu_iload_n d_8167_211 rfl ?_
        refine zc_8_959 (x0 := p1) hB rfl k1 d_8167_212 (Nat.le_of_ble_eq_true rfl) h (fun S15 h => ?_)
        refine zu_aload_n d_8167_215 rfl (zs_ra _) ?_
        obtain ⟨k17, h⟩ := h
        refine zc_8_538  hB rfl k17 d_8167_216 (Nat.le_of_ble_eq_true rfl) h (fun S18 h => ?_)
        exact (u_X9_statement_219 hB h).weak ⟨rfl, rfl, trivial⟩
      · have h := h.2.2.2.2.2.2.2.1 c4
        show zs_U _ _ _ 350 _ _ _ _
        exact zu_vret d_8167_350 zr_8167 h
      · have h := h.2.2.2.2.2.2.2.2.1 c4
        show zs_U _ _ _ 242 _ _ _ _
        refine zu_aload_n d_8167_242 rfl (zs_ra _) ?_
        refine zu_iload_n d_8167_243 rfl ?_
        refine zc_8_959 (x0 := p1) hB rfl k1 d_8167_244 (Nat.le_of_ble_eq_true rfl) h (fun S20 h => ?_)
        refine zu_aload_n d_8167_247 rfl (zs_ra _) ?_
        refine zu_bipush d_8167_248 zj_112 ?_
        refine zu_aload_n d_8167_250 rfl (zs_ra _) ?_
        obtain ⟨k22, h⟩ := h
        refine zg_8_556 rfl d_8167_251 k22 ?_
        refine zu_iconst d_8167_254 zi_0 ?_
        refine zu_iconst d_8167_255 zi_0 ?_
        refine zc_8_649 (x0 := (112 : Int32)) (x1 := (zs_I S20 8040 p0)) (x2 := (0 : Int32)) (x3 := (0 : Int32)) hB rfl k22 d_8167_256 (Nat.le_of_ble_eq_true rfl) h (fun S23 h => ?_)
        exact (u_X9_statement_259 hB h).weak ⟨rfl, rfl, trivial⟩
      · have h := h.2.2.2.2.2.2.2.2.2.1 c4
        show zs_U _ _ _ 350 _ _ _ _
        exact zu_vret d_8167_350 zr_8167 h
      · have h := h.2.2.2.2.2.2.2.2.2.2.1 c4
        show zs_U _ _ _ 280 _ _ _ _
        refine zu_aload_n d_8167_280 rfl (zs_ra _) ?_
        refine zu_iload_n d_8167_281 rfl ?_
        refine zc_8_959 (x0 := p1) hB rfl k1 d_8167_282 (Nat.le_of_ble_eq_true rfl) h (fun S25 h => ?_)
        refine zu_aload_n d_8167_285 rfl (zs_ra _) ?_
        obtain ⟨k27, h⟩ := h
        refine zc_8_538  hB rfl k27 d_8167_286 (Nat.le_of_ble_eq_true rfl) h (fun S28 h => ?_)
        exact (u_X9_statement_289 hB h).weak ⟨rfl, rfl, trivial⟩
      · have h := h.2.2.2.2.2.2.2.2.2.2.2.1 c4
        show zs_U _ _ _ 350 _ _ _ _
        exact zu_vret d_8167_350 zr_8167 h
      · have h := h.2.2.2.2.2.2.2.2.2.2.2.2.1 c4
        show zs_U _ _ _ 350 _ _ _ _
        exact zu_vret d_8167_350 zr_8167 h
      · have h := h.2.2.2.2.2.2.2.2.2.2.2.2.2.1 c4
        show zs_U _ _ _ 297 _ _ _ _
        refine zu_aload_n d_8167_297 rfl (zs_ra _) ?_
        refine zu_iload_n d_8167_298 rfl ?_
        refine zc_8_959 (x0 := p1) hB rfl k1 d_8167_299 (Nat.le_of_ble_eq_true rfl) h (fun S30 h => ?_)
        refine zu_aload_n d_8167_302 rfl (zs_ra _) ?_
        obtain ⟨k32, h⟩ := h
        refine zc_8_538  hB rfl k32 d_8167_303 (Nat.le_of_ble_eq_true rfl) h (fun S33 h => ?_)
        exact (u_X9_statement_306 hB h).weak ⟨rfl, rfl, trivial⟩
      · have h := h.2.2.2.2.2.2.2.2.2.2.2.2.2.2.1 c4
        show zs_U _ _ _ 350 _ _ _ _
        exact zu_vret d_8167_350 zr_8167 h
      · have h := h.2.2.2.2.2.2.2.2.2.2.2.2.2.2.2.1 c4
        show zs_U _ _ _ 350 _ _ _ _
        exact zu_vret d_8167_350 zr_8167 h
      · have h := h.2.2.2.2.2.2.2.2.2.2.2.2.2.2.2.2 c4
        show zs_U _ _ _ 326 _ _ _ _
        refine zu_aload_n d_8167_326 rfl (zs_ra _) ?_
        refine zc_8_538  hB rfl k1 d_8167_327 (Nat.le_of_ble_eq_true rfl) h (fun S35 h => ?_)
        refine zu_aload_n d_8167_330 rfl (zs_ra _) ?_
        obtain ⟨k37, h⟩ := h
        refine zc_8_706  hB rfl k37 d_8167_331 (Nat.le_of_ble_eq_true rfl) h (fun S38 h => ?_)
        refine zu_aload_n d_8167_334 rfl (zs_ra _) ?_
        refine zu_bipush d_8167_335 zj_122 ?_
        refine zu_iconst d_8167_337 zi_1 ?_
        refine zu_iconst d_8167_338 zi_0 ?_
        refine zu_iconst d_8167_339 zi_0 ?_
        obtain ⟨k40, h⟩ := h
        refine zc_8_649 (x0 := (122 : Int32)) (x1 := (1 : Int32)) (x2 := (0 : Int32)) (x3 := (0 : Int32)) hB rfl k40 d_8167_340 (Nat.le_of_ble_eq_true rfl) h (fun S41 h => ?_)
        exact (u_X9_statement_343 hB h).weak ⟨rfl, trivial⟩
    · have h := h.2 c3
      refine zu_aload_n d_8167_67 rfl (zs_ra _) ?_
      refine zu_iconst d_8167_68 zi_2 ?_
      refine zc_8_541 (x0 := (2 : Int32)) hB rfl k1 d_8167_69 (Nat.le_of_ble_eq_true rfl) h (fun S43 h => ?_)
      exact zu_vret d_8167_72 zr_8167 h
  · have h := h.2 c2
    refine zu_aload_n d_8167_48 rfl (zs_ra _) ?_
    refine zu_iload_n d_8167_49 rfl ?_
    refine zc_8_959 (x0 := p1) hB rfl k1 d_8167_50 (Nat.le_of_ble_eq_true rfl) h (fun S45 h => ?_)
    refine zu_aload_n d_8167_53 rfl (zs_ra _) ?_
    refine zu_iload_n d_8167_54 rfl ?_
    obtain ⟨k47, h⟩ := h
    refine zc_8_962 (x0 := p1) hB rfl k47 d_8167_55 (Nat.le_of_ble_eq_true rfl) h (fun S48 h => ?_)
    exact zu_vret d_8167_58 zr_8167 h
def w_X9_statement (X : zs_X) (d : Nat) (p0 : Nat) (S : zs_T) (Q : zs_Q) : Prop :=
  (zs_K S p0 = some (.inl 8) ∧ (((zs_I S 8010 p0) ≤ 0 → (zs_C X d 8060 [.ref p0] S (zs_kV (fun S3 => (zs_K S3 p0 = some (.inl 8) ∧ ((0 < (zs_I S3 8010 p0) → w_X9_statement_39 X d  S3 Q) ∧ (¬ (0 < (zs_I S3 8010 p0)) → ((((zs_I S3 8006 p0) = (5 : Int32) → w_X9_statement_39 X d  S3 Q) ∧ (¬ ((zs_I S3 8006 p0) = (5 : Int32)) → (((¬ (zs_I S3 8006 p0) = 0 → w_X9_statement_40 X d p0 (zs_I S3 8007 p0) S3 Q) ∧ (¬ (¬ (zs_I S3 8006 p0) = 0) → w_X9_statement_39 X d  S3 Q)))))))))) Q))) ∧ (¬ ((zs_I S 8010 p0) ≤ 0) → (Q (.returned none) S))))
theorem u_X9_statement {σ : Nat → Nat} {n0 : Nat} {bf : ab_B} {d : Nat} {p0 : Nat} {S : zs_T} {Q : zs_Q} (hB : zt_B bf) (hd : 1 ≤ d) (h : w_X9_statement (zx σ n0 bf) (d - 1) p0 S Q) : zs_C (zx σ n0 bf) d 8167 [.ref p0] S Q := by
  have hL : lv_args 0 [.ref p0] = [(0, .ref p0)] := rfl
  refine zs_C.of1 (hB.2 8167 (by decide) (by decide)) hd (by rw [hL]; exact zs_sub_self _ (by exact ⟨rfl, trivial⟩)) ?_
  rw [hL]
  clear hL
  unfold w_X9_statement at h
  refine zu_aload_n d_8167_0 rfl (zs_ra _) ?_
  obtain ⟨k1, h⟩ := h
  refine zg_8_444 rfl d_8167_1 k1 ?_
  refine zu_ifle (t := 8) d_8167_4 rfl (fun c2 => ?_) (fun c2 => ?_)
  · have h := h.1 c2
    refine zu_aload_n d_8167_8 rfl (zs_ra _) ?_
    refine zc_8_706  hB rfl k1 d_8167_9 (Nat.le_of_ble_eq_true rfl) h (fun S3 h => ?_)
    refine zu_aload_n d_8167_12 rfl (zs_ra _) ?_
    obtain ⟨k5, h⟩ := h
    refine zg_8_450 rfl d_8167_13 k5 ?_
    refine zu_istore_n d_8167_16 (zs_lt zq_8167 rfl) ?_
    refine zu_aload_n d_8167_17 rfl (zs_ra _) ?_
    refine zg_8_444 rfl d_8167_18 k5 ?_
    refine zu_ifgt (t := 39) d_8167_21 rfl (fun c6 => ?_) (fun c6 => ?_)
    · have h := h.1 c6
      exact (u_X9_statement_39 hB h).weak trivial
    · have h := h.2 c6
      refine zu_aload_n d_8167_24 rfl (zs_ra _) ?_
      refine zg_8_484 rfl d_8167_25 k5 ?_
      refine zu_iconst d_8167_28 zi_5 ?_
      refine zu_cmpeq (t := 39) d_8167_29 rfl (fun c7 => ?_) (fun c7 => ?_)
      · have h := h.1 c7
        exact (u_X9_statement_39 hB h).weak trivial
      · have h := h.2 c7
        refine zu_aload_n d_8167_32 rfl (zs_ra _) ?_
        refine zg_8_484 rfl d_8167_33 k5 ?_
        refine zu_ifne (t := 40) d_8167_36 rfl (fun c8 => ?_) (fun c8 => ?_)
        · have h := h.1 c8
          exact (u_X9_statement_40 hB h).weak ⟨rfl, rfl, trivial⟩
        · have h := h.2 c8
          exact (u_X9_statement_39 hB h).weak trivial
  · have h := h.2 c2
    exact zu_vret d_8167_7 zr_8167 h
/-! SchemaPascalModel.stepHere(I)V -/
theorem zm_8168 {σ : Nat → Nat} {n0 : Nat} {bf : ab_B} : ab_code (zx σ n0 bf).1 8168 = prog_17_method_162_code := rfl
theorem zq_8168 {σ : Nat → Nat} {n0 : Nat} {bf : ab_B} : ab_maxL (zx σ n0 bf).1 8168 = 3 := rfl
theorem zr_8168 {σ : Nat → Nat} {n0 : Nat} {bf : ab_B} : ab_ret (zx σ n0 bf).1 8168 = (Option.none : Option Jvm.ClassFile.FieldType) := rfl
theorem d_8168_0 {σ : Nat → Nat} {n0 : Nat} {bf : ab_B} : decode (ab_code (zx σ n0 bf).1 8168) 0 = .ok (.aload_n 0, 1) := zd zm_8168 (by decide +kernel)
theorem d_8168_1 {σ : Nat → Nat} {n0 : Nat} {bf : ab_B} : decode (ab_code (zx σ n0 bf).1 8168) 1 = .ok (.bipush 82, 2) := zd zm_8168 (by decide +kernel)
theorem d_8168_3 {σ : Nat → Nat} {n0 : Nat} {bf : ab_B} : decode (ab_code (zx σ n0 bf).1 8168) 3 = .ok (.iconst 0, 1) := zd zm_8168 (by decide +kernel)
theorem d_8168_4 {σ : Nat → Nat} {n0 : Nat} {bf : ab_B} : decode (ab_code (zx σ n0 bf).1 8168) 4 = .ok (.iconst 0, 1) := zd zm_8168 (by decide +kernel)
theorem d_8168_5 {σ : Nat → Nat} {n0 : Nat} {bf : ab_B} : decode (ab_code (zx σ n0 bf).1 8168) 5 = .ok (.iload_n 1, 1) := zd zm_8168 (by decide +kernel)
theorem d_8168_6 {σ : Nat → Nat} {n0 : Nat} {bf : ab_B} : decode (ab_code (zx σ n0 bf).1 8168) 6 = .ok (.invokevirtual 656, 3) := zd zm_8168 (by decide +kernel)
theorem d_8168_9 {σ : Nat → Nat} {n0 : Nat} {bf : ab_B} : decode (ab_code (zx σ n0 bf).1 8168) 9 = .ok (.istore_n 2, 1) := zd zm_8168 (by decide +kernel)
theorem d_8168_10 {σ : Nat → Nat} {n0 : Nat} {bf : ab_B} : decode (ab_code (zx σ n0 bf).1 8168) 10 = .ok (.return_, 1) := zd zm_8168 (by decide +kernel)
def w_X9_stepHere (X : zs_X) (d : Nat) (p0 : Nat) (p1 : Int32) (S : zs_T) (Q : zs_Q) : Prop :=
  (zs_K S p0 = some (.inl 8) ∧ zs_C X d 8012 [.ref p0, .int (82 : Int32), .int (0 : Int32), .int (0 : Int32), .int p1] S (zs_kI (fun v3 S2 => (Q (.returned none) S2)) Q))
theorem u_X9_stepHere {σ : Nat → Nat} {n0 : Nat} {bf : ab_B} {d : Nat} {p0 : Nat} {p1 : Int32} {S : zs_T} {Q : zs_Q} (hB : zt_B bf) (hd : 1 ≤ d) (h : w_X9_stepHere (zx σ n0 bf) (d - 1) p0 p1 S Q) : zs_C (zx σ n0 bf) d 8168 [.ref p0, .int p1] S Q := by
  have hL : lv_args 0 [.ref p0, .int p1] = [(0, .ref p0), (1, .int p1)] := rfl
  refine zs_C.of1 (hB.2 8168 (by decide) (by decide)) hd (by rw [hL]; exact zs_sub_self _ (by exact ⟨rfl, rfl, trivial⟩)) ?_
  rw [hL]
  clear hL
  unfold w_X9_stepHere at h
  refine zu_aload_n d_8168_0 rfl (zs_ra _) ?_
  refine zu_bipush d_8168_1 zj_82 ?_
  refine zu_iconst d_8168_3 zi_0 ?_
  refine zu_iconst d_8168_4 zi_0 ?_
  refine zu_iload_n d_8168_5 rfl ?_
  obtain ⟨k1, h⟩ := h
  refine zc_8_656 (x0 := (82 : Int32)) (x1 := (0 : Int32)) (x2 := (0 : Int32)) (x3 := p1) hB rfl k1 d_8168_6 (Nat.le_of_ble_eq_true rfl) h (fun v3 S2 h => ?_)
  refine zu_istore_n d_8168_9 (zs_lt zq_8168 rfl) ?_
  exact zu_vret d_8168_10 zr_8168 h
/-! SchemaPascalModel.simpleStatement(I)V -/
theorem zm_8169 {σ : Nat → Nat} {n0 : Nat} {bf : ab_B} : ab_code (zx σ n0 bf).1 8169 = prog_17_method_163_code := rfl
theorem zq_8169 {σ : Nat → Nat} {n0 : Nat} {bf : ab_B} : ab_maxL (zx σ n0 bf).1 8169 = 6 := rfl
theorem zr_8169 {σ : Nat → Nat} {n0 : Nat} {bf : ab_B} : ab_ret (zx σ n0 bf).1 8169 = (Option.none : Option Jvm.ClassFile.FieldType) := rfl
theorem d_8169_0 {σ : Nat → Nat} {n0 : Nat} {bf : ab_B} : decode (ab_code (zx σ n0 bf).1 8169) 0 = .ok (.aload_n 0, 1) := zd zm_8169 (by decide +kernel)
theorem d_8169_1 {σ : Nat → Nat} {n0 : Nat} {bf : ab_B} : decode (ab_code (zx σ n0 bf).1 8169) 1 = .ok (.getfield 37, 3) := zd zm_8169 (by decide +kernel)
theorem d_8169_4 {σ : Nat → Nat} {n0 : Nat} {bf : ab_B} : decode (ab_code (zx σ n0 bf).1 8169) 4 = .ok (.aload_n 0, 1) := zd zm_8169 (by decide +kernel)
theorem d_8169_5 {σ : Nat → Nat} {n0 : Nat} {bf : ab_B} : decode (ab_code (zx σ n0 bf).1 8169) 5 = .ok (.getfield 494, 3) := zd zm_8169 (by decide +kernel)
theorem d_8169_8 {σ : Nat → Nat} {n0 : Nat} {bf : ab_B} : decode (ab_code (zx σ n0 bf).1 8169) 8 = .ok (.iaload, 1) := zd zm_8169 (by decide +kernel)
theorem d_8169_9 {σ : Nat → Nat} {n0 : Nat} {bf : ab_B} : decode (ab_code (zx σ n0 bf).1 8169) 9 = .ok (.istore_n 2, 1) := zd zm_8169 (by decide +kernel)
theorem d_8169_10 {σ : Nat → Nat} {n0 : Nat} {bf : ab_B} : decode (ab_code (zx σ n0 bf).1 8169) 10 = .ok (.iload_n 2, 1) := zd zm_8169 (by decide +kernel)
theorem d_8169_11 {σ : Nat → Nat} {n0 : Nat} {bf : ab_B} : decode (ab_code (zx σ n0 bf).1 8169) 11 = .ok (.ifCond .ne 7, 3) := zd zm_8169 (by decide +kernel)
theorem d_8169_14 {σ : Nat → Nat} {n0 : Nat} {bf : ab_B} : decode (ab_code (zx σ n0 bf).1 8169) 14 = .ok (.iconst 0, 1) := zd zm_8169 (by decide +kernel)
theorem d_8169_15 {σ : Nat → Nat} {n0 : Nat} {bf : ab_B} : decode (ab_code (zx σ n0 bf).1 8169) 15 = .ok (.goto 9, 3) := zd zm_8169 (by decide +kernel)
theorem d_8169_18 {σ : Nat → Nat} {n0 : Nat} {bf : ab_B} : decode (ab_code (zx σ n0 bf).1 8169) 18 = .ok (.aload_n 0, 1) := zd zm_8169 (by decide +kernel)
theorem d_8169_19 {σ : Nat → Nat} {n0 : Nat} {bf : ab_B} : decode (ab_code (zx σ n0 bf).1 8169) 19 = .ok (.getfield 44, 3) := zd zm_8169 (by decide +kernel)
theorem d_8169_22 {σ : Nat → Nat} {n0 : Nat} {bf : ab_B} : decode (ab_code (zx σ n0 bf).1 8169) 22 = .ok (.iload_n 2, 1) := zd zm_8169 (by decide +kernel)
theorem d_8169_23 {σ : Nat → Nat} {n0 : Nat} {bf : ab_B} : decode (ab_code (zx σ n0 bf).1 8169) 23 = .ok (.baload, 1) := zd zm_8169 (by decide +kernel)
theorem d_8169_24 {σ : Nat → Nat} {n0 : Nat} {bf : ab_B} : decode (ab_code (zx σ n0 bf).1 8169) 24 = .ok (.istore_n 3, 1) := zd zm_8169 (by decide +kernel)
theorem d_8169_25 {σ : Nat → Nat} {n0 : Nat} {bf : ab_B} : decode (ab_code (zx σ n0 bf).1 8169) 25 = .ok (.iload_n 3, 1) := zd zm_8169 (by decide +kernel)
theorem d_8169_26 {σ : Nat → Nat} {n0 : Nat} {bf : ab_B} : decode (ab_code (zx σ n0 bf).1 8169) 26 = .ok (.iconst 5, 1) := zd zm_8169 (by decide +kernel)
theorem d_8169_27 {σ : Nat → Nat} {n0 : Nat} {bf : ab_B} : decode (ab_code (zx σ n0 bf).1 8169) 27 = .ok (.if_icmp .ne 12, 3) := zd zm_8169 (by decide +kernel)
theorem d_8169_30 {σ : Nat → Nat} {n0 : Nat} {bf : ab_B} : decode (ab_code (zx σ n0 bf).1 8169) 30 = .ok (.aload_n 0, 1) := zd zm_8169 (by decide +kernel)
theorem d_8169_31 {σ : Nat → Nat} {n0 : Nat} {bf : ab_B} : decode (ab_code (zx σ n0 bf).1 8169) 31 = .ok (.getfield 53, 3) := zd zm_8169 (by decide +kernel)
theorem d_8169_34 {σ : Nat → Nat} {n0 : Nat} {bf : ab_B} : decode (ab_code (zx σ n0 bf).1 8169) 34 = .ok (.iload_n 2, 1) := zd zm_8169 (by decide +kernel)
theorem d_8169_35 {σ : Nat → Nat} {n0 : Nat} {bf : ab_B} : decode (ab_code (zx σ n0 bf).1 8169) 35 = .ok (.iaload, 1) := zd zm_8169 (by decide +kernel)
theorem d_8169_36 {σ : Nat → Nat} {n0 : Nat} {bf : ab_B} : decode (ab_code (zx σ n0 bf).1 8169) 36 = .ok (.goto 4, 3) := zd zm_8169 (by decide +kernel)
theorem d_8169_39 {σ : Nat → Nat} {n0 : Nat} {bf : ab_B} : decode (ab_code (zx σ n0 bf).1 8169) 39 = .ok (.iconst 0, 1) := zd zm_8169 (by decide +kernel)
theorem d_8169_40 {σ : Nat → Nat} {n0 : Nat} {bf : ab_B} : decode (ab_code (zx σ n0 bf).1 8169) 40 = .ok (.istore 4, 2) := zd zm_8169 (by decide +kernel)
theorem d_8169_42 {σ : Nat → Nat} {n0 : Nat} {bf : ab_B} : decode (ab_code (zx σ n0 bf).1 8169) 42 = .ok (.iload_n 3, 1) := zd zm_8169 (by decide +kernel)
theorem d_8169_43 {σ : Nat → Nat} {n0 : Nat} {bf : ab_B} : decode (ab_code (zx σ n0 bf).1 8169) 43 = .ok (.iconst 4, 1) := zd zm_8169 (by decide +kernel)
theorem d_8169_44 {σ : Nat → Nat} {n0 : Nat} {bf : ab_B} : decode (ab_code (zx σ n0 bf).1 8169) 44 = .ok (.if_icmp .eq 9, 3) := zd zm_8169 (by decide +kernel)
theorem d_8169_47 {σ : Nat → Nat} {n0 : Nat} {bf : ab_B} : decode (ab_code (zx σ n0 bf).1 8169) 47 = .ok (.iload_n 3, 1) := zd zm_8169 (by decide +kernel)
theorem d_8169_48 {σ : Nat → Nat} {n0 : Nat} {bf : ab_B} : decode (ab_code (zx σ n0 bf).1 8169) 48 = .ok (.bipush 8, 2) := zd zm_8169 (by decide +kernel)
theorem d_8169_50 {σ : Nat → Nat} {n0 : Nat} {bf : ab_B} : decode (ab_code (zx σ n0 bf).1 8169) 50 = .ok (.if_icmp .ne 21, 3) := zd zm_8169 (by decide +kernel)
theorem d_8169_53 {σ : Nat → Nat} {n0 : Nat} {bf : ab_B} : decode (ab_code (zx σ n0 bf).1 8169) 53 = .ok (.aload_n 0, 1) := zd zm_8169 (by decide +kernel)
theorem d_8169_54 {σ : Nat → Nat} {n0 : Nat} {bf : ab_B} : decode (ab_code (zx σ n0 bf).1 8169) 54 = .ok (.bipush 103, 2) := zd zm_8169 (by decide +kernel)
theorem d_8169_56 {σ : Nat → Nat} {n0 : Nat} {bf : ab_B} : decode (ab_code (zx σ n0 bf).1 8169) 56 = .ok (.iconst 0, 1) := zd zm_8169 (by decide +kernel)
theorem d_8169_57 {σ : Nat → Nat} {n0 : Nat} {bf : ab_B} : decode (ab_code (zx σ n0 bf).1 8169) 57 = .ok (.iconst 0, 1) := zd zm_8169 (by decide +kernel)
theorem d_8169_58 {σ : Nat → Nat} {n0 : Nat} {bf : ab_B} : decode (ab_code (zx σ n0 bf).1 8169) 58 = .ok (.iconst 0, 1) := zd zm_8169 (by decide +kernel)
theorem d_8169_59 {σ : Nat → Nat} {n0 : Nat} {bf : ab_B} : decode (ab_code (zx σ n0 bf).1 8169) 59 = .ok (.invokevirtual 649, 3) := zd zm_8169 (by decide +kernel)
theorem d_8169_62 {σ : Nat → Nat} {n0 : Nat} {bf : ab_B} : decode (ab_code (zx σ n0 bf).1 8169) 62 = .ok (.aload_n 0, 1) := zd zm_8169 (by decide +kernel)
theorem d_8169_63 {σ : Nat → Nat} {n0 : Nat} {bf : ab_B} : decode (ab_code (zx σ n0 bf).1 8169) 63 = .ok (.iload_n 2, 1) := zd zm_8169 (by decide +kernel)
theorem d_8169_64 {σ : Nat → Nat} {n0 : Nat} {bf : ab_B} : decode (ab_code (zx σ n0 bf).1 8169) 64 = .ok (.iload_n 1, 1) := zd zm_8169 (by decide +kernel)
theorem d_8169_65 {σ : Nat → Nat} {n0 : Nat} {bf : ab_B} : decode (ab_code (zx σ n0 bf).1 8169) 65 = .ok (.invokevirtual 712, 3) := zd zm_8169 (by decide +kernel)
theorem d_8169_68 {σ : Nat → Nat} {n0 : Nat} {bf : ab_B} : decode (ab_code (zx σ n0 bf).1 8169) 68 = .ok (.goto 139, 3) := zd zm_8169 (by decide +kernel)
theorem d_8169_71 {σ : Nat → Nat} {n0 : Nat} {bf : ab_B} : decode (ab_code (zx σ n0 bf).1 8169) 71 = .ok (.iload_n 3, 1) := zd zm_8169 (by decide +kernel)
theorem d_8169_72 {σ : Nat → Nat} {n0 : Nat} {bf : ab_B} : decode (ab_code (zx σ n0 bf).1 8169) 72 = .ok (.iconst 5, 1) := zd zm_8169 (by decide +kernel)
theorem d_8169_73 {σ : Nat → Nat} {n0 : Nat} {bf : ab_B} : decode (ab_code (zx σ n0 bf).1 8169) 73 = .ok (.if_icmp .ne 60, 3) := zd zm_8169 (by decide +kernel)
theorem d_8169_76 {σ : Nat → Nat} {n0 : Nat} {bf : ab_B} : decode (ab_code (zx σ n0 bf).1 8169) 76 = .ok (.aload_n 0, 1) := zd zm_8169 (by decide +kernel)
theorem d_8169_77 {σ : Nat → Nat} {n0 : Nat} {bf : ab_B} : decode (ab_code (zx σ n0 bf).1 8169) 77 = .ok (.getfield 215, 3) := zd zm_8169 (by decide +kernel)
theorem d_8169_80 {σ : Nat → Nat} {n0 : Nat} {bf : ab_B} : decode (ab_code (zx σ n0 bf).1 8169) 80 = .ok (.iload 4, 2) := zd zm_8169 (by decide +kernel)
theorem d_8169_82 {σ : Nat → Nat} {n0 : Nat} {bf : ab_B} : decode (ab_code (zx σ n0 bf).1 8169) 82 = .ok (.iaload, 1) := zd zm_8169 (by decide +kernel)
theorem d_8169_83 {σ : Nat → Nat} {n0 : Nat} {bf : ab_B} : decode (ab_code (zx σ n0 bf).1 8169) 83 = .ok (.ifCond .le 50, 3) := zd zm_8169 (by decide +kernel)
theorem d_8169_86 {σ : Nat → Nat} {n0 : Nat} {bf : ab_B} : decode (ab_code (zx σ n0 bf).1 8169) 86 = .ok (.iload 4, 2) := zd zm_8169 (by decide +kernel)
theorem d_8169_88 {σ : Nat → Nat} {n0 : Nat} {bf : ab_B} : decode (ab_code (zx σ n0 bf).1 8169) 88 = .ok (.aload_n 0, 1) := zd zm_8169 (by decide +kernel)
theorem d_8169_89 {σ : Nat → Nat} {n0 : Nat} {bf : ab_B} : decode (ab_code (zx σ n0 bf).1 8169) 89 = .ok (.getfield 722, 3) := zd zm_8169 (by decide +kernel)
theorem d_8169_92 {σ : Nat → Nat} {n0 : Nat} {bf : ab_B} : decode (ab_code (zx σ n0 bf).1 8169) 92 = .ok (.if_icmp .ne 41, 3) := zd zm_8169 (by decide +kernel)
theorem d_8169_95 {σ : Nat → Nat} {n0 : Nat} {bf : ab_B} : decode (ab_code (zx σ n0 bf).1 8169) 95 = .ok (.aload_n 0, 1) := zd zm_8169 (by decide +kernel)
theorem d_8169_96 {σ : Nat → Nat} {n0 : Nat} {bf : ab_B} : decode (ab_code (zx σ n0 bf).1 8169) 96 = .ok (.invokevirtual 538, 3) := zd zm_8169 (by decide +kernel)
theorem d_8169_99 {σ : Nat → Nat} {n0 : Nat} {bf : ab_B} : decode (ab_code (zx σ n0 bf).1 8169) 99 = .ok (.aload_n 0, 1) := zd zm_8169 (by decide +kernel)
theorem d_8169_100 {σ : Nat → Nat} {n0 : Nat} {bf : ab_B} : decode (ab_code (zx σ n0 bf).1 8169) 100 = .ok (.getfield 450, 3) := zd zm_8169 (by decide +kernel)
theorem d_8169_103 {σ : Nat → Nat} {n0 : Nat} {bf : ab_B} : decode (ab_code (zx σ n0 bf).1 8169) 103 = .ok (.istore 5, 2) := zd zm_8169 (by decide +kernel)
theorem d_8169_105 {σ : Nat → Nat} {n0 : Nat} {bf : ab_B} : decode (ab_code (zx σ n0 bf).1 8169) 105 = .ok (.aload_n 0, 1) := zd zm_8169 (by decide +kernel)
theorem d_8169_106 {σ : Nat → Nat} {n0 : Nat} {bf : ab_B} : decode (ab_code (zx σ n0 bf).1 8169) 106 = .ok (.bipush 20, 2) := zd zm_8169 (by decide +kernel)
theorem d_8169_108 {σ : Nat → Nat} {n0 : Nat} {bf : ab_B} : decode (ab_code (zx σ n0 bf).1 8169) 108 = .ok (.invokevirtual 746, 3) := zd zm_8169 (by decide +kernel)
theorem d_8169_111 {σ : Nat → Nat} {n0 : Nat} {bf : ab_B} : decode (ab_code (zx σ n0 bf).1 8169) 111 = .ok (.aload_n 0, 1) := zd zm_8169 (by decide +kernel)
theorem d_8169_112 {σ : Nat → Nat} {n0 : Nat} {bf : ab_B} : decode (ab_code (zx σ n0 bf).1 8169) 112 = .ok (.bipush 105, 2) := zd zm_8169 (by decide +kernel)
theorem d_8169_114 {σ : Nat → Nat} {n0 : Nat} {bf : ab_B} : decode (ab_code (zx σ n0 bf).1 8169) 114 = .ok (.iload 4, 2) := zd zm_8169 (by decide +kernel)
theorem d_8169_116 {σ : Nat → Nat} {n0 : Nat} {bf : ab_B} : decode (ab_code (zx σ n0 bf).1 8169) 116 = .ok (.iload 5, 2) := zd zm_8169 (by decide +kernel)
theorem d_8169_118 {σ : Nat → Nat} {n0 : Nat} {bf : ab_B} : decode (ab_code (zx σ n0 bf).1 8169) 118 = .ok (.iconst 0, 1) := zd zm_8169 (by decide +kernel)
theorem d_8169_119 {σ : Nat → Nat} {n0 : Nat} {bf : ab_B} : decode (ab_code (zx σ n0 bf).1 8169) 119 = .ok (.invokevirtual 649, 3) := zd zm_8169 (by decide +kernel)
theorem d_8169_122 {σ : Nat → Nat} {n0 : Nat} {bf : ab_B} : decode (ab_code (zx σ n0 bf).1 8169) 122 = .ok (.aload_n 0, 1) := zd zm_8169 (by decide +kernel)
theorem d_8169_123 {σ : Nat → Nat} {n0 : Nat} {bf : ab_B} : decode (ab_code (zx σ n0 bf).1 8169) 123 = .ok (.iconst 2, 1) := zd zm_8169 (by decide +kernel)
theorem d_8169_124 {σ : Nat → Nat} {n0 : Nat} {bf : ab_B} : decode (ab_code (zx σ n0 bf).1 8169) 124 = .ok (.iconst 0, 1) := zd zm_8169 (by decide +kernel)
theorem d_8169_125 {σ : Nat → Nat} {n0 : Nat} {bf : ab_B} : decode (ab_code (zx σ n0 bf).1 8169) 125 = .ok (.iconst 0, 1) := zd zm_8169 (by decide +kernel)
theorem d_8169_126 {σ : Nat → Nat} {n0 : Nat} {bf : ab_B} : decode (ab_code (zx σ n0 bf).1 8169) 126 = .ok (.iconst 0, 1) := zd zm_8169 (by decide +kernel)
theorem d_8169_127 {σ : Nat → Nat} {n0 : Nat} {bf : ab_B} : decode (ab_code (zx σ n0 bf).1 8169) 127 = .ok (.invokevirtual 649, 3) := zd zm_8169 (by decide +kernel)
theorem d_8169_130 {σ : Nat → Nat} {n0 : Nat} {bf : ab_B} : decode (ab_code (zx σ n0 bf).1 8169) 130 = .ok (.goto 77, 3) := zd zm_8169 (by decide +kernel)
theorem d_8169_133 {σ : Nat → Nat} {n0 : Nat} {bf : ab_B} : decode (ab_code (zx σ n0 bf).1 8169) 133 = .ok (.iload_n 3, 1) := zd zm_8169 (by decide +kernel)
theorem d_8169_134 {σ : Nat → Nat} {n0 : Nat} {bf : ab_B} : decode (ab_code (zx σ n0 bf).1 8169) 134 = .ok (.iconst 5, 1) := zd zm_8169 (by decide +kernel)
theorem d_8169_135 {σ : Nat → Nat} {n0 : Nat} {bf : ab_B} : decode (ab_code (zx σ n0 bf).1 8169) 135 = .ok (.if_icmp .ne 28, 3) := zd zm_8169 (by decide +kernel)
theorem d_8169_138 {σ : Nat → Nat} {n0 : Nat} {bf : ab_B} : decode (ab_code (zx σ n0 bf).1 8169) 138 = .ok (.aload_n 0, 1) := zd zm_8169 (by decide +kernel)
theorem d_8169_139 {σ : Nat → Nat} {n0 : Nat} {bf : ab_B} : decode (ab_code (zx σ n0 bf).1 8169) 139 = .ok (.getfield 215, 3) := zd zm_8169 (by decide +kernel)
theorem d_8169_142 {σ : Nat → Nat} {n0 : Nat} {bf : ab_B} : decode (ab_code (zx σ n0 bf).1 8169) 142 = .ok (.iload 4, 2) := zd zm_8169 (by decide +kernel)
theorem d_8169_144 {σ : Nat → Nat} {n0 : Nat} {bf : ab_B} : decode (ab_code (zx σ n0 bf).1 8169) 144 = .ok (.iaload, 1) := zd zm_8169 (by decide +kernel)
theorem d_8169_145 {σ : Nat → Nat} {n0 : Nat} {bf : ab_B} : decode (ab_code (zx σ n0 bf).1 8169) 145 = .ok (.ifCond .ne 18, 3) := zd zm_8169 (by decide +kernel)
theorem d_8169_148 {σ : Nat → Nat} {n0 : Nat} {bf : ab_B} : decode (ab_code (zx σ n0 bf).1 8169) 148 = .ok (.aload_n 0, 1) := zd zm_8169 (by decide +kernel)
theorem d_8169_149 {σ : Nat → Nat} {n0 : Nat} {bf : ab_B} : decode (ab_code (zx σ n0 bf).1 8169) 149 = .ok (.invokevirtual 538, 3) := zd zm_8169 (by decide +kernel)
theorem d_8169_152 {σ : Nat → Nat} {n0 : Nat} {bf : ab_B} : decode (ab_code (zx σ n0 bf).1 8169) 152 = .ok (.aload_n 0, 1) := zd zm_8169 (by decide +kernel)
theorem d_8169_153 {σ : Nat → Nat} {n0 : Nat} {bf : ab_B} : decode (ab_code (zx σ n0 bf).1 8169) 153 = .ok (.iload 4, 2) := zd zm_8169 (by decide +kernel)
theorem d_8169_155 {σ : Nat → Nat} {n0 : Nat} {bf : ab_B} : decode (ab_code (zx σ n0 bf).1 8169) 155 = .ok (.iload_n 1, 1) := zd zm_8169 (by decide +kernel)
theorem d_8169_156 {σ : Nat → Nat} {n0 : Nat} {bf : ab_B} : decode (ab_code (zx σ n0 bf).1 8169) 156 = .ok (.iconst 0, 1) := zd zm_8169 (by decide +kernel)
theorem d_8169_157 {σ : Nat → Nat} {n0 : Nat} {bf : ab_B} : decode (ab_code (zx σ n0 bf).1 8169) 157 = .ok (.invokevirtual 715, 3) := zd zm_8169 (by decide +kernel)
theorem d_8169_160 {σ : Nat → Nat} {n0 : Nat} {bf : ab_B} : decode (ab_code (zx σ n0 bf).1 8169) 160 = .ok (.goto 47, 3) := zd zm_8169 (by decide +kernel)
theorem d_8169_163 {σ : Nat → Nat} {n0 : Nat} {bf : ab_B} : decode (ab_code (zx σ n0 bf).1 8169) 163 = .ok (.iload_n 3, 1) := zd zm_8169 (by decide +kernel)
theorem d_8169_164 {σ : Nat → Nat} {n0 : Nat} {bf : ab_B} : decode (ab_code (zx σ n0 bf).1 8169) 164 = .ok (.bipush 6, 2) := zd zm_8169 (by decide +kernel)
theorem d_8169_166 {σ : Nat → Nat} {n0 : Nat} {bf : ab_B} : decode (ab_code (zx σ n0 bf).1 8169) 166 = .ok (.if_icmp .ne 36, 3) := zd zm_8169 (by decide +kernel)
theorem d_8169_169 {σ : Nat → Nat} {n0 : Nat} {bf : ab_B} : decode (ab_code (zx σ n0 bf).1 8169) 169 = .ok (.aload_n 0, 1) := zd zm_8169 (by decide +kernel)
theorem d_8169_170 {σ : Nat → Nat} {n0 : Nat} {bf : ab_B} : decode (ab_code (zx σ n0 bf).1 8169) 170 = .ok (.getfield 53, 3) := zd zm_8169 (by decide +kernel)
theorem d_8169_173 {σ : Nat → Nat} {n0 : Nat} {bf : ab_B} : decode (ab_code (zx σ n0 bf).1 8169) 173 = .ok (.iload_n 2, 1) := zd zm_8169 (by decide +kernel)
theorem d_8169_174 {σ : Nat → Nat} {n0 : Nat} {bf : ab_B} : decode (ab_code (zx σ n0 bf).1 8169) 174 = .ok (.iaload, 1) := zd zm_8169 (by decide +kernel)
theorem d_8169_175 {σ : Nat → Nat} {n0 : Nat} {bf : ab_B} : decode (ab_code (zx σ n0 bf).1 8169) 175 = .ok (.bipush 19, 2) := zd zm_8169 (by decide +kernel)
theorem d_8169_177 {σ : Nat → Nat} {n0 : Nat} {bf : ab_B} : decode (ab_code (zx σ n0 bf).1 8169) 177 = .ok (.if_icmp .lt 25, 3) := zd zm_8169 (by decide +kernel)
theorem d_8169_180 {σ : Nat → Nat} {n0 : Nat} {bf : ab_B} : decode (ab_code (zx σ n0 bf).1 8169) 180 = .ok (.aload_n 0, 1) := zd zm_8169 (by decide +kernel)
theorem d_8169_181 {σ : Nat → Nat} {n0 : Nat} {bf : ab_B} : decode (ab_code (zx σ n0 bf).1 8169) 181 = .ok (.getfield 53, 3) := zd zm_8169 (by decide +kernel)
theorem d_8169_184 {σ : Nat → Nat} {n0 : Nat} {bf : ab_B} : decode (ab_code (zx σ n0 bf).1 8169) 184 = .ok (.iload_n 2, 1) := zd zm_8169 (by decide +kernel)
theorem d_8169_185 {σ : Nat → Nat} {n0 : Nat} {bf : ab_B} : decode (ab_code (zx σ n0 bf).1 8169) 185 = .ok (.iaload, 1) := zd zm_8169 (by decide +kernel)
theorem d_8169_186 {σ : Nat → Nat} {n0 : Nat} {bf : ab_B} : decode (ab_code (zx σ n0 bf).1 8169) 186 = .ok (.istore 5, 2) := zd zm_8169 (by decide +kernel)
theorem d_8169_188 {σ : Nat → Nat} {n0 : Nat} {bf : ab_B} : decode (ab_code (zx σ n0 bf).1 8169) 188 = .ok (.aload_n 0, 1) := zd zm_8169 (by decide +kernel)
theorem d_8169_189 {σ : Nat → Nat} {n0 : Nat} {bf : ab_B} : decode (ab_code (zx σ n0 bf).1 8169) 189 = .ok (.invokevirtual 538, 3) := zd zm_8169 (by decide +kernel)
theorem d_8169_192 {σ : Nat → Nat} {n0 : Nat} {bf : ab_B} : decode (ab_code (zx σ n0 bf).1 8169) 192 = .ok (.aload_n 0, 1) := zd zm_8169 (by decide +kernel)
theorem d_8169_193 {σ : Nat → Nat} {n0 : Nat} {bf : ab_B} : decode (ab_code (zx σ n0 bf).1 8169) 193 = .ok (.iload 5, 2) := zd zm_8169 (by decide +kernel)
theorem d_8169_195 {σ : Nat → Nat} {n0 : Nat} {bf : ab_B} : decode (ab_code (zx σ n0 bf).1 8169) 195 = .ok (.iload_n 1, 1) := zd zm_8169 (by decide +kernel)
theorem d_8169_196 {σ : Nat → Nat} {n0 : Nat} {bf : ab_B} : decode (ab_code (zx σ n0 bf).1 8169) 196 = .ok (.invokevirtual 971, 3) := zd zm_8169 (by decide +kernel)
theorem d_8169_199 {σ : Nat → Nat} {n0 : Nat} {bf : ab_B} : decode (ab_code (zx σ n0 bf).1 8169) 199 = .ok (.goto 8, 3) := zd zm_8169 (by decide +kernel)
theorem d_8169_202 {σ : Nat → Nat} {n0 : Nat} {bf : ab_B} : decode (ab_code (zx σ n0 bf).1 8169) 202 = .ok (.aload_n 0, 1) := zd zm_8169 (by decide +kernel)
theorem d_8169_203 {σ : Nat → Nat} {n0 : Nat} {bf : ab_B} : decode (ab_code (zx σ n0 bf).1 8169) 203 = .ok (.iconst 3, 1) := zd zm_8169 (by decide +kernel)
theorem d_8169_204 {σ : Nat → Nat} {n0 : Nat} {bf : ab_B} : decode (ab_code (zx σ n0 bf).1 8169) 204 = .ok (.invokevirtual 541, 3) := zd zm_8169 (by decide +kernel)
theorem d_8169_207 {σ : Nat → Nat} {n0 : Nat} {bf : ab_B} : decode (ab_code (zx σ n0 bf).1 8169) 207 = .ok (.return_, 1) := zd zm_8169 (by decide +kernel)
def w_X9_simpleStatement_207 (X : zs_X) (d : Nat)  (S : zs_T) (Q : zs_Q) : Prop :=
  (Q (.returned none) S)
theorem u_X9_simpleStatement_207 {σ : Nat → Nat} {n0 : Nat} {bf : ab_B} {d : Nat}  {S : zs_T} {Q : zs_Q} (hB : zt_B bf) (h : w_X9_simpleStatement_207 (zx σ n0 bf) d  S Q) : zs_U (zx σ n0 bf) d 8169 207 [] [] S Q := by
  unfold w_X9_simpleStatement_207 at h
  exact zu_vret d_8169_207 zr_8169 h
def w_X9_simpleStatement_53 (X : zs_X) (d : Nat) (p0 : Nat) (p1 : Int32) (p2 : Int32) (S : zs_T) (Q : zs_Q) : Prop :=
  (zs_K S p0 = some (.inl 8) ∧ zs_C X d 8030 [.ref p0, .int (103 : Int32), .int (0 : Int32), .int (0 : Int32), .int (0 : Int32)] S (zs_kV (fun S2 => (zs_K S2 p0 = some (.inl 8) ∧ zs_C X d 8062 [.ref p0, .int p2, .int p1] S2 (zs_kV (fun S5 => (w_X9_simpleStatement_207 X d  S5 Q)) Q))) Q))
theorem u_X9_simpleStatement_53 {σ : Nat → Nat} {n0 : Nat} {bf : ab_B} {d : Nat} {p0 : Nat} {p1 : Int32} {p2 : Int32} {S : zs_T} {Q : zs_Q} (hB : zt_B bf) (h : w_X9_simpleStatement_53 (zx σ n0 bf) d p0 p1 p2 S Q) : zs_U (zx σ n0 bf) d 8169 53 [(0, .ref p0), (1, .int p1), (2, .int p2)] [] S Q := by
  unfold w_X9_simpleStatement_53 at h
  refine zu_aload_n d_8169_53 rfl (zs_ra _) ?_
  refine zu_bipush d_8169_54 zj_103 ?_
  refine zu_iconst d_8169_56 zi_0 ?_
  refine zu_iconst d_8169_57 zi_0 ?_
  refine zu_iconst d_8169_58 zi_0 ?_
  obtain ⟨k1, h⟩ := h
  refine zc_8_649 (x0 := (103 : Int32)) (x1 := (0 : Int32)) (x2 := (0 : Int32)) (x3 := (0 : Int32)) hB rfl k1 d_8169_59 (Nat.le_of_ble_eq_true rfl) h (fun S2 h => ?_)
  refine zu_aload_n d_8169_62 rfl (zs_ra _) ?_
  refine zu_iload_n d_8169_63 rfl ?_
  refine zu_iload_n d_8169_64 rfl ?_
  obtain ⟨k4, h⟩ := h
  refine zc_8_712 (x0 := p2) (x1 := p1) hB rfl k4 d_8169_65 (Nat.le_of_ble_eq_true rfl) h (fun S5 h => ?_)
  refine zu_goto (t := 207) d_8169_68 rfl ?_
  exact (u_X9_simpleStatement_207 hB h).weak trivial
def w_X9_simpleStatement_202 (X : zs_X) (d : Nat) (p0 : Nat) (S : zs_T) (Q : zs_Q) : Prop :=
  (zs_K S p0 = some (.inl 8) ∧ zs_C X d 8027 [.ref p0, .int (3 : Int32)] S (zs_kV (fun S2 => w_X9_simpleStatement_207 X d  S2 Q) Q))
theorem u_X9_simpleStatement_202 {σ : Nat → Nat} {n0 : Nat} {bf : ab_B} {d : Nat} {p0 : Nat} {S : zs_T} {Q : zs_Q} (hB : zt_B bf) (h : w_X9_simpleStatement_202 (zx σ n0 bf) d p0 S Q) : zs_U (zx σ n0 bf) d 8169 202 [(0, .ref p0)] [] S Q := by
  unfold w_X9_simpleStatement_202 at h
  refine zu_aload_n d_8169_202 rfl (zs_ra _) ?_
  refine zu_iconst d_8169_203 zi_3 ?_
  obtain ⟨k1, h⟩ := h
  refine zc_8_541 (x0 := (3 : Int32)) hB rfl k1 d_8169_204 (Nat.le_of_ble_eq_true rfl) h (fun S2 h => ?_)
  exact (u_X9_simpleStatement_207 hB h).weak trivial
def w_X9_simpleStatement_192 (X : zs_X) (d : Nat) (p0 : Nat) (p1 : Int32) (p5 : Int32) (S : zs_T) (Q : zs_Q) : Prop :=
  (zs_K S p0 = some (.inl 8) ∧ zs_C X d 8170 [.ref p0, .int p5, .int p1] S (zs_kV (fun S2 => (w_X9_simpleStatement_207 X d  S2 Q)) Q))
theorem u_X9_simpleStatement_192 {σ : Nat → Nat} {n0 : Nat} {bf : ab_B} {d : Nat} {p0 : Nat} {p1 : Int32} {p5 : Int32} {S : zs_T} {Q : zs_Q} (hB : zt_B bf) (h : w_X9_simpleStatement_192 (zx σ n0 bf) d p0 p1 p5 S Q) : zs_U (zx σ n0 bf) d 8169 192 [(0, .ref p0), (1, .int p1), (5, .int p5)] [] S Q := by
  unfold w_X9_simpleStatement_192 at h
  refine zu_aload_n d_8169_192 rfl (zs_ra _) ?_
  refine zu_iload d_8169_193 rfl ?_
  refine zu_iload_n d_8169_195 rfl ?_
  obtain ⟨k1, h⟩ := h
  refine zc_8_971 (x0 := p5) (x1 := p1) hB rfl k1 d_8169_196 (Nat.le_of_ble_eq_true rfl) h (fun S2 h => ?_)
  refine zu_goto (t := 207) d_8169_199 rfl ?_
  exact (u_X9_simpleStatement_207 hB h).weak trivial
def w_X9_simpleStatement_163 (X : zs_X) (d : Nat) (p0 : Nat) (p1 : Int32) (p2 : Int32) (p3 : Int32) (S : zs_T) (Q : zs_Q) : Prop :=
  (((¬ p3 = (6 : Int32) → w_X9_simpleStatement_202 X d p0 S Q) ∧ (¬ (¬ p3 = (6 : Int32)) → (zs_K S p0 = some (.inl 8) ∧ ∃ b3, (zs_R S 8027 p0) = some b3 ∧ zs_A S b3 0 p2 ∧ (((zs_i S b3 p2.toNatClampNeg) < (19 : Int32) → w_X9_simpleStatement_202 X d p0 S Q) ∧ (¬ ((zs_i S b3 p2.toNatClampNeg) < (19 : Int32)) → (zs_C X d 8014 [.ref p0] S (zs_kV (fun S7 => w_X9_simpleStatement_192 X d p0 p1 (zs_i S b3 p2.toNatClampNeg) S7 Q) Q))))))))
theorem u_X9_simpleStatement_163 {σ : Nat → Nat} {n0 : Nat} {bf : ab_B} {d : Nat} {p0 : Nat} {p1 : Int32} {p2 : Int32} {p3 : Int32} {S : zs_T} {Q : zs_Q} (hB : zt_B bf) (h : w_X9_simpleStatement_163 (zx σ n0 bf) d p0 p1 p2 p3 S Q) : zs_U (zx σ n0 bf) d 8169 163 [(0, .ref p0), (1, .int p1), (2, .int p2), (3, .int p3)] [] S Q := by
  unfold w_X9_simpleStatement_163 at h
  refine zu_iload_n d_8169_163 rfl ?_
  refine zu_bipush d_8169_164 zj_6 ?_
  refine zu_cmpne (t := 202) d_8169_166 rfl (fun c1 => ?_) (fun c1 => ?_)
  · have h := h.1 c1
    exact (u_X9_simpleStatement_202 hB h).weak ⟨rfl, trivial⟩
  · have h := h.2 c1
    refine zu_aload_n d_8169_169 rfl (zs_ra _) ?_
    obtain ⟨k2, h⟩ := h
    refine zg_8_53 rfl d_8169_170 k2 ?_
    refine zu_iload_n d_8169_173 rfl ?_
    obtain ⟨b3, e4, h⟩ := h
    refine zs_stk1 (zs_rfe e4) ?_
    obtain ⟨k5, h⟩ := h
    refine zu_iald (k := 0) d_8169_174 rfl rfl k5 ?_
    refine zu_bipush d_8169_175 zj_19 ?_
    refine zu_cmplt (t := 202) d_8169_177 rfl (fun c6 => ?_) (fun c6 => ?_)
    · have h := h.1 c6
      exact (u_X9_simpleStatement_202 hB h).weak ⟨rfl, trivial⟩
    · have h := h.2 c6
      refine zu_aload_n d_8169_180 rfl (zs_ra _) ?_
      refine zg_8_53 rfl d_8169_181 k2 ?_
      refine zu_iload_n d_8169_184 rfl ?_
      refine zs_stk1 (zs_rfe e4) ?_
      refine zu_iald (k := 0) d_8169_185 rfl rfl k5 ?_
      refine zu_istore d_8169_186 (zs_lt zq_8169 rfl) ?_
      refine zu_aload_n d_8169_188 rfl (zs_ra _) ?_
      refine zc_8_538  hB rfl k2 d_8169_189 (Nat.le_of_ble_eq_true rfl) h (fun S7 h => ?_)
      exact (u_X9_simpleStatement_192 hB h).weak ⟨rfl, rfl, rfl, trivial⟩
def w_X9_simpleStatement_133 (X : zs_X) (d : Nat) (p0 : Nat) (p1 : Int32) (p2 : Int32) (p3 : Int32) (p4 : Int32) (S : zs_T) (Q : zs_Q) : Prop :=
  (((¬ p3 = (5 : Int32) → w_X9_simpleStatement_163 X d p0 p1 p2 p3 S Q) ∧ (¬ (¬ p3 = (5 : Int32)) → (zs_K S p0 = some (.inl 8) ∧ ∃ b3, (zs_R S 8100 p0) = some b3 ∧ zs_A S b3 0 p4 ∧ ((¬ (zs_i S b3 p4.toNatClampNeg) = 0 → w_X9_simpleStatement_163 X d p0 p1 p2 p3 S Q) ∧ (¬ (¬ (zs_i S b3 p4.toNatClampNeg) = 0) → (zs_C X d 8014 [.ref p0] S (zs_kV (fun S7 => (zs_K S7 p0 = some (.inl 8) ∧ zs_C X d 8063 [.ref p0, .int p4, .int p1, .int (0 : Int32)] S7 (zs_kV (fun S10 => (w_X9_simpleStatement_207 X d  S10 Q)) Q))) Q))))))))
theorem u_X9_simpleStatement_133 {σ : Nat → Nat} {n0 : Nat} {bf : ab_B} {d : Nat} {p0 : Nat} {p1 : Int32} {p2 : Int32} {p3 : Int32} {p4 : Int32} {S : zs_T} {Q : zs_Q} (hB : zt_B bf) (h : w_X9_simpleStatement_133 (zx σ n0 bf) d p0 p1 p2 p3 p4 S Q) : zs_U (zx σ n0 bf) d 8169 133 [(0, .ref p0), (1, .int p1), (2, .int p2), (3, .int p3), (4, .int p4)] [] S Q := by
  unfold w_X9_simpleStatement_133 at h
  refine zu_iload_n d_8169_133 rfl ?_
  refine zu_iconst d_8169_134 zi_5 ?_
  refine zu_cmpne (t := 163) d_8169_135 rfl (fun c1 => ?_) (fun c1 => ?_)
  · have h := h.1 c1
    exact (u_X9_simpleStatement_163 hB h).weak ⟨rfl, rfl, rfl, rfl, trivial⟩
  · have h := h.2 c1
    refine zu_aload_n d_8169_138 rfl (zs_ra _) ?_
    obtain ⟨k2, h⟩ := h
    refine zg_8_215 rfl d_8169_139 k2 ?_
    refine zu_iload d_8169_142 rfl ?_
    obtain ⟨b3, e4, h⟩ := h
    refine zs_stk1 (zs_rfe e4) ?_
    obtain ⟨k5, h⟩ := h
    refine zu_iald (k := 0) d_8169_144 rfl rfl k5 ?_
    refine zu_ifne (t := 163) d_8169_145 rfl (fun c6 => ?_) (fun c6 => ?_)
    · have h := h.1 c6
      exact (u_X9_simpleStatement_163 hB h).weak ⟨rfl, rfl, rfl, rfl, trivial⟩
    · have h := h.2 c6
      refine zu_aload_n d_8169_148 rfl (zs_ra _) ?_
      refine zc_8_538  hB rfl k2 d_8169_149 (Nat.le_of_ble_eq_true rfl) h (fun S7 h => ?_)
      refine zu_aload_n d_8169_152 rfl (zs_ra _) ?_
      refine zu_iload d_8169_153 rfl ?_
      refine zu_iload_n d_8169_155 rfl ?_
      refine zu_iconst d_8169_156 zi_0 ?_
      obtain ⟨k9, h⟩ := h
      refine zc_8_715 (x0 := p4) (x1 := p1) (x2 := (0 : Int32)) hB rfl k9 d_8169_157 (Nat.le_of_ble_eq_true rfl) h (fun S10 h => ?_)
      refine zu_goto (t := 207) d_8169_160 rfl ?_
      exact (u_X9_simpleStatement_207 hB h).weak trivial
def w_X9_simpleStatement_130 (X : zs_X) (d : Nat)  (S : zs_T) (Q : zs_Q) : Prop :=
  (w_X9_simpleStatement_207 X d  S Q)
theorem u_X9_simpleStatement_130 {σ : Nat → Nat} {n0 : Nat} {bf : ab_B} {d : Nat}  {S : zs_T} {Q : zs_Q} (hB : zt_B bf) (h : w_X9_simpleStatement_130 (zx σ n0 bf) d  S Q) : zs_U (zx σ n0 bf) d 8169 130 [] [] S Q := by
  unfold w_X9_simpleStatement_130 at h
  refine zu_goto (t := 207) d_8169_130 rfl ?_
  exact (u_X9_simpleStatement_207 hB h).weak trivial
def w_X9_simpleStatement_95 (X : zs_X) (d : Nat) (p0 : Nat) (p4 : Int32) (S : zs_T) (Q : zs_Q) : Prop :=
  (zs_K S p0 = some (.inl 8) ∧ zs_C X d 8014 [.ref p0] S (zs_kV (fun S2 => (zs_K S2 p0 = some (.inl 8) ∧ zs_C X d 8028 [.ref p0, .int (20 : Int32)] S2 (zs_kV (fun S5 => (zs_K S5 p0 = some (.inl 8) ∧ zs_C X d 8030 [.ref p0, .int (105 : Int32), .int p4, .int (zs_I S2 8007 p0), .int (0 : Int32)] S5 (zs_kV (fun S8 => (zs_K S8 p0 = some (.inl 8) ∧ zs_C X d 8030 [.ref p0, .int (2 : Int32), .int (0 : Int32), .int (0 : Int32), .int (0 : Int32)] S8 (zs_kV (fun S11 => w_X9_simpleStatement_130 X d  S11 Q) Q))) Q))) Q))) Q))
theorem u_X9_simpleStatement_95 {σ : Nat → Nat} {n0 : Nat} {bf : ab_B} {d : Nat} {p0 : Nat} {p4 : Int32} {S : zs_T} {Q : zs_Q} (hB : zt_B bf) (h : w_X9_simpleStatement_95 (zx σ n0 bf) d p0 p4 S Q) : zs_U (zx σ n0 bf) d 8169 95 [(0, .ref p0), (4, .int p4)] [] S Q := by
  unfold w_X9_simpleStatement_95 at h
  refine zu_aload_n d_8169_95 rfl (zs_ra _) ?_
  obtain ⟨k1, h⟩ := h
  refine zc_8_538  hB rfl k1 d_8169_96 (Nat.le_of_ble_eq_true rfl) h (fun S2 h => ?_)
  refine zu_aload_n d_8169_99 rfl (zs_ra _) ?_
  obtain ⟨k4, h⟩ := h
  refine zg_8_450 rfl d_8169_100 k4 ?_
  refine zu_istore d_8169_103 (zs_lt zq_8169 rfl) ?_
  refine zu_aload_n d_8169_105 rfl (zs_ra _) ?_
  refine zu_bipush d_8169_106 zj_20 ?_
  refine zc_8_746 (x0 := (20 : Int32)) hB rfl k4 d_8169_108 (Nat.le_of_ble_eq_true rfl) h (fun S5 h => ?_)
  refine zu_aload_n d_8169_111 rfl (zs_ra _) ?_
  refine zu_bipush d_8169_112 zj_105 ?_
  refine zu_iload d_8169_114 rfl ?_
  refine zu_iload d_8169_116 rfl ?_
  refine zu_iconst d_8169_118 zi_0 ?_
  obtain ⟨k7, h⟩ := h
  refine zc_8_649 (x0 := (105 : Int32)) (x1 := p4) (x2 := (zs_I S2 8007 p0)) (x3 := (0 : Int32)) hB rfl k7 d_8169_119 (Nat.le_of_ble_eq_true rfl) h (fun S8 h => ?_)
  refine zu_aload_n d_8169_122 rfl (zs_ra _) ?_
  refine zu_iconst d_8169_123 zi_2 ?_
  refine zu_iconst d_8169_124 zi_0 ?_
  refine zu_iconst d_8169_125 zi_0 ?_
  refine zu_iconst d_8169_126 zi_0 ?_
  obtain ⟨k10, h⟩ := h
  refine zc_8_649 (x0 := (2 : Int32)) (x1 := (0 : Int32)) (x2 := (0 : Int32)) (x3 := (0 : Int32)) hB rfl k10 d_8169_127 (Nat.le_of_ble_eq_true rfl) h (fun S11 h => ?_)
  exact (u_X9_simpleStatement_130 hB h).weak trivial
def w_X9_simpleStatement_40 (X : zs_X) (d : Nat) (p0 : Nat) (p1 : Int32) (p2 : Int32) (p3 : Int32) (q0 : Int32) (S : zs_T) (Q : zs_Q) : Prop :=
  (((p3 = (4 : Int32) → w_X9_simpleStatement_53 X d p0 p1 p2 S Q) ∧ (¬ (p3 = (4 : Int32)) → (((¬ p3 = (8 : Int32) → (((¬ p3 = (5 : Int32) → w_X9_simpleStatement_133 X d p0 p1 p2 p3 q0 S Q) ∧ (¬ (¬ p3 = (5 : Int32)) → (zs_K S p0 = some (.inl 8) ∧ ∃ b5, (zs_R S 8100 p0) = some b5 ∧ zs_A S b5 0 q0 ∧ (((zs_i S b5 q0.toNatClampNeg) ≤ 0 → w_X9_simpleStatement_133 X d p0 p1 p2 p3 q0 S Q) ∧ (¬ ((zs_i S b5 q0.toNatClampNeg) ≤ 0) → (((¬ q0 = (zs_I S 8113 p0) → w_X9_simpleStatement_133 X d p0 p1 p2 p3 q0 S Q) ∧ (¬ (¬ q0 = (zs_I S 8113 p0)) → w_X9_simpleStatement_95 X d p0 q0 S Q)))))))))) ∧ (¬ (¬ p3 = (8 : Int32)) → w_X9_simpleStatement_53 X d p0 p1 p2 S Q))))))
theorem u_X9_simpleStatement_40 {σ : Nat → Nat} {n0 : Nat} {bf : ab_B} {d : Nat} {p0 : Nat} {p1 : Int32} {p2 : Int32} {p3 : Int32} {q0 : Int32} {S : zs_T} {Q : zs_Q} (hB : zt_B bf) (h : w_X9_simpleStatement_40 (zx σ n0 bf) d p0 p1 p2 p3 q0 S Q) : zs_U (zx σ n0 bf) d 8169 40 [(0, .ref p0), (1, .int p1), (2, .int p2), (3, .int p3)] [.int q0] S Q := by
  unfold w_X9_simpleStatement_40 at h
  refine zu_istore d_8169_40 (zs_lt zq_8169 rfl) ?_
  refine zu_iload_n d_8169_42 rfl ?_
  refine zu_iconst d_8169_43 zi_4 ?_
  refine zu_cmpeq (t := 53) d_8169_44 rfl (fun c1 => ?_) (fun c1 => ?_)
  · have h := h.1 c1
    exact (u_X9_simpleStatement_53 hB h).weak ⟨rfl, rfl, rfl, trivial⟩
  · have h := h.2 c1
    refine zu_iload_n d_8169_47 rfl ?_
    refine zu_bipush d_8169_48 zj_8 ?_
    refine zu_cmpne (t := 71) d_8169_50 rfl (fun c2 => ?_) (fun c2 => ?_)
    · have h := h.1 c2
      refine zu_iload_n d_8169_71 rfl ?_
      refine zu_iconst d_8169_72 zi_5 ?_
      refine zu_cmpne (t := 133) d_8169_73 rfl (fun c3 => ?_) (fun c3 => ?_)
      · have h := h.1 c3
        exact (u_X9_simpleStatement_133 hB h).weak ⟨rfl, rfl, rfl, rfl, rfl, trivial⟩
      · have h := h.2 c3
        refine zu_aload_n d_8169_76 rfl (zs_ra _) ?_
        obtain ⟨k4, h⟩ := h
        refine zg_8_215 rfl d_8169_77 k4 ?_
        refine zu_iload d_8169_80 rfl ?_
        obtain ⟨b5, e6, h⟩ := h
        refine zs_stk1 (zs_rfe e6) ?_
        obtain ⟨k7, h⟩ := h
        refine zu_iald (k := 0) d_8169_82 rfl rfl k7 ?_
        refine zu_ifle (t := 133) d_8169_83 rfl (fun c8 => ?_) (fun c8 => ?_)
        · have h := h.1 c8
          exact (u_X9_simpleStatement_133 hB h).weak ⟨rfl, rfl, rfl, rfl, rfl, trivial⟩
        · have h := h.2 c8
          refine zu_iload d_8169_86 rfl ?_
          refine zu_aload_n d_8169_88 rfl (zs_ra _) ?_
          refine zg_8_722 rfl d_8169_89 k4 ?_
          refine zu_cmpne (t := 133) d_8169_92 rfl (fun c9 => ?_) (fun c9 => ?_)
          · have h := h.1 c9
            exact (u_X9_simpleStatement_133 hB h).weak ⟨rfl, rfl, rfl, rfl, rfl, trivial⟩
          · have h := h.2 c9
            exact (u_X9_simpleStatement_95 hB h).weak ⟨rfl, rfl, trivial⟩
    · have h := h.2 c2
      exact (u_X9_simpleStatement_53 hB h).weak ⟨rfl, rfl, rfl, trivial⟩
def w_X9_simpleStatement_24 (X : zs_X) (d : Nat) (p0 : Nat) (p1 : Int32) (p2 : Int32) (q0 : Int32) (S : zs_T) (Q : zs_Q) : Prop :=
  (((¬ q0 = (5 : Int32) → (w_X9_simpleStatement_40 X d p0 p1 p2 q0 (0 : Int32) S Q)) ∧ (¬ (¬ q0 = (5 : Int32)) → (zs_K S p0 = some (.inl 8) ∧ ∃ b3, (zs_R S 8027 p0) = some b3 ∧ zs_A S b3 0 p2 ∧ w_X9_simpleStatement_40 X d p0 p1 p2 q0 (zs_i S b3 p2.toNatClampNeg) S Q))))
theorem u_X9_simpleStatement_24 {σ : Nat → Nat} {n0 : Nat} {bf : ab_B} {d : Nat} {p0 : Nat} {p1 : Int32} {p2 : Int32} {q0 : Int32} {S : zs_T} {Q : zs_Q} (hB : zt_B bf) (h : w_X9_simpleStatement_24 (zx σ n0 bf) d p0 p1 p2 q0 S Q) : zs_U (zx σ n0 bf) d 8169 24 [(0, .ref p0), (1, .int p1), (2, .int p2)] [.int q0] S Q := by
  unfold w_X9_simpleStatement_24 at h
  refine zu_istore_n d_8169_24 (zs_lt zq_8169 rfl) ?_
  refine zu_iload_n d_8169_25 rfl ?_
  refine zu_iconst d_8169_26 zi_5 ?_
  refine zu_cmpne (t := 39) d_8169_27 rfl (fun c1 => ?_) (fun c1 => ?_)
  · have h := h.1 c1
    refine zu_iconst d_8169_39 zi_0 ?_
    exact (u_X9_simpleStatement_40 hB h).weak ⟨rfl, rfl, rfl, rfl, trivial⟩
  · have h := h.2 c1
    refine zu_aload_n d_8169_30 rfl (zs_ra _) ?_
    obtain ⟨k2, h⟩ := h
    refine zg_8_53 rfl d_8169_31 k2 ?_
    refine zu_iload_n d_8169_34 rfl ?_
    obtain ⟨b3, e4, h⟩ := h
    refine zs_stk1 (zs_rfe e4) ?_
    obtain ⟨k5, h⟩ := h
    refine zu_iald (k := 0) d_8169_35 rfl rfl k5 ?_
    refine zu_goto (t := 40) d_8169_36 rfl ?_
    exact (u_X9_simpleStatement_40 hB h).weak ⟨rfl, rfl, rfl, rfl, trivial⟩
def w_X9_simpleStatement (X : zs_X) (d : Nat) (p0 : Nat) (p1 : Int32) (S : zs_T) (Q : zs_Q) : Prop :=
  (zs_K S p0 = some (.inl 8) ∧ ∃ b2, (zs_R S 8019 p0) = some b2 ∧ zs_A S b2 0 (zs_I S 8009 p0) ∧ ((¬ (zs_i S b2 (zs_I S 8009 p0).toNatClampNeg) = 0 → (∃ b6, (zs_R S 8024 p0) = some b6 ∧ zs_A S b6 1 (zs_i S b2 (zs_I S 8009 p0).toNatClampNeg) ∧ w_X9_simpleStatement_24 X d p0 p1 (zs_i S b2 (zs_I S 8009 p0).toNatClampNeg) (zs_i S b6 (zs_i S b2 (zs_I S 8009 p0).toNatClampNeg).toNatClampNeg) S Q)) ∧ (¬ (¬ (zs_i S b2 (zs_I S 8009 p0).toNatClampNeg) = 0) → (w_X9_simpleStatement_24 X d p0 p1 (zs_i S b2 (zs_I S 8009 p0).toNatClampNeg) (0 : Int32) S Q))))
theorem u_X9_simpleStatement {σ : Nat → Nat} {n0 : Nat} {bf : ab_B} {d : Nat} {p0 : Nat} {p1 : Int32} {S : zs_T} {Q : zs_Q} (hB : zt_B bf) (hd : 1 ≤ d) (h : w_X9_simpleStatement (zx σ n0 bf) (d - 1) p0 p1 S Q) : zs_C (zx σ n0 bf) d 8169 [.ref p0, .int p1] S Q := by
  have hL : lv_args 0 [.ref p0, .int p1] = [(0, .ref p0), (1, .int p1)] := rfl
  refine zs_C.of1 (hB.2 8169 (by decide) (by decide)) hd (by rw [hL]; exact zs_sub_self _ (by exact ⟨rfl, rfl, trivial⟩)) ?_
  rw [hL]
  clear hL
  unfold w_X9_simpleStatement at h
  refine zu_aload_n d_8169_0 rfl (zs_ra _) ?_
  obtain ⟨k1, h⟩ := h
  refine zg_8_37 rfl d_8169_1 k1 ?_
  refine zu_aload_n d_8169_4 rfl (zs_ra _) ?_
  refine zg_8_494 rfl d_8169_5 k1 ?_
  obtain ⟨b2, e3, h⟩ := h
  refine zs_stk1 (zs_rfe e3) ?_
  obtain ⟨k4, h⟩ := h
  refine zu_iald (k := 0) d_8169_8 rfl rfl k4 ?_
  refine zu_istore_n d_8169_9 (zs_lt zq_8169 rfl) ?_
  refine zu_iload_n d_8169_10 rfl ?_
  refine zu_ifne (t := 18) d_8169_11 rfl (fun c5 => ?_) (fun c5 => ?_)
  · have h := h.1 c5
    refine zu_aload_n d_8169_18 rfl (zs_ra _) ?_
    refine zg_8_44 rfl d_8169_19 k1 ?_
    refine zu_iload_n d_8169_22 rfl ?_
    obtain ⟨b6, e7, h⟩ := h
    refine zs_stk1 (zs_rfe e7) ?_
    obtain ⟨k8, h⟩ := h
    refine zu_bald (k := 1) d_8169_23 rfl (Or.inl rfl) k8 ?_
    exact (u_X9_simpleStatement_24 hB h).weak ⟨rfl, rfl, rfl, trivial⟩
  · have h := h.2 c5
    refine zu_iconst d_8169_14 zi_0 ?_
    refine zu_goto (t := 24) d_8169_15 rfl ?_
    exact (u_X9_simpleStatement_24 hB h).weak ⟨rfl, rfl, rfl, trivial⟩
